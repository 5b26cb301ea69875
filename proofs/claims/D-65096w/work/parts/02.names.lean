set_option maxRecDepth 100000
/-! java/lang/Math -/
def RJ0 : String := "java/lang/Math"
abbrev cJ0_max : ByteArray := prog_70_method_65_code
def yJ0_max : MethodName := ⟨RJ0, "max", "(II)I"⟩
theorem q295 : (Jvm.Cond.initialized "java/lang/Math") ∈ lw_all := lw_g (lw_at lw_m1 69 rfl) rfl
theorem q2297 : (Jvm.Cond.static ({ cls := "java/lang/Math", name := "max", desc := "(II)I" } : Jvm.MethodName)) ∈ lw_all := lw_g (lw_at lw_m9 151 rfl) rfl
theorem q2298 : (Jvm.Cond.code ({ cls := "java/lang/Math", name := "max", desc := "(II)I" } : Jvm.MethodName) prog_70_method_65_code (2 : Nat) (Option.some Jvm.ClassFile.FieldType.int)) ∈ lw_all := lw_g (lw_at lw_m9 152 rfl) rfl
/-! java/lang/String -/
def RJ1 : String := "java/lang/String"
abbrev cJ1_length : ByteArray := prog_71_method_54_code
def yJ1_length : MethodName := ⟨RJ1, "length", "()I"⟩
abbrev cJ1_coder : ByteArray := prog_71_method_152_code
def yJ1_coder : MethodName := ⟨RJ1, "coder", "()B"⟩
abbrev cJ1_charAt : ByteArray := prog_71_method_56_code
def yJ1_charAt : MethodName := ⟨RJ1, "charAt", "(I)C"⟩
abbrev cJ1_isLatin1 : ByteArray := prog_71_method_154_code
def yJ1_isLatin1 : MethodName := ⟨RJ1, "isLatin1", "()Z"⟩
abbrev cJ1_checkIndex : ByteArray := prog_71_method_155_code
def yJ1_checkIndex : MethodName := ⟨RJ1, "checkIndex", "(II)V"⟩
theorem q296 : (Jvm.Cond.initialized "java/lang/String") ∈ lw_all := lw_g (lw_at lw_m1 70 rfl) rfl
theorem q2832 : (Jvm.Cond.instanceMethod ({ cls := "java/lang/String", name := "length", desc := "()I" } : Jvm.MethodName)) ∈ lw_all := lw_g (lw_at lw_m11 206 rfl) rfl
theorem q2833 : (Jvm.Cond.selects "java/lang/String" ({ cls := "java/lang/String", name := "length", desc := "()I" } : Jvm.MethodName) ({ cls := "java/lang/String", name := "length", desc := "()I" } : Jvm.MethodName)) ∈ lw_all := lw_g (lw_at lw_m11 207 rfl) rfl
theorem q2834 : (Jvm.Cond.code ({ cls := "java/lang/String", name := "length", desc := "()I" } : Jvm.MethodName) prog_71_method_54_code (1 : Nat) (Option.some Jvm.ClassFile.FieldType.int)) ∈ lw_all := lw_g (lw_at lw_m11 208 rfl) rfl
theorem q2835 : (Jvm.Cond.methodLink "java/lang/String" (335 : Nat) ({ cls := "java/lang/String", name := "coder", desc := "()B" } : Jvm.MethodName)) ∈ lw_all := lw_g (lw_at lw_m11 209 rfl) rfl
theorem q2836 : (Jvm.Cond.instanceMethod ({ cls := "java/lang/String", name := "coder", desc := "()B" } : Jvm.MethodName)) ∈ lw_all := lw_g (lw_at lw_m11 210 rfl) rfl
theorem q2837 : (Jvm.Cond.selects "java/lang/String" ({ cls := "java/lang/String", name := "coder", desc := "()B" } : Jvm.MethodName) ({ cls := "java/lang/String", name := "coder", desc := "()B" } : Jvm.MethodName)) ∈ lw_all := lw_g (lw_at lw_m11 211 rfl) rfl
theorem q2838 : (Jvm.Cond.code ({ cls := "java/lang/String", name := "coder", desc := "()B" } : Jvm.MethodName) prog_71_method_152_code (1 : Nat) (Option.some Jvm.ClassFile.FieldType.byte)) ∈ lw_all := lw_g (lw_at lw_m11 212 rfl) rfl
theorem q2839 : (Jvm.Cond.fieldLink "java/lang/String" (38 : Nat) "java/lang/String" "COMPACT_STRINGS" "Z") ∈ lw_all := lw_g (lw_at lw_m11 213 rfl) rfl
theorem q2840 : (Jvm.Cond.laysStatic "java/lang/String" "COMPACT_STRINGS" "Z") ∈ lw_tbl := lw_at lw_m11 214 rfl
theorem q2842 : (Jvm.Cond.instanceMethod ({ cls := "java/lang/String", name := "charAt", desc := "(I)C" } : Jvm.MethodName)) ∈ lw_all := lw_g (lw_at lw_m11 216 rfl) rfl
theorem q2843 : (Jvm.Cond.selects "java/lang/String" ({ cls := "java/lang/String", name := "charAt", desc := "(I)C" } : Jvm.MethodName) ({ cls := "java/lang/String", name := "charAt", desc := "(I)C" } : Jvm.MethodName)) ∈ lw_all := lw_g (lw_at lw_m11 217 rfl) rfl
theorem q2844 : (Jvm.Cond.code ({ cls := "java/lang/String", name := "charAt", desc := "(I)C" } : Jvm.MethodName) prog_71_method_56_code (2 : Nat) (Option.some Jvm.ClassFile.FieldType.char)) ∈ lw_all := lw_g (lw_at lw_m11 218 rfl) rfl
theorem q2845 : (Jvm.Cond.methodLink "java/lang/String" (492 : Nat) ({ cls := "java/lang/String", name := "isLatin1", desc := "()Z" } : Jvm.MethodName)) ∈ lw_all := lw_g (lw_at lw_m11 219 rfl) rfl
theorem q2846 : (Jvm.Cond.instanceMethod ({ cls := "java/lang/String", name := "isLatin1", desc := "()Z" } : Jvm.MethodName)) ∈ lw_all := lw_g (lw_at lw_m11 220 rfl) rfl
theorem q2847 : (Jvm.Cond.selects "java/lang/String" ({ cls := "java/lang/String", name := "isLatin1", desc := "()Z" } : Jvm.MethodName) ({ cls := "java/lang/String", name := "isLatin1", desc := "()Z" } : Jvm.MethodName)) ∈ lw_all := lw_g (lw_at lw_m11 221 rfl) rfl
theorem q2848 : (Jvm.Cond.code ({ cls := "java/lang/String", name := "isLatin1", desc := "()Z" } : Jvm.MethodName) prog_71_method_154_code (1 : Nat) (Option.some Jvm.ClassFile.FieldType.boolean)) ∈ lw_all := lw_g (lw_at lw_m11 222 rfl) rfl
theorem q2849 : (Jvm.Cond.methodLink "java/lang/String" (495 : Nat) ({ cls := "java/lang/StringLatin1", name := "charAt", desc := "([BI)C" } : Jvm.MethodName)) ∈ lw_all := lw_g (lw_at lw_m11 223 rfl) rfl
theorem q2853 : (Jvm.Cond.static ({ cls := "java/lang/String", name := "checkIndex", desc := "(II)V" } : Jvm.MethodName)) ∈ lw_all := lw_g (lw_at lw_m11 227 rfl) rfl
theorem q2854 : (Jvm.Cond.code ({ cls := "java/lang/String", name := "checkIndex", desc := "(II)V" } : Jvm.MethodName) prog_71_method_155_code (2 : Nat) (Option.none : Option Jvm.ClassFile.FieldType)) ∈ lw_all := lw_g (lw_at lw_m11 228 rfl) rfl
theorem q2855 : (Jvm.Cond.fieldLink "java/lang/String" (1053 : Nat) "jdk/internal/util/Preconditions" "SIOOBE_FORMATTER" "Ljava/util/function/BiFunction;") ∈ lw_all := lw_g (lw_at lw_m11 229 rfl) rfl
theorem q2857 : (Jvm.Cond.methodLink "java/lang/String" (1059 : Nat) ({ cls := "jdk/internal/util/Preconditions", name := "checkIndex", desc := "(IILjava/util/function/BiFunction;)I" } : Jvm.MethodName)) ∈ lw_all := lw_g (lw_at lw_m11 231 rfl) rfl
theorem q2860 : (Jvm.Cond.methodLink "java/lang/String" (498 : Nat) ({ cls := "java/lang/StringUTF16", name := "charAt", desc := "([BI)C" } : Jvm.MethodName)) ∈ lw_all := lw_g (lw_at lw_m11 234 rfl) rfl
theorem q4465 : (Jvm.Cond.fieldLink "java/lang/String" (9 : Nat) "java/lang/String" "value" "[B") ∈ lw_all := lw_g (lw_at lw_m18 159 rfl) rfl
theorem q4466 : (Jvm.Cond.fieldLink "java/lang/String" (15 : Nat) "java/lang/String" "coder" "B") ∈ lw_all := lw_g (lw_at lw_m18 160 rfl) rfl
/-! java/lang/StringLatin1 -/
def RJ2 : String := "java/lang/StringLatin1"
abbrev cJ2_charAt : ByteArray := prog_72_method_2_code
def yJ2_charAt : MethodName := ⟨RJ2, "charAt", "([BI)C"⟩
theorem q297 : (Jvm.Cond.initialized "java/lang/StringLatin1") ∈ lw_all := lw_g (lw_at lw_m1 71 rfl) rfl
theorem q2850 : (Jvm.Cond.static ({ cls := "java/lang/StringLatin1", name := "charAt", desc := "([BI)C" } : Jvm.MethodName)) ∈ lw_all := lw_g (lw_at lw_m11 224 rfl) rfl
theorem q2851 : (Jvm.Cond.code ({ cls := "java/lang/StringLatin1", name := "charAt", desc := "([BI)C" } : Jvm.MethodName) prog_72_method_2_code (2 : Nat) (Option.some Jvm.ClassFile.FieldType.char)) ∈ lw_all := lw_g (lw_at lw_m11 225 rfl) rfl
theorem q2852 : (Jvm.Cond.methodLink "java/lang/StringLatin1" (9 : Nat) ({ cls := "java/lang/String", name := "checkIndex", desc := "(II)V" } : Jvm.MethodName)) ∈ lw_all := lw_g (lw_at lw_m11 226 rfl) rfl
/-! jdk/internal/util/Preconditions -/
def RJ3 : String := "jdk/internal/util/Preconditions"
abbrev cJ3_checkIndex : ByteArray := prog_74_method_11_code
def yJ3_checkIndex : MethodName := ⟨RJ3, "checkIndex", "(IILjava/util/function/BiFunction;)I"⟩
theorem q298 : (Jvm.Cond.initialized "jdk/internal/util/Preconditions") ∈ lw_all := lw_g (lw_at lw_m1 72 rfl) rfl
theorem q2856 : (Jvm.Cond.laysStatic "jdk/internal/util/Preconditions" "SIOOBE_FORMATTER" "Ljava/util/function/BiFunction;") ∈ lw_tbl := lw_at lw_m11 230 rfl
theorem q2858 : (Jvm.Cond.static ({ cls := "jdk/internal/util/Preconditions", name := "checkIndex", desc := "(IILjava/util/function/BiFunction;)I" } : Jvm.MethodName)) ∈ lw_all := lw_g (lw_at lw_m11 232 rfl) rfl
theorem q2859 : (Jvm.Cond.code ({ cls := "jdk/internal/util/Preconditions", name := "checkIndex", desc := "(IILjava/util/function/BiFunction;)I" } : Jvm.MethodName) prog_74_method_11_code (3 : Nat) (Option.some Jvm.ClassFile.FieldType.int)) ∈ lw_all := lw_g (lw_at lw_m11 233 rfl) rfl
/-! java/lang/StringUTF16 -/
def RJ4 : String := "java/lang/StringUTF16"
abbrev cJ4_charAt : ByteArray := prog_73_method_83_code
def yJ4_charAt : MethodName := ⟨RJ4, "charAt", "([BI)C"⟩
abbrev cJ4_checkIndex : ByteArray := prog_73_method_91_code
def yJ4_checkIndex : MethodName := ⟨RJ4, "checkIndex", "(I[B)V"⟩
abbrev cJ4_length : ByteArray := prog_73_method_6_code
def yJ4_length : MethodName := ⟨RJ4, "length", "([B)I"⟩
abbrev cJ4_getChar : ByteArray := prog_73_method_5_code
def yJ4_getChar : MethodName := ⟨RJ4, "getChar", "([BI)C"⟩
theorem q299 : (Jvm.Cond.initialized "java/lang/StringUTF16") ∈ lw_all := lw_g (lw_at lw_m1 73 rfl) rfl
theorem q2861 : (Jvm.Cond.static ({ cls := "java/lang/StringUTF16", name := "charAt", desc := "([BI)C" } : Jvm.MethodName)) ∈ lw_all := lw_g (lw_at lw_m11 235 rfl) rfl
theorem q2862 : (Jvm.Cond.code ({ cls := "java/lang/StringUTF16", name := "charAt", desc := "([BI)C" } : Jvm.MethodName) prog_73_method_83_code (2 : Nat) (Option.some Jvm.ClassFile.FieldType.char)) ∈ lw_all := lw_g (lw_at lw_m11 236 rfl) rfl
theorem q2863 : (Jvm.Cond.methodLink "java/lang/StringUTF16" (67 : Nat) ({ cls := "java/lang/StringUTF16", name := "checkIndex", desc := "(I[B)V" } : Jvm.MethodName)) ∈ lw_all := lw_g (lw_at lw_m11 237 rfl) rfl
theorem q2864 : (Jvm.Cond.static ({ cls := "java/lang/StringUTF16", name := "checkIndex", desc := "(I[B)V" } : Jvm.MethodName)) ∈ lw_all := lw_g (lw_at lw_m11 238 rfl) rfl
theorem q2865 : (Jvm.Cond.code ({ cls := "java/lang/StringUTF16", name := "checkIndex", desc := "(I[B)V" } : Jvm.MethodName) prog_73_method_91_code (2 : Nat) (Option.none : Option Jvm.ClassFile.FieldType)) ∈ lw_all := lw_g (lw_at lw_m11 239 rfl) rfl
theorem q2866 : (Jvm.Cond.methodLink "java/lang/StringUTF16" (48 : Nat) ({ cls := "java/lang/StringUTF16", name := "length", desc := "([B)I" } : Jvm.MethodName)) ∈ lw_all := lw_g (lw_at lw_m12 0 rfl) rfl
theorem q2867 : (Jvm.Cond.static ({ cls := "java/lang/StringUTF16", name := "length", desc := "([B)I" } : Jvm.MethodName)) ∈ lw_all := lw_g (lw_at lw_m12 1 rfl) rfl
theorem q2868 : (Jvm.Cond.code ({ cls := "java/lang/StringUTF16", name := "length", desc := "([B)I" } : Jvm.MethodName) prog_73_method_6_code (1 : Nat) (Option.some Jvm.ClassFile.FieldType.int)) ∈ lw_all := lw_g (lw_at lw_m12 2 rfl) rfl
theorem q2869 : (Jvm.Cond.methodLink "java/lang/StringUTF16" (414 : Nat) ({ cls := "java/lang/String", name := "checkIndex", desc := "(II)V" } : Jvm.MethodName)) ∈ lw_all := lw_g (lw_at lw_m12 3 rfl) rfl
theorem q2870 : (Jvm.Cond.methodLink "java/lang/StringUTF16" (71 : Nat) ({ cls := "java/lang/StringUTF16", name := "getChar", desc := "([BI)C" } : Jvm.MethodName)) ∈ lw_all := lw_g (lw_at lw_m12 4 rfl) rfl
theorem q2871 : (Jvm.Cond.static ({ cls := "java/lang/StringUTF16", name := "getChar", desc := "([BI)C" } : Jvm.MethodName)) ∈ lw_all := lw_g (lw_at lw_m12 5 rfl) rfl
theorem q2872 : (Jvm.Cond.code ({ cls := "java/lang/StringUTF16", name := "getChar", desc := "([BI)C" } : Jvm.MethodName) prog_73_method_5_code (2 : Nat) (Option.some Jvm.ClassFile.FieldType.char)) ∈ lw_all := lw_g (lw_at lw_m12 6 rfl) rfl
theorem q2873 : (Jvm.Cond.fieldLink "java/lang/StringUTF16" (44 : Nat) "java/lang/StringUTF16" "$assertionsDisabled" "Z") ∈ lw_all := lw_g (lw_at lw_m12 7 rfl) rfl
theorem q2874 : (Jvm.Cond.laysStatic "java/lang/StringUTF16" "$assertionsDisabled" "Z") ∈ lw_tbl := lw_at lw_m12 8 rfl
theorem q2875 : (Jvm.Cond.fieldLink "java/lang/StringUTF16" (59 : Nat) "java/lang/StringUTF16" "HI_BYTE_SHIFT" "I") ∈ lw_all := lw_g (lw_at lw_m12 9 rfl) rfl
theorem q2876 : (Jvm.Cond.laysStatic "java/lang/StringUTF16" "HI_BYTE_SHIFT" "I") ∈ lw_tbl := lw_at lw_m12 10 rfl
theorem q2877 : (Jvm.Cond.fieldLink "java/lang/StringUTF16" (63 : Nat) "java/lang/StringUTF16" "LO_BYTE_SHIFT" "I") ∈ lw_all := lw_g (lw_at lw_m12 11 rfl) rfl
theorem q2878 : (Jvm.Cond.laysStatic "java/lang/StringUTF16" "LO_BYTE_SHIFT" "I") ∈ lw_tbl := lw_at lw_m12 12 rfl
/-! java/lang/Object -/
def RJ5 : String := "java/lang/Object"
abbrev cJ5_init : ByteArray := object_method_1_code
def yJ5_init : MethodName := ⟨RJ5, "<init>", "()V"⟩
theorem q306 : (Jvm.Cond.instanceMethod ({ cls := "java/lang/Object", name := "<init>", desc := "()V" } : Jvm.MethodName)) ∈ lw_all := lw_g (lw_at lw_m1 80 rfl) rfl
theorem q307 : (Jvm.Cond.code ({ cls := "java/lang/Object", name := "<init>", desc := "()V" } : Jvm.MethodName) object_method_1_code (1 : Nat) (Option.none : Option Jvm.ClassFile.FieldType)) ∈ lw_all := lw_g (lw_at lw_m1 81 rfl) rfl
/-! RingHouse -/
def RX0 : String := "RingHouse"
def TX0 : u_T := fun k => match k with
  | 0 => ("RingHouse", "tree", "LRingHouse$Tree;", true)
  | 1 => ("RingHouse", "processes", "[LRingHouse$Process;", true)
  | 2 => ("RingHouse", "machine", "LRingHouse$Machine;", true)
  | 3 => ("RingHouse", "assembler", "LRingHouse$Assembler;", true)
  | 4 => ("RingHouse", "tape", "LRingHouse$Tape;", true)
  | 5 => ("RingHouse", "lister", "LRingHouse$Lister;", true)
  | 6 => ("RingHouse", "listed", "LRingHouse$Decoded;", true)
  | 7 => ("RingHouse", "slots", "[I", true)
  | 8 => ("RingHouse", "turn", "I", false)
  | _ => ("RingHouse", "toldPlace", "I", false)
def tyX0 : Nat → FieldType := fun k => match k with
  | 0 => .object "RingHouse$Tree"
  | 1 => .array (.object "RingHouse$Process")
  | 2 => .object "RingHouse$Machine"
  | 3 => .object "RingHouse$Assembler"
  | 4 => .object "RingHouse$Tape"
  | 5 => .object "RingHouse$Lister"
  | 6 => .object "RingHouse$Decoded"
  | 7 => .array .int
  | 8 => .int
  | _ => .int
abbrev wsX00 : List Cond := u_ws RX0 TX0 10
theorem nmX0 : ∀ a, a < 10 → ∀ b, b < 10 → a ≠ b → (TX0 a).2.1 ≠ (TX0 b).2.1 := by decide +kernel
theorem tyX0_ok : ∀ k, k < 10 → parseFieldDescriptor (TX0 k).2.2.1 = some (tyX0 k) := by decide +kernel
abbrev cX0_init : ByteArray := prog_1_method_18_code
def yX0_init : MethodName := ⟨RX0, "<init>", "()V"⟩
abbrev cX0_directory : ByteArray := prog_1_method_20_code
def yX0_directory : MethodName := ⟨RX0, "directory", "(IJII)I"⟩
abbrev cX0_isIn : ByteArray := prog_1_method_4_code
def yX0_isIn : MethodName := ⟨RX0, "isIn", "(JJJ)Z"⟩
abbrev cX0_isName : ByteArray := prog_1_method_5_code
def yX0_isName : MethodName := ⟨RX0, "isName", "(J)Z"⟩
abbrev cX0_isWord : ByteArray := prog_1_method_2_code
def yX0_isWord : MethodName := ⟨RX0, "isWord", "(J)Z"⟩
abbrev cX0_isLabel : ByteArray := prog_1_method_7_code
def yX0_isLabel : MethodName := ⟨RX0, "isLabel", "(J)Z"⟩
abbrev cX0_isRightLimit : ByteArray := prog_1_method_16_code
def yX0_isRightLimit : MethodName := ⟨RX0, "isRightLimit", "(III)Z"⟩
abbrev cX0_dominates : ByteArray := prog_1_method_6_code
def yX0_dominates : MethodName := ⟨RX0, "dominates", "(II)Z"⟩
abbrev cX0_records : ByteArray := prog_1_method_14_code
def yX0_records : MethodName := ⟨RX0, "records", "(I)I"⟩
abbrev cX0_segment : ByteArray := prog_1_method_21_code
def yX0_segment : MethodName := ⟨RX0, "segment", "(IJI)I"⟩
abbrev cX0_mailbox : ByteArray := prog_1_method_22_code
def yX0_mailbox : MethodName := ⟨RX0, "mailbox", "(IJ)I"⟩
abbrev cX0_initial : ByteArray := prog_1_method_23_code
def yX0_initial : MethodName := ⟨RX0, "initial", "(IIIII)I"⟩
abbrev cX0_item : ByteArray := prog_1_method_24_code
def yX0_item : MethodName := ⟨RX0, "item", "(IIII)I"⟩
abbrev cX0_brackets : ByteArray := prog_1_method_25_code
def yX0_brackets : MethodName := ⟨RX0, "brackets", "(IIIII)I"⟩
abbrev cX0_areBrackets : ByteArray := prog_1_method_15_code
def yX0_areBrackets : MethodName := ⟨RX0, "areBrackets", "(III)Z"⟩
abbrev cX0_length : ByteArray := prog_1_method_26_code
def yX0_length : MethodName := ⟨RX0, "length", "(II)I"⟩
abbrev cX0_limit : ByteArray := prog_1_method_27_code
def yX0_limit : MethodName := ⟨RX0, "limit", "(II)I"⟩
abbrev cX0_rename : ByteArray := prog_1_method_28_code
def yX0_rename : MethodName := ⟨RX0, "rename", "(IJ)I"⟩
abbrev cX0_remove : ByteArray := prog_1_method_29_code
def yX0_remove : MethodName := ⟨RX0, "remove", "(I)I"⟩
abbrev cX0_find : ByteArray := prog_1_method_30_code
def yX0_find : MethodName := ⟨RX0, "find", "(IJ)I"⟩
abbrev cX0_about : ByteArray := prog_1_method_31_code
def yX0_about : MethodName := ⟨RX0, "about", "(II)J"⟩
abbrev cX0_modes : ByteArray := prog_1_method_32_code
def yX0_modes : MethodName := ⟨RX0, "modes", "(III)I"⟩
abbrev cX0_word : ByteArray := prog_1_method_34_code
def yX0_word : MethodName := ⟨RX0, "word", "(II)J"⟩
abbrev cX0_hasPlace : ByteArray := prog_1_method_33_code
def yX0_hasPlace : MethodName := ⟨RX0, "hasPlace", "(LRingHouse$Node;I)Z"⟩
abbrev cX0_put : ByteArray := prog_1_method_35_code
def yX0_put : MethodName := ⟨RX0, "put", "(IIJ)J"⟩
abbrev cX0_letter : ByteArray := prog_1_method_36_code
def yX0_letter : MethodName := ⟨RX0, "letter", "(III)J"⟩
abbrev cX0_audit : ByteArray := prog_1_method_37_code
def yX0_audit : MethodName := ⟨RX0, "audit", "(II)I"⟩
abbrev cX0_login : ByteArray := prog_1_method_38_code
def yX0_login : MethodName := ⟨RX0, "login", "(IIIIII)I"⟩
abbrev cX0_isHalf : ByteArray := prog_1_method_3_code
def yX0_isHalf : MethodName := ⟨RX0, "isHalf", "(J)Z"⟩
abbrev cX0_logout : ByteArray := prog_1_method_39_code
def yX0_logout : MethodName := ⟨RX0, "logout", "(I)I"⟩
abbrev cX0_processAt : ByteArray := prog_1_method_19_code
def yX0_processAt : MethodName := ⟨RX0, "processAt", "(I)LRingHouse$Process;"⟩
abbrev cX0_send : ByteArray := prog_1_method_40_code
def yX0_send : MethodName := ⟨RX0, "send", "(IJ)I"⟩
abbrev cX0_tick : ByteArray := prog_1_method_41_code
def yX0_tick : MethodName := ⟨RX0, "tick", "(II)I"⟩
abbrev cX0_pointerWord : ByteArray := prog_1_method_9_code
def yX0_pointerWord : MethodName := ⟨RX0, "pointerWord", "(III)J"⟩
abbrev cX0_isPointer : ByteArray := prog_1_method_8_code
def yX0_isPointer : MethodName := ⟨RX0, "isPointer", "(J)Z"⟩
abbrev cX0_numberOf : ByteArray := prog_1_method_11_code
def yX0_numberOf : MethodName := ⟨RX0, "numberOf", "(J)I"⟩
abbrev cX0_placeOf : ByteArray := prog_1_method_12_code
def yX0_placeOf : MethodName := ⟨RX0, "placeOf", "(J)I"⟩
abbrev cX0_ringOf : ByteArray := prog_1_method_10_code
def yX0_ringOf : MethodName := ⟨RX0, "ringOf", "(J)I"⟩
abbrev cX0_isChained : ByteArray := prog_1_method_13_code
def yX0_isChained : MethodName := ⟨RX0, "isChained", "(J)Z"⟩
abbrev cX0_signed : ByteArray := prog_1_method_1_code
def yX0_signed : MethodName := ⟨RX0, "signed", "(J)J"⟩
abbrev cX0_schedule : ByteArray := prog_1_method_42_code
def yX0_schedule : MethodName := ⟨RX0, "schedule", "(II)I"⟩
abbrev cX0_run : ByteArray := prog_1_method_43_code
def yX0_run : MethodName := ⟨RX0, "run", "(I)I"⟩
abbrev cX0_register : ByteArray := prog_1_method_44_code
def yX0_register : MethodName := ⟨RX0, "register", "(II)J"⟩
abbrev cX0_process : ByteArray := prog_1_method_45_code
def yX0_process : MethodName := ⟨RX0, "process", "(II)I"⟩
abbrev cX0_stack : ByteArray := prog_1_method_46_code
def yX0_stack : MethodName := ⟨RX0, "stack", "(III)J"⟩
abbrev cX0_known : ByteArray := prog_1_method_47_code
def yX0_known : MethodName := ⟨RX0, "known", "(II)I"⟩
abbrev cX0_link : ByteArray := prog_1_method_48_code
def yX0_link : MethodName := ⟨RX0, "link", "(III)J"⟩
abbrev cX0_event : ByteArray := prog_1_method_49_code
def yX0_event : MethodName := ⟨RX0, "event", "(III)J"⟩
abbrev cX0_sum : ByteArray := prog_1_method_50_code
def yX0_sum : MethodName := ⟨RX0, "sum", "(I)J"⟩
abbrev cX0_type : ByteArray := prog_1_method_51_code
def yX0_type : MethodName := ⟨RX0, "type", "(JI)I"⟩
abbrev cX0_assemble : ByteArray := prog_1_method_52_code
def yX0_assemble : MethodName := ⟨RX0, "assemble", "(I)I"⟩
abbrev cX0_sign : ByteArray := prog_1_method_17_code
def yX0_sign : MethodName := ⟨RX0, "sign", "(I)I"⟩
abbrev cX0_place : ByteArray := prog_1_method_53_code
def yX0_place : MethodName := ⟨RX0, "place", "()I"⟩
abbrev cX0_list : ByteArray := prog_1_method_54_code
def yX0_list : MethodName := ⟨RX0, "list", "(J)I"⟩
abbrev cX0_listed : ByteArray := prog_1_method_55_code
def yX0_listed : MethodName := ⟨RX0, "listed", "(I)I"⟩
abbrev cX0_dump : ByteArray := prog_1_method_56_code
def yX0_dump : MethodName := ⟨RX0, "dump", "(I)I"⟩
abbrev cX0_tape : ByteArray := prog_1_method_57_code
def yX0_tape : MethodName := ⟨RX0, "tape", "(I)I"⟩
abbrev cX0_alter : ByteArray := prog_1_method_58_code
def yX0_alter : MethodName := ⟨RX0, "alter", "(II)I"⟩
abbrev cX0_cut : ByteArray := prog_1_method_59_code
def yX0_cut : MethodName := ⟨RX0, "cut", "(I)I"⟩
abbrev cX0_reload : ByteArray := prog_1_method_60_code
def yX0_reload : MethodName := ⟨RX0, "reload", "(IJ)I"⟩
abbrev cX0_count : ByteArray := prog_1_method_61_code
def yX0_count : MethodName := ⟨RX0, "count", "(I)I"⟩
theorem q227 : (Jvm.Cond.initialized "RingHouse") ∈ lw_all := lw_g (lw_at lw_m1 1 rfl) rfl
theorem q301 : (Jvm.Cond.instantiable "RingHouse" (10 : Nat)) ∈ lw_all := lw_g (lw_at lw_m1 75 rfl) rfl
theorem q303 : (Jvm.Cond.instanceMethod ({ cls := "RingHouse", name := "<init>", desc := "()V" } : Jvm.MethodName)) ∈ lw_all := lw_g (lw_at lw_m1 77 rfl) rfl
theorem q304 : (Jvm.Cond.code ({ cls := "RingHouse", name := "<init>", desc := "()V" } : Jvm.MethodName) prog_1_method_18_code (2 : Nat) (Option.none : Option Jvm.ClassFile.FieldType)) ∈ lw_all := lw_g (lw_at lw_m1 78 rfl) rfl
theorem q305 : (Jvm.Cond.methodLink "RingHouse" (33 : Nat) ({ cls := "java/lang/Object", name := "<init>", desc := "()V" } : Jvm.MethodName)) ∈ lw_all := lw_g (lw_at lw_m1 79 rfl) rfl
theorem q308 : (Jvm.Cond.classLink "RingHouse" (39 : Nat) "RingHouse$Tree") ∈ lw_all := lw_g (lw_at lw_m1 82 rfl) rfl
theorem q310 : (Jvm.Cond.methodLink "RingHouse" (41 : Nat) ({ cls := "RingHouse$Tree", name := "<init>", desc := "()V" } : Jvm.MethodName)) ∈ lw_all := lw_g (lw_at lw_m1 84 rfl) rfl
theorem q363 : (Jvm.Cond.fieldLinkNest "RingHouse" (164 : Nat) "RingHouse$Acl" "items" "I" "RingHouse") ∈ lw_tbl := lw_at lw_m1 137 rfl
theorem q376 : (Jvm.Cond.fieldLinkNest "RingHouse" (231 : Nat) "RingHouse$Node" "number" "I" "RingHouse") ∈ lw_tbl := lw_at lw_m1 150 rfl
theorem q381 : (Jvm.Cond.fieldLinkNest "RingHouse" (236 : Nat) "RingHouse$Node" "kind" "I" "RingHouse") ∈ lw_tbl := lw_at lw_m1 155 rfl
theorem q387 : (Jvm.Cond.fieldLinkNest "RingHouse" (257 : Nat) "RingHouse$Node" "name" "J" "RingHouse") ∈ lw_tbl := lw_at lw_m1 161 rfl
theorem q394 : (Jvm.Cond.fieldLinkNest "RingHouse" (125 : Nat) "RingHouse$Node" "label" "I" "RingHouse") ∈ lw_tbl := lw_at lw_m1 168 rfl
theorem q401 : (Jvm.Cond.fieldLinkNest "RingHouse" (214 : Nat) "RingHouse$Node" "parent" "LRingHouse$Node;" "RingHouse") ∈ lw_tbl := lw_at lw_m1 175 rfl
theorem q415 : (Jvm.Cond.fieldLinkNest "RingHouse" (170 : Nat) "RingHouse$Node" "acl" "LRingHouse$Acl;" "RingHouse") ∈ lw_tbl := lw_at lw_m1 189 rfl
theorem q427 : (Jvm.Cond.fieldLinkNest "RingHouse" (239 : Nat) "RingHouse$Node" "r1" "I" "RingHouse") ∈ lw_tbl := lw_at lw_m1 201 rfl
theorem q433 : (Jvm.Cond.fieldLinkNest "RingHouse" (242 : Nat) "RingHouse$Node" "r2" "I" "RingHouse") ∈ lw_tbl := lw_at lw_m1 207 rfl
theorem q438 : (Jvm.Cond.fieldLinkNest "RingHouse" (245 : Nat) "RingHouse$Node" "r3" "I" "RingHouse") ∈ lw_tbl := lw_at lw_m1 212 rfl
theorem q441 : (Jvm.Cond.fieldLinkNest "RingHouse" (254 : Nat) "RingHouse$Node" "denials" "I" "RingHouse") ∈ lw_tbl := lw_at lw_m1 215 rfl
theorem q450 : (Jvm.Cond.fieldLinkNest "RingHouse" (251 : Nat) "RingHouse$Node" "entries" "I" "RingHouse") ∈ lw_tbl := lw_at lw_m1 224 rfl
theorem q455 : (Jvm.Cond.fieldLinkNest "RingHouse" (205 : Nat) "RingHouse$Node" "limit" "I" "RingHouse") ∈ lw_tbl := lw_at lw_m1 229 rfl
theorem q458 : (Jvm.Cond.fieldLinkNest "RingHouse" (248 : Nat) "RingHouse$Node" "used" "I" "RingHouse") ∈ lw_tbl := lw_at lw_m1 232 rfl
theorem q461 : (Jvm.Cond.fieldLinkNest "RingHouse" (276 : Nat) "RingHouse$Node" "forSegments" "LRingHouse$Acl;" "RingHouse") ∈ lw_tbl := lw_at lw_m1 235 rfl
theorem q464 : (Jvm.Cond.fieldLinkNest "RingHouse" (273 : Nat) "RingHouse$Node" "forDirectories" "LRingHouse$Acl;" "RingHouse") ∈ lw_tbl := lw_at lw_m1 238 rfl
theorem q469 : (Jvm.Cond.fieldLinkNest "RingHouse" (264 : Nat) "RingHouse$Node" "box" "LRingHouse$Box;" "RingHouse") ∈ lw_tbl := lw_at lw_m2 3 rfl
theorem q474 : (Jvm.Cond.fieldLinkNest "RingHouse" (188 : Nat) "RingHouse$Node" "gates" "I" "RingHouse") ∈ lw_tbl := lw_at lw_m2 8 rfl
theorem q480 : (Jvm.Cond.fieldLinkNest "RingHouse" (194 : Nat) "RingHouse$Node" "length" "I" "RingHouse") ∈ lw_tbl := lw_at lw_m2 14 rfl
theorem q541 : (Jvm.Cond.fieldLinkNest "RingHouse" (301 : Nat) "RingHouse$Box" "words" "[J" "RingHouse") ∈ lw_tbl := lw_at lw_m2 75 rfl
theorem q545 : (Jvm.Cond.fieldLinkNest "RingHouse" (305 : Nat) "RingHouse$Box" "labels" "[I" "RingHouse") ∈ lw_tbl := lw_at lw_m2 79 rfl
theorem q549 : (Jvm.Cond.fieldLinkNest "RingHouse" (268 : Nat) "RingHouse$Box" "letters" "I" "RingHouse") ∈ lw_tbl := lw_at lw_m2 83 rfl
theorem q591 : (Jvm.Cond.fieldLinkNest "RingHouse" (210 : Nat) "RingHouse$Tree" "index" "LRingHouse$Index;" "RingHouse") ∈ lw_tbl := lw_at lw_m2 125 rfl
theorem q598 : (Jvm.Cond.fieldLinkNest "RingHouse" (201 : Nat) "RingHouse$Tree" "root" "LRingHouse$Node;" "RingHouse") ∈ lw_tbl := lw_at lw_m2 132 rfl
theorem q600 : (Jvm.Cond.fieldLinkNest "RingHouse" (484 : Nat) "RingHouse$Tree" "many" "I" "RingHouse") ∈ lw_tbl := lw_at lw_m2 134 rfl
theorem q606 : (Jvm.Cond.fieldLinkNest "RingHouse" (174 : Nat) "RingHouse$Tree" "version" "I" "RingHouse") ∈ lw_tbl := lw_at lw_m2 140 rfl
theorem q608 : (Jvm.Cond.fieldLinkNest "RingHouse" (70 : Nat) "RingHouse$Tree" "processes" "[LRingHouse$Process;" "RingHouse") ∈ lw_tbl := lw_at lw_m2 142 rfl
theorem q628 : (Jvm.Cond.classLink "RingHouse" (46 : Nat) "RingHouse$Process") ∈ lw_all := lw_g (lw_at lw_m2 162 rfl) rfl
theorem q630 : (Jvm.Cond.classLink "RingHouse" (52 : Nat) "RingHouse$Decoded") ∈ lw_all := lw_g (lw_at lw_m2 164 rfl) rfl
theorem q632 : (Jvm.Cond.methodLinkNest "RingHouse" (54 : Nat) ({ cls := "RingHouse$Decoded", name := "<init>", desc := "()V" } : Jvm.MethodName) "RingHouse") ∈ lw_tbl := lw_at lw_m2 166 rfl
theorem q676 : (Jvm.Cond.methodLink "RingHouse" (67 : Nat) ({ cls := "RingHouse$Process", name := "<init>", desc := "(LRingHouse$Tree;I)V" } : Jvm.MethodName)) ∈ lw_all := lw_g (lw_at lw_m2 210 rfl) rfl
theorem q710 : (Jvm.Cond.fieldLinkNest "RingHouse" (370 : Nat) "RingHouse$Registers" "a" "J" "RingHouse") ∈ lw_tbl := lw_at lw_m3 4 rfl
theorem q732 : (Jvm.Cond.fieldLinkNest "RingHouse" (373 : Nat) "RingHouse$Registers" "q" "J" "RingHouse") ∈ lw_tbl := lw_at lw_m3 26 rfl
theorem q746 : (Jvm.Cond.fieldLinkNest "RingHouse" (359 : Nat) "RingHouse$Registers" "x" "[I" "RingHouse") ∈ lw_tbl := lw_at lw_m3 40 rfl
theorem q758 : (Jvm.Cond.fieldLinkNest "RingHouse" (376 : Nat) "RingHouse$Registers" "number" "I" "RingHouse") ∈ lw_tbl := lw_at lw_m3 52 rfl
theorem q763 : (Jvm.Cond.fieldLinkNest "RingHouse" (377 : Nat) "RingHouse$Registers" "place" "I" "RingHouse") ∈ lw_tbl := lw_at lw_m3 57 rfl
theorem q780 : (Jvm.Cond.fieldLinkNest "RingHouse" (380 : Nat) "RingHouse$Registers" "ring" "I" "RingHouse") ∈ lw_tbl := lw_at lw_m3 74 rfl
theorem q784 : (Jvm.Cond.fieldLinkNest "RingHouse" (383 : Nat) "RingHouse$Registers" "zero" "Z" "RingHouse") ∈ lw_tbl := lw_at lw_m3 78 rfl
theorem q788 : (Jvm.Cond.fieldLinkNest "RingHouse" (386 : Nat) "RingHouse$Registers" "minus" "Z" "RingHouse") ∈ lw_tbl := lw_at lw_m3 82 rfl
theorem q824 : (Jvm.Cond.fieldLinkNest "RingHouse" (445 : Nat) "RingHouse$Trace" "rows" "[J" "RingHouse") ∈ lw_tbl := lw_at lw_m3 118 rfl
theorem q826 : (Jvm.Cond.fieldLinkNest "RingHouse" (421 : Nat) "RingHouse$Trace" "many" "I" "RingHouse") ∈ lw_tbl := lw_at lw_m3 120 rfl
theorem q828 : (Jvm.Cond.fieldLinkNest "RingHouse" (447 : Nat) "RingHouse$Trace" "sum" "J" "RingHouse") ∈ lw_tbl := lw_at lw_m3 122 rfl
theorem q861 : (Jvm.Cond.fieldLinkNest "RingHouse" (111 : Nat) "RingHouse$Process" "lives" "Z" "RingHouse") ∈ lw_tbl := lw_at lw_m3 155 rfl
theorem q865 : (Jvm.Cond.fieldLinkNest "RingHouse" (395 : Nat) "RingHouse$Process" "state" "I" "RingHouse") ∈ lw_tbl := lw_at lw_m3 159 rfl
theorem q871 : (Jvm.Cond.fieldLinkNest "RingHouse" (398 : Nat) "RingHouse$Process" "person" "I" "RingHouse") ∈ lw_tbl := lw_at lw_m3 165 rfl
theorem q877 : (Jvm.Cond.fieldLinkNest "RingHouse" (401 : Nat) "RingHouse$Process" "project" "I" "RingHouse") ∈ lw_tbl := lw_at lw_m3 171 rfl
theorem q885 : (Jvm.Cond.fieldLinkNest "RingHouse" (404 : Nat) "RingHouse$Process" "label" "I" "RingHouse") ∈ lw_tbl := lw_at lw_m3 179 rfl
theorem q889 : (Jvm.Cond.fieldLinkNest "RingHouse" (405 : Nat) "RingHouse$Process" "ticks" "I" "RingHouse") ∈ lw_tbl := lw_at lw_m3 183 rfl
theorem q892 : (Jvm.Cond.fieldLinkNest "RingHouse" (355 : Nat) "RingHouse$Process" "now" "LRingHouse$Registers;" "RingHouse") ∈ lw_tbl := lw_at lw_m3 186 rfl
theorem q897 : (Jvm.Cond.fieldLinkNest "RingHouse" (408 : Nat) "RingHouse$Process" "framed" "I" "RingHouse") ∈ lw_tbl := lw_at lw_m3 191 rfl
theorem q900 : (Jvm.Cond.fieldLinkNest "RingHouse" (414 : Nat) "RingHouse$Process" "hasHandler" "Z" "RingHouse") ∈ lw_tbl := lw_at lw_m3 194 rfl
theorem q909 : (Jvm.Cond.fieldLinkNest "RingHouse" (426 : Nat) "RingHouse$Process" "stacks" "[J" "RingHouse") ∈ lw_tbl := lw_at lw_m3 203 rfl
theorem q914 : (Jvm.Cond.fieldLinkNest "RingHouse" (433 : Nat) "RingHouse$Process" "known" "[LRingHouse$Node;" "RingHouse") ∈ lw_tbl := lw_at lw_m3 208 rfl
theorem q918 : (Jvm.Cond.fieldLinkNest "RingHouse" (436 : Nat) "RingHouse$Process" "linked" "[I" "RingHouse") ∈ lw_tbl := lw_at lw_m3 212 rfl
theorem q921 : (Jvm.Cond.fieldLinkNest "RingHouse" (441 : Nat) "RingHouse$Process" "linkPlace" "[I" "RingHouse") ∈ lw_tbl := lw_at lw_m3 215 rfl
theorem q931 : (Jvm.Cond.fieldLinkNest "RingHouse" (411 : Nat) "RingHouse$Process" "work" "LRingHouse$Node;" "RingHouse") ∈ lw_tbl := lw_at lw_m3 225 rfl
theorem q935 : (Jvm.Cond.fieldLinkNest "RingHouse" (391 : Nat) "RingHouse$Process" "search" "[LRingHouse$Node;" "RingHouse") ∈ lw_tbl := lw_at lw_m3 229 rfl
theorem q941 : (Jvm.Cond.fieldLinkNest "RingHouse" (341 : Nat) "RingHouse$Process" "waiting" "I" "RingHouse") ∈ lw_tbl := lw_at lw_m3 235 rfl
theorem q943 : (Jvm.Cond.fieldLinkNest "RingHouse" (417 : Nat) "RingHouse$Process" "trace" "LRingHouse$Trace;" "RingHouse") ∈ lw_tbl := lw_at lw_m3 237 rfl
theorem q997 : (Jvm.Cond.classLink "RingHouse" (71 : Nat) "RingHouse$Machine") ∈ lw_all := lw_g (lw_at lw_m4 51 rfl) rfl
theorem q999 : (Jvm.Cond.methodLink "RingHouse" (73 : Nat) ({ cls := "RingHouse$Machine", name := "<init>", desc := "(LRingHouse$Tree;[LRingHouse$Process;)V" } : Jvm.MethodName)) ∈ lw_all := lw_g (lw_at lw_m4 53 rfl) rfl
theorem q1012 : (Jvm.Cond.fieldLinkNest "RingHouse" (320 : Nat) "RingHouse$Audit" "rows" "[I" "RingHouse") ∈ lw_tbl := lw_at lw_m4 66 rfl
theorem q1014 : (Jvm.Cond.fieldLinkNest "RingHouse" (485 : Nat) "RingHouse$Audit" "many" "I" "RingHouse") ∈ lw_tbl := lw_at lw_m4 68 rfl
theorem q1537 : (Jvm.Cond.fieldLinkNest "RingHouse" (82 : Nat) "RingHouse$Machine" "operations" "[LRingHouse$Operation;" "RingHouse") ∈ lw_tbl := lw_at lw_m6 111 rfl
theorem q1543 : (Jvm.Cond.fieldLinkNest "RingHouse" (308 : Nat) "RingHouse$Machine" "audit" "LRingHouse$Audit;" "RingHouse") ∈ lw_tbl := lw_at lw_m6 117 rfl
theorem q1621 : (Jvm.Cond.classLink "RingHouse" (80 : Nat) "RingHouse$Assembler") ∈ lw_all := lw_g (lw_at lw_m6 195 rfl) rfl
theorem q1623 : (Jvm.Cond.methodLink "RingHouse" (86 : Nat) ({ cls := "RingHouse$Assembler", name := "<init>", desc := "(LRingHouse$Tree;[LRingHouse$Operation;)V" } : Jvm.MethodName)) ∈ lw_all := lw_g (lw_at lw_m6 197 rfl) rfl
theorem q1630 : (Jvm.Cond.fieldLinkNest "RingHouse" (453 : Nat) "RingHouse$Assembler" "text" "[I" "RingHouse") ∈ lw_tbl := lw_at lw_m6 204 rfl
theorem q1632 : (Jvm.Cond.fieldLinkNest "RingHouse" (450 : Nat) "RingHouse$Assembler" "size" "I" "RingHouse") ∈ lw_tbl := lw_at lw_m6 206 rfl
theorem q1639 : (Jvm.Cond.fieldLinkNest "RingHouse" (459 : Nat) "RingHouse$Assembler" "faultPlace" "I" "RingHouse") ∈ lw_tbl := lw_at lw_m6 213 rfl
theorem q1706 : (Jvm.Cond.classLink "RingHouse" (93 : Nat) "RingHouse$Tape") ∈ lw_all := lw_g (lw_at lw_m7 40 rfl) rfl
theorem q1708 : (Jvm.Cond.methodLink "RingHouse" (95 : Nat) ({ cls := "RingHouse$Tape", name := "<init>", desc := "(LRingHouse$Tree;)V" } : Jvm.MethodName)) ∈ lw_all := lw_g (lw_at lw_m7 42 rfl) rfl
theorem q1715 : (Jvm.Cond.fieldLinkNest "RingHouse" (475 : Nat) "RingHouse$Tape" "bytes" "[B" "RingHouse") ∈ lw_tbl := lw_at lw_m7 49 rfl
theorem q1717 : (Jvm.Cond.fieldLinkNest "RingHouse" (474 : Nat) "RingHouse$Tape" "size" "I" "RingHouse") ∈ lw_tbl := lw_at lw_m7 51 rfl
theorem q1721 : (Jvm.Cond.fieldLinkNest "RingHouse" (483 : Nat) "RingHouse$Tape" "faultPlace" "I" "RingHouse") ∈ lw_tbl := lw_at lw_m7 55 rfl
theorem q1771 : (Jvm.Cond.classLink "RingHouse" (102 : Nat) "RingHouse$Lister") ∈ lw_all := lw_g (lw_at lw_m7 105 rfl) rfl
theorem q1773 : (Jvm.Cond.methodLink "RingHouse" (104 : Nat) ({ cls := "RingHouse$Lister", name := "<init>", desc := "([LRingHouse$Operation;)V" } : Jvm.MethodName)) ∈ lw_all := lw_g (lw_at lw_m7 107 rfl) rfl
theorem q1779 : (Jvm.Cond.fieldLinkNest "RingHouse" (467 : Nat) "RingHouse$Lister" "line" "[C" "RingHouse") ∈ lw_tbl := lw_at lw_m7 113 rfl
theorem q1781 : (Jvm.Cond.fieldLinkNest "RingHouse" (466 : Nat) "RingHouse$Lister" "size" "I" "RingHouse") ∈ lw_tbl := lw_at lw_m7 115 rfl
theorem q1790 : (Jvm.Cond.fieldLink "RingHouse" (42 : Nat) "RingHouse" "tree" "LRingHouse$Tree;") ∈ lw_all := lw_g (lw_at lw_m7 124 rfl) rfl
theorem q1791 : (Jvm.Cond.fieldLink "RingHouse" (48 : Nat) "RingHouse" "processes" "[LRingHouse$Process;") ∈ lw_all := lw_g (lw_at lw_m7 125 rfl) rfl
theorem q1792 : (Jvm.Cond.fieldLink "RingHouse" (76 : Nat) "RingHouse" "machine" "LRingHouse$Machine;") ∈ lw_all := lw_g (lw_at lw_m7 126 rfl) rfl
theorem q1793 : (Jvm.Cond.fieldLink "RingHouse" (89 : Nat) "RingHouse" "assembler" "LRingHouse$Assembler;") ∈ lw_all := lw_g (lw_at lw_m7 127 rfl) rfl
theorem q1794 : (Jvm.Cond.fieldLink "RingHouse" (98 : Nat) "RingHouse" "tape" "LRingHouse$Tape;") ∈ lw_all := lw_g (lw_at lw_m7 128 rfl) rfl
theorem q1795 : (Jvm.Cond.fieldLink "RingHouse" (107 : Nat) "RingHouse" "lister" "LRingHouse$Lister;") ∈ lw_all := lw_g (lw_at lw_m7 129 rfl) rfl
theorem q1796 : (Jvm.Cond.fieldLink "RingHouse" (55 : Nat) "RingHouse" "listed" "LRingHouse$Decoded;") ∈ lw_all := lw_g (lw_at lw_m7 130 rfl) rfl
theorem q1797 : (Jvm.Cond.fieldLink "RingHouse" (59 : Nat) "RingHouse" "slots" "[I") ∈ lw_all := lw_g (lw_at lw_m7 131 rfl) rfl
theorem q1798 : (Jvm.Cond.fieldLink "RingHouse" (352 : Nat) "RingHouse" "turn" "I") ∈ lw_all := lw_g (lw_at lw_m7 132 rfl) rfl
theorem q1799 : (Jvm.Cond.fieldLink "RingHouse" (63 : Nat) "RingHouse" "toldPlace" "I") ∈ lw_all := lw_g (lw_at lw_m7 133 rfl) rfl
theorem q1800 : (Jvm.Cond.laysFinal "RingHouse" "RingHouse" "tree" "LRingHouse$Tree;") ∈ lw_all := lw_g (lw_at lw_m7 134 rfl) rfl
theorem q1801 : (Jvm.Cond.soleField "RingHouse" "tree") ∈ lw_all := lw_g (lw_at lw_m7 135 rfl) rfl
theorem q1802 : (Jvm.Cond.laysFinal "RingHouse" "RingHouse" "processes" "[LRingHouse$Process;") ∈ lw_all := lw_g (lw_at lw_m7 136 rfl) rfl
theorem q1803 : (Jvm.Cond.soleField "RingHouse" "processes") ∈ lw_all := lw_g (lw_at lw_m7 137 rfl) rfl
theorem q1804 : (Jvm.Cond.laysFinal "RingHouse" "RingHouse" "machine" "LRingHouse$Machine;") ∈ lw_all := lw_g (lw_at lw_m7 138 rfl) rfl
theorem q1805 : (Jvm.Cond.soleField "RingHouse" "machine") ∈ lw_all := lw_g (lw_at lw_m7 139 rfl) rfl
theorem q1806 : (Jvm.Cond.laysFinal "RingHouse" "RingHouse" "assembler" "LRingHouse$Assembler;") ∈ lw_all := lw_g (lw_at lw_m7 140 rfl) rfl
theorem q1807 : (Jvm.Cond.soleField "RingHouse" "assembler") ∈ lw_all := lw_g (lw_at lw_m7 141 rfl) rfl
theorem q1808 : (Jvm.Cond.laysFinal "RingHouse" "RingHouse" "tape" "LRingHouse$Tape;") ∈ lw_all := lw_g (lw_at lw_m7 142 rfl) rfl
theorem q1809 : (Jvm.Cond.soleField "RingHouse" "tape") ∈ lw_all := lw_g (lw_at lw_m7 143 rfl) rfl
theorem q1810 : (Jvm.Cond.laysFinal "RingHouse" "RingHouse" "lister" "LRingHouse$Lister;") ∈ lw_all := lw_g (lw_at lw_m7 144 rfl) rfl
theorem q1811 : (Jvm.Cond.soleField "RingHouse" "lister") ∈ lw_all := lw_g (lw_at lw_m7 145 rfl) rfl
theorem q1812 : (Jvm.Cond.laysFinal "RingHouse" "RingHouse" "listed" "LRingHouse$Decoded;") ∈ lw_all := lw_g (lw_at lw_m7 146 rfl) rfl
theorem q1813 : (Jvm.Cond.soleField "RingHouse" "listed") ∈ lw_all := lw_g (lw_at lw_m7 147 rfl) rfl
theorem q1814 : (Jvm.Cond.laysFinal "RingHouse" "RingHouse" "slots" "[I") ∈ lw_all := lw_g (lw_at lw_m7 148 rfl) rfl
theorem q1815 : (Jvm.Cond.soleField "RingHouse" "slots") ∈ lw_all := lw_g (lw_at lw_m7 149 rfl) rfl
theorem q1816 : (Jvm.Cond.lays "RingHouse" "RingHouse" "turn" "I") ∈ lw_all := lw_g (lw_at lw_m7 150 rfl) rfl
theorem q1817 : (Jvm.Cond.soleField "RingHouse" "turn") ∈ lw_all := lw_g (lw_at lw_m7 151 rfl) rfl
theorem q1818 : (Jvm.Cond.lays "RingHouse" "RingHouse" "toldPlace" "I") ∈ lw_all := lw_g (lw_at lw_m7 152 rfl) rfl
theorem q1819 : (Jvm.Cond.soleField "RingHouse" "toldPlace") ∈ lw_all := lw_g (lw_at lw_m7 153 rfl) rfl
theorem q1820 : (Jvm.Cond.superclass "RingHouse" "java/lang/Object") ∈ lw_all := lw_g (lw_at lw_m7 154 rfl) rfl
theorem q1822 : (Jvm.Cond.instanceMethod ({ cls := "RingHouse", name := "directory", desc := "(IJII)I" } : Jvm.MethodName)) ∈ lw_all := lw_g (lw_at lw_m7 156 rfl) rfl
theorem q1823 : (Jvm.Cond.selects "RingHouse" ({ cls := "RingHouse", name := "directory", desc := "(IJII)I" } : Jvm.MethodName) ({ cls := "RingHouse", name := "directory", desc := "(IJII)I" } : Jvm.MethodName)) ∈ lw_all := lw_g (lw_at lw_m7 157 rfl) rfl
theorem q1824 : (Jvm.Cond.code ({ cls := "RingHouse", name := "directory", desc := "(IJII)I" } : Jvm.MethodName) prog_1_method_20_code (7 : Nat) (Option.some Jvm.ClassFile.FieldType.int)) ∈ lw_all := lw_g (lw_at lw_m7 158 rfl) rfl
theorem q1825 : (Jvm.Cond.methodLink "RingHouse" (115 : Nat) ({ cls := "RingHouse$Tree", name := "directory", desc := "(I)LRingHouse$Node;" } : Jvm.MethodName)) ∈ lw_all := lw_g (lw_at lw_m7 159 rfl) rfl
theorem q1835 : (Jvm.Cond.static ({ cls := "RingHouse", name := "isIn", desc := "(JJJ)Z" } : Jvm.MethodName)) ∈ lw_all := lw_g (lw_at lw_m7 169 rfl) rfl
theorem q1836 : (Jvm.Cond.code ({ cls := "RingHouse", name := "isIn", desc := "(JJJ)Z" } : Jvm.MethodName) prog_1_method_4_code (6 : Nat) (Option.some Jvm.ClassFile.FieldType.boolean)) ∈ lw_all := lw_g (lw_at lw_m7 170 rfl) rfl
theorem q1841 : (Jvm.Cond.methodLink "RingHouse" (119 : Nat) ({ cls := "RingHouse", name := "isName", desc := "(J)Z" } : Jvm.MethodName)) ∈ lw_all := lw_g (lw_at lw_m7 175 rfl) rfl
theorem q1842 : (Jvm.Cond.static ({ cls := "RingHouse", name := "isName", desc := "(J)Z" } : Jvm.MethodName)) ∈ lw_all := lw_g (lw_at lw_m7 176 rfl) rfl
theorem q1843 : (Jvm.Cond.code ({ cls := "RingHouse", name := "isName", desc := "(J)Z" } : Jvm.MethodName) prog_1_method_5_code (5 : Nat) (Option.some Jvm.ClassFile.FieldType.boolean)) ∈ lw_all := lw_g (lw_at lw_m7 177 rfl) rfl
theorem q1844 : (Jvm.Cond.methodLink "RingHouse" (9 : Nat) ({ cls := "RingHouse", name := "isWord", desc := "(J)Z" } : Jvm.MethodName)) ∈ lw_all := lw_g (lw_at lw_m7 178 rfl) rfl
theorem q1845 : (Jvm.Cond.static ({ cls := "RingHouse", name := "isWord", desc := "(J)Z" } : Jvm.MethodName)) ∈ lw_all := lw_g (lw_at lw_m7 179 rfl) rfl
theorem q1846 : (Jvm.Cond.code ({ cls := "RingHouse", name := "isWord", desc := "(J)Z" } : Jvm.MethodName) prog_1_method_2_code (2 : Nat) (Option.some Jvm.ClassFile.FieldType.boolean)) ∈ lw_all := lw_g (lw_at lw_m7 180 rfl) rfl
theorem q1847 : (Jvm.Cond.constantLong "RingHouse" (5 : Nat) (68719476735 : Int64)) ∈ lw_all := lw_g (lw_at lw_m7 181 rfl) rfl
theorem q1848 : (Jvm.Cond.constantLong "RingHouse" (13 : Nat) (63 : Int64)) ∈ lw_all := lw_g (lw_at lw_m7 182 rfl) rfl
theorem q1849 : (Jvm.Cond.methodLink "RingHouse" (122 : Nat) ({ cls := "RingHouse", name := "isLabel", desc := "(J)Z" } : Jvm.MethodName)) ∈ lw_all := lw_g (lw_at lw_m7 183 rfl) rfl
theorem q1850 : (Jvm.Cond.static ({ cls := "RingHouse", name := "isLabel", desc := "(J)Z" } : Jvm.MethodName)) ∈ lw_all := lw_g (lw_at lw_m7 184 rfl) rfl
theorem q1851 : (Jvm.Cond.code ({ cls := "RingHouse", name := "isLabel", desc := "(J)Z" } : Jvm.MethodName) prog_1_method_7_code (2 : Nat) (Option.some Jvm.ClassFile.FieldType.boolean)) ∈ lw_all := lw_g (lw_at lw_m7 185 rfl) rfl
theorem q1852 : (Jvm.Cond.constantLong "RingHouse" (15 : Nat) (31 : Int64)) ∈ lw_all := lw_g (lw_at lw_m7 186 rfl) rfl
theorem q1853 : (Jvm.Cond.methodLink "RingHouse" (17 : Nat) ({ cls := "RingHouse", name := "isIn", desc := "(JJJ)Z" } : Jvm.MethodName)) ∈ lw_all := lw_g (lw_at lw_m7 187 rfl) rfl
theorem q1854 : (Jvm.Cond.methodLink "RingHouse" (130 : Nat) ({ cls := "RingHouse", name := "isRightLimit", desc := "(III)Z" } : Jvm.MethodName)) ∈ lw_all := lw_g (lw_at lw_m7 188 rfl) rfl
theorem q1855 : (Jvm.Cond.static ({ cls := "RingHouse", name := "isRightLimit", desc := "(III)Z" } : Jvm.MethodName)) ∈ lw_all := lw_g (lw_at lw_m7 189 rfl) rfl
theorem q1856 : (Jvm.Cond.code ({ cls := "RingHouse", name := "isRightLimit", desc := "(III)Z" } : Jvm.MethodName) prog_1_method_16_code (3 : Nat) (Option.some Jvm.ClassFile.FieldType.boolean)) ∈ lw_all := lw_g (lw_at lw_m7 190 rfl) rfl
theorem q1857 : (Jvm.Cond.methodLink "RingHouse" (27 : Nat) ({ cls := "RingHouse", name := "dominates", desc := "(II)Z" } : Jvm.MethodName)) ∈ lw_all := lw_g (lw_at lw_m7 191 rfl) rfl
theorem q1858 : (Jvm.Cond.static ({ cls := "RingHouse", name := "dominates", desc := "(II)Z" } : Jvm.MethodName)) ∈ lw_all := lw_g (lw_at lw_m7 192 rfl) rfl
theorem q1859 : (Jvm.Cond.code ({ cls := "RingHouse", name := "dominates", desc := "(II)Z" } : Jvm.MethodName) prog_1_method_6_code (2 : Nat) (Option.some Jvm.ClassFile.FieldType.boolean)) ∈ lw_all := lw_g (lw_at lw_m7 193 rfl) rfl
theorem q1860 : (Jvm.Cond.constantLong "RingHouse" (31 : Nat) (255 : Int64)) ∈ lw_all := lw_g (lw_at lw_m7 194 rfl) rfl
theorem q1861 : (Jvm.Cond.methodLinkNest "RingHouse" (134 : Nat) ({ cls := "RingHouse$Machine", name := "newDirectory", desc := "(LRingHouse$Node;JII)I" } : Jvm.MethodName) "RingHouse") ∈ lw_tbl := lw_at lw_m7 195 rfl
theorem q1929 : (Jvm.Cond.static ({ cls := "RingHouse", name := "records", desc := "(I)I" } : Jvm.MethodName)) ∈ lw_all := lw_g (lw_at lw_m8 23 rfl) rfl
theorem q1930 : (Jvm.Cond.code ({ cls := "RingHouse", name := "records", desc := "(I)I" } : Jvm.MethodName) prog_1_method_14_code (1 : Nat) (Option.some Jvm.ClassFile.FieldType.int)) ∈ lw_all := lw_g (lw_at lw_m8 24 rfl) rfl
theorem q1936 : (Jvm.Cond.instanceMethod ({ cls := "RingHouse", name := "segment", desc := "(IJI)I" } : Jvm.MethodName)) ∈ lw_all := lw_g (lw_at lw_m8 30 rfl) rfl
theorem q1937 : (Jvm.Cond.selects "RingHouse" ({ cls := "RingHouse", name := "segment", desc := "(IJI)I" } : Jvm.MethodName) ({ cls := "RingHouse", name := "segment", desc := "(IJI)I" } : Jvm.MethodName)) ∈ lw_all := lw_g (lw_at lw_m8 31 rfl) rfl
theorem q1938 : (Jvm.Cond.code ({ cls := "RingHouse", name := "segment", desc := "(IJI)I" } : Jvm.MethodName) prog_1_method_21_code (6 : Nat) (Option.some Jvm.ClassFile.FieldType.int)) ∈ lw_all := lw_g (lw_at lw_m8 32 rfl) rfl
theorem q1939 : (Jvm.Cond.constantLong "RingHouse" (138 : Nat) (1024 : Int64)) ∈ lw_all := lw_g (lw_at lw_m8 33 rfl) rfl
theorem q1940 : (Jvm.Cond.methodLinkNest "RingHouse" (140 : Nat) ({ cls := "RingHouse$Machine", name := "newSegment", desc := "(LRingHouse$Node;JI)I" } : Jvm.MethodName) "RingHouse") ∈ lw_tbl := lw_at lw_m8 34 rfl
theorem q1964 : (Jvm.Cond.instanceMethod ({ cls := "RingHouse", name := "mailbox", desc := "(IJ)I" } : Jvm.MethodName)) ∈ lw_all := lw_g (lw_at lw_m8 58 rfl) rfl
theorem q1965 : (Jvm.Cond.selects "RingHouse" ({ cls := "RingHouse", name := "mailbox", desc := "(IJ)I" } : Jvm.MethodName) ({ cls := "RingHouse", name := "mailbox", desc := "(IJ)I" } : Jvm.MethodName)) ∈ lw_all := lw_g (lw_at lw_m8 59 rfl) rfl
theorem q1966 : (Jvm.Cond.code ({ cls := "RingHouse", name := "mailbox", desc := "(IJ)I" } : Jvm.MethodName) prog_1_method_22_code (5 : Nat) (Option.some Jvm.ClassFile.FieldType.int)) ∈ lw_all := lw_g (lw_at lw_m8 60 rfl) rfl
theorem q1967 : (Jvm.Cond.methodLinkNest "RingHouse" (144 : Nat) ({ cls := "RingHouse$Machine", name := "newMailbox", desc := "(LRingHouse$Node;J)I" } : Jvm.MethodName) "RingHouse") ∈ lw_tbl := lw_at lw_m8 61 rfl
theorem q1972 : (Jvm.Cond.instanceMethod ({ cls := "RingHouse", name := "initial", desc := "(IIIII)I" } : Jvm.MethodName)) ∈ lw_all := lw_g (lw_at lw_m8 66 rfl) rfl
theorem q1973 : (Jvm.Cond.selects "RingHouse" ({ cls := "RingHouse", name := "initial", desc := "(IIIII)I" } : Jvm.MethodName) ({ cls := "RingHouse", name := "initial", desc := "(IIIII)I" } : Jvm.MethodName)) ∈ lw_all := lw_g (lw_at lw_m8 67 rfl) rfl
theorem q1974 : (Jvm.Cond.code ({ cls := "RingHouse", name := "initial", desc := "(IIIII)I" } : Jvm.MethodName) prog_1_method_23_code (8 : Nat) (Option.some Jvm.ClassFile.FieldType.int)) ∈ lw_all := lw_g (lw_at lw_m8 68 rfl) rfl
theorem q1975 : (Jvm.Cond.constantLong "RingHouse" (148 : Nat) (2 : Int64)) ∈ lw_all := lw_g (lw_at lw_m8 69 rfl) rfl
theorem q1976 : (Jvm.Cond.constantLong "RingHouse" (150 : Nat) (16 : Int64)) ∈ lw_all := lw_g (lw_at lw_m8 70 rfl) rfl
theorem q1977 : (Jvm.Cond.constantLong "RingHouse" (152 : Nat) (8 : Int64)) ∈ lw_all := lw_g (lw_at lw_m8 71 rfl) rfl
theorem q1978 : (Jvm.Cond.methodLink "RingHouse" (154 : Nat) ({ cls := "RingHouse$Node", name := "initial", desc := "(I)LRingHouse$Acl;" } : Jvm.MethodName)) ∈ lw_all := lw_g (lw_at lw_m8 72 rfl) rfl
theorem q1979 : (Jvm.Cond.methodLink "RingHouse" (158 : Nat) ({ cls := "RingHouse$Acl", name := "set", desc := "(III)I" } : Jvm.MethodName)) ∈ lw_all := lw_g (lw_at lw_m8 73 rfl) rfl
theorem q1981 : (Jvm.Cond.instanceMethod ({ cls := "RingHouse", name := "item", desc := "(IIII)I" } : Jvm.MethodName)) ∈ lw_all := lw_g (lw_at lw_m8 75 rfl) rfl
theorem q1982 : (Jvm.Cond.selects "RingHouse" ({ cls := "RingHouse", name := "item", desc := "(IIII)I" } : Jvm.MethodName) ({ cls := "RingHouse", name := "item", desc := "(IIII)I" } : Jvm.MethodName)) ∈ lw_all := lw_g (lw_at lw_m8 76 rfl) rfl
theorem q1983 : (Jvm.Cond.code ({ cls := "RingHouse", name := "item", desc := "(IIII)I" } : Jvm.MethodName) prog_1_method_24_code (7 : Nat) (Option.some Jvm.ClassFile.FieldType.int)) ∈ lw_all := lw_g (lw_at lw_m8 77 rfl) rfl
theorem q1984 : (Jvm.Cond.methodLink "RingHouse" (167 : Nat) ({ cls := "RingHouse$Tree", name := "node", desc := "(I)LRingHouse$Node;" } : Jvm.MethodName)) ∈ lw_all := lw_g (lw_at lw_m8 78 rfl) rfl
theorem q1986 : (Jvm.Cond.instanceMethod ({ cls := "RingHouse", name := "brackets", desc := "(IIIII)I" } : Jvm.MethodName)) ∈ lw_all := lw_g (lw_at lw_m8 80 rfl) rfl
theorem q1987 : (Jvm.Cond.selects "RingHouse" ({ cls := "RingHouse", name := "brackets", desc := "(IIIII)I" } : Jvm.MethodName) ({ cls := "RingHouse", name := "brackets", desc := "(IIIII)I" } : Jvm.MethodName)) ∈ lw_all := lw_g (lw_at lw_m8 81 rfl) rfl
theorem q1988 : (Jvm.Cond.code ({ cls := "RingHouse", name := "brackets", desc := "(IIIII)I" } : Jvm.MethodName) prog_1_method_25_code (7 : Nat) (Option.some Jvm.ClassFile.FieldType.int)) ∈ lw_all := lw_g (lw_at lw_m8 82 rfl) rfl
theorem q1989 : (Jvm.Cond.methodLink "RingHouse" (177 : Nat) ({ cls := "RingHouse", name := "areBrackets", desc := "(III)Z" } : Jvm.MethodName)) ∈ lw_all := lw_g (lw_at lw_m8 83 rfl) rfl
theorem q1990 : (Jvm.Cond.static ({ cls := "RingHouse", name := "areBrackets", desc := "(III)Z" } : Jvm.MethodName)) ∈ lw_all := lw_g (lw_at lw_m8 84 rfl) rfl
theorem q1991 : (Jvm.Cond.code ({ cls := "RingHouse", name := "areBrackets", desc := "(III)Z" } : Jvm.MethodName) prog_1_method_15_code (3 : Nat) (Option.some Jvm.ClassFile.FieldType.boolean)) ∈ lw_all := lw_g (lw_at lw_m8 85 rfl) rfl
theorem q1992 : (Jvm.Cond.methodLink "RingHouse" (180 : Nat) ({ cls := "RingHouse$Node", name := "isSegment", desc := "()Z" } : Jvm.MethodName)) ∈ lw_all := lw_g (lw_at lw_m8 86 rfl) rfl
theorem q1993 : (Jvm.Cond.methodLink "RingHouse" (184 : Nat) ({ cls := "RingHouse$Node", name := "setBrackets", desc := "(III)V" } : Jvm.MethodName)) ∈ lw_all := lw_g (lw_at lw_m8 87 rfl) rfl
theorem q1995 : (Jvm.Cond.instanceMethod ({ cls := "RingHouse", name := "length", desc := "(II)I" } : Jvm.MethodName)) ∈ lw_all := lw_g (lw_at lw_m8 89 rfl) rfl
theorem q1996 : (Jvm.Cond.selects "RingHouse" ({ cls := "RingHouse", name := "length", desc := "(II)I" } : Jvm.MethodName) ({ cls := "RingHouse", name := "length", desc := "(II)I" } : Jvm.MethodName)) ∈ lw_all := lw_g (lw_at lw_m8 90 rfl) rfl
theorem q1997 : (Jvm.Cond.code ({ cls := "RingHouse", name := "length", desc := "(II)I" } : Jvm.MethodName) prog_1_method_26_code (5 : Nat) (Option.some Jvm.ClassFile.FieldType.int)) ∈ lw_all := lw_g (lw_at lw_m8 91 rfl) rfl
theorem q1998 : (Jvm.Cond.methodLink "RingHouse" (191 : Nat) ({ cls := "RingHouse$Tree", name := "segment", desc := "(I)LRingHouse$Node;" } : Jvm.MethodName)) ∈ lw_all := lw_g (lw_at lw_m8 92 rfl) rfl
theorem q2003 : (Jvm.Cond.methodLinkNest "RingHouse" (197 : Nat) ({ cls := "RingHouse$Machine", name := "newLength", desc := "(LRingHouse$Node;I)Z" } : Jvm.MethodName) "RingHouse") ∈ lw_tbl := lw_at lw_m8 97 rfl
theorem q2008 : (Jvm.Cond.instanceMethod ({ cls := "RingHouse", name := "limit", desc := "(II)I" } : Jvm.MethodName)) ∈ lw_all := lw_g (lw_at lw_m8 102 rfl) rfl
theorem q2009 : (Jvm.Cond.selects "RingHouse" ({ cls := "RingHouse", name := "limit", desc := "(II)I" } : Jvm.MethodName) ({ cls := "RingHouse", name := "limit", desc := "(II)I" } : Jvm.MethodName)) ∈ lw_all := lw_g (lw_at lw_m8 103 rfl) rfl
theorem q2010 : (Jvm.Cond.code ({ cls := "RingHouse", name := "limit", desc := "(II)I" } : Jvm.MethodName) prog_1_method_27_code (5 : Nat) (Option.some Jvm.ClassFile.FieldType.int)) ∈ lw_all := lw_g (lw_at lw_m8 104 rfl) rfl
theorem q2011 : (Jvm.Cond.methodLink "RingHouse" (208 : Nat) ({ cls := "RingHouse$Tree", name := "limit", desc := "(LRingHouse$Node;I)Z" } : Jvm.MethodName)) ∈ lw_all := lw_g (lw_at lw_m8 105 rfl) rfl
theorem q2017 : (Jvm.Cond.instanceMethod ({ cls := "RingHouse", name := "rename", desc := "(IJ)I" } : Jvm.MethodName)) ∈ lw_all := lw_g (lw_at lw_m8 111 rfl) rfl
theorem q2018 : (Jvm.Cond.selects "RingHouse" ({ cls := "RingHouse", name := "rename", desc := "(IJ)I" } : Jvm.MethodName) ({ cls := "RingHouse", name := "rename", desc := "(IJ)I" } : Jvm.MethodName)) ∈ lw_all := lw_g (lw_at lw_m8 112 rfl) rfl
theorem q2019 : (Jvm.Cond.code ({ cls := "RingHouse", name := "rename", desc := "(IJ)I" } : Jvm.MethodName) prog_1_method_28_code (6 : Nat) (Option.some Jvm.ClassFile.FieldType.int)) ∈ lw_all := lw_g (lw_at lw_m8 113 rfl) rfl
theorem q2020 : (Jvm.Cond.methodLink "RingHouse" (217 : Nat) ({ cls := "RingHouse$Index", name := "find", desc := "(LRingHouse$Node;J)LRingHouse$Node;" } : Jvm.MethodName)) ∈ lw_all := lw_g (lw_at lw_m8 114 rfl) rfl
theorem q2021 : (Jvm.Cond.methodLink "RingHouse" (223 : Nat) ({ cls := "RingHouse$Tree", name := "rename", desc := "(LRingHouse$Node;J)V" } : Jvm.MethodName)) ∈ lw_all := lw_g (lw_at lw_m8 115 rfl) rfl
theorem q2030 : (Jvm.Cond.instanceMethod ({ cls := "RingHouse", name := "remove", desc := "(I)I" } : Jvm.MethodName)) ∈ lw_all := lw_g (lw_at lw_m8 124 rfl) rfl
theorem q2031 : (Jvm.Cond.selects "RingHouse" ({ cls := "RingHouse", name := "remove", desc := "(I)I" } : Jvm.MethodName) ({ cls := "RingHouse", name := "remove", desc := "(I)I" } : Jvm.MethodName)) ∈ lw_all := lw_g (lw_at lw_m8 125 rfl) rfl
theorem q2032 : (Jvm.Cond.code ({ cls := "RingHouse", name := "remove", desc := "(I)I" } : Jvm.MethodName) prog_1_method_29_code (3 : Nat) (Option.some Jvm.ClassFile.FieldType.int)) ∈ lw_all := lw_g (lw_at lw_m8 126 rfl) rfl
theorem q2033 : (Jvm.Cond.methodLink "RingHouse" (227 : Nat) ({ cls := "RingHouse$Tree", name := "remove", desc := "(LRingHouse$Node;)I" } : Jvm.MethodName)) ∈ lw_all := lw_g (lw_at lw_m8 127 rfl) rfl
theorem q2057 : (Jvm.Cond.instanceMethod ({ cls := "RingHouse", name := "find", desc := "(IJ)I" } : Jvm.MethodName)) ∈ lw_all := lw_g (lw_at lw_m8 151 rfl) rfl
theorem q2058 : (Jvm.Cond.selects "RingHouse" ({ cls := "RingHouse", name := "find", desc := "(IJ)I" } : Jvm.MethodName) ({ cls := "RingHouse", name := "find", desc := "(IJ)I" } : Jvm.MethodName)) ∈ lw_all := lw_g (lw_at lw_m8 152 rfl) rfl
theorem q2059 : (Jvm.Cond.code ({ cls := "RingHouse", name := "find", desc := "(IJ)I" } : Jvm.MethodName) prog_1_method_30_code (6 : Nat) (Option.some Jvm.ClassFile.FieldType.int)) ∈ lw_all := lw_g (lw_at lw_m8 153 rfl) rfl
theorem q2061 : (Jvm.Cond.instanceMethod ({ cls := "RingHouse", name := "about", desc := "(II)J" } : Jvm.MethodName)) ∈ lw_all := lw_g (lw_at lw_m8 155 rfl) rfl
theorem q2062 : (Jvm.Cond.selects "RingHouse" ({ cls := "RingHouse", name := "about", desc := "(II)J" } : Jvm.MethodName) ({ cls := "RingHouse", name := "about", desc := "(II)J" } : Jvm.MethodName)) ∈ lw_all := lw_g (lw_at lw_m8 156 rfl) rfl
theorem q2063 : (Jvm.Cond.code ({ cls := "RingHouse", name := "about", desc := "(II)J" } : Jvm.MethodName) prog_1_method_31_code (4 : Nat) (Option.some Jvm.ClassFile.FieldType.long)) ∈ lw_all := lw_g (lw_at lw_m8 157 rfl) rfl
theorem q2064 : (Jvm.Cond.constantLong "RingHouse" (234 : Nat) (-1 : Int64)) ∈ lw_all := lw_g (lw_at lw_m8 158 rfl) rfl
theorem q2065 : (Jvm.Cond.methodLink "RingHouse" (261 : Nat) ({ cls := "RingHouse$Node", name := "isMailbox", desc := "()Z" } : Jvm.MethodName)) ∈ lw_all := lw_g (lw_at lw_m8 159 rfl) rfl
theorem q2066 : (Jvm.Cond.constantLong "RingHouse" (279 : Nat) (-8 : Int64)) ∈ lw_all := lw_g (lw_at lw_m8 160 rfl) rfl
theorem q2068 : (Jvm.Cond.instanceMethod ({ cls := "RingHouse", name := "modes", desc := "(III)I" } : Jvm.MethodName)) ∈ lw_all := lw_g (lw_at lw_m8 162 rfl) rfl
theorem q2069 : (Jvm.Cond.selects "RingHouse" ({ cls := "RingHouse", name := "modes", desc := "(III)I" } : Jvm.MethodName) ({ cls := "RingHouse", name := "modes", desc := "(III)I" } : Jvm.MethodName)) ∈ lw_all := lw_g (lw_at lw_m8 163 rfl) rfl
theorem q2070 : (Jvm.Cond.code ({ cls := "RingHouse", name := "modes", desc := "(III)I" } : Jvm.MethodName) prog_1_method_32_code (5 : Nat) (Option.some Jvm.ClassFile.FieldType.int)) ∈ lw_all := lw_g (lw_at lw_m8 164 rfl) rfl
theorem q2071 : (Jvm.Cond.constantLong "RingHouse" (281 : Nat) (15 : Int64)) ∈ lw_all := lw_g (lw_at lw_m8 165 rfl) rfl
theorem q2072 : (Jvm.Cond.constantLong "RingHouse" (25 : Nat) (7 : Int64)) ∈ lw_all := lw_g (lw_at lw_m8 166 rfl) rfl
theorem q2073 : (Jvm.Cond.methodLink "RingHouse" (283 : Nat) ({ cls := "RingHouse$Acl", name := "of", desc := "(II)I" } : Jvm.MethodName)) ∈ lw_all := lw_g (lw_at lw_m8 167 rfl) rfl
theorem q2078 : (Jvm.Cond.instanceMethod ({ cls := "RingHouse", name := "word", desc := "(II)J" } : Jvm.MethodName)) ∈ lw_all := lw_g (lw_at lw_m8 172 rfl) rfl
theorem q2079 : (Jvm.Cond.selects "RingHouse" ({ cls := "RingHouse", name := "word", desc := "(II)J" } : Jvm.MethodName) ({ cls := "RingHouse", name := "word", desc := "(II)J" } : Jvm.MethodName)) ∈ lw_all := lw_g (lw_at lw_m8 173 rfl) rfl
theorem q2080 : (Jvm.Cond.code ({ cls := "RingHouse", name := "word", desc := "(II)J" } : Jvm.MethodName) prog_1_method_34_code (4 : Nat) (Option.some Jvm.ClassFile.FieldType.long)) ∈ lw_all := lw_g (lw_at lw_m8 174 rfl) rfl
theorem q2081 : (Jvm.Cond.methodLink "RingHouse" (287 : Nat) ({ cls := "RingHouse", name := "hasPlace", desc := "(LRingHouse$Node;I)Z" } : Jvm.MethodName)) ∈ lw_all := lw_g (lw_at lw_m8 175 rfl) rfl
theorem q2082 : (Jvm.Cond.privateMethod ({ cls := "RingHouse", name := "hasPlace", desc := "(LRingHouse$Node;I)Z" } : Jvm.MethodName)) ∈ lw_tbl := lw_at lw_m8 176 rfl
theorem q2083 : (Jvm.Cond.instanceMethod ({ cls := "RingHouse", name := "hasPlace", desc := "(LRingHouse$Node;I)Z" } : Jvm.MethodName)) ∈ lw_all := lw_g (lw_at lw_m8 177 rfl) rfl
theorem q2084 : (Jvm.Cond.code ({ cls := "RingHouse", name := "hasPlace", desc := "(LRingHouse$Node;I)Z" } : Jvm.MethodName) prog_1_method_33_code (3 : Nat) (Option.some Jvm.ClassFile.FieldType.boolean)) ∈ lw_all := lw_g (lw_at lw_m8 178 rfl) rfl
theorem q2085 : (Jvm.Cond.methodLink "RingHouse" (290 : Nat) ({ cls := "RingHouse$Tree", name := "get", desc := "(LRingHouse$Node;I)J" } : Jvm.MethodName)) ∈ lw_all := lw_g (lw_at lw_m8 179 rfl) rfl
theorem q2094 : (Jvm.Cond.instanceMethod ({ cls := "RingHouse", name := "put", desc := "(IIJ)J" } : Jvm.MethodName)) ∈ lw_all := lw_g (lw_at lw_m8 188 rfl) rfl
theorem q2095 : (Jvm.Cond.selects "RingHouse" ({ cls := "RingHouse", name := "put", desc := "(IIJ)J" } : Jvm.MethodName) ({ cls := "RingHouse", name := "put", desc := "(IIJ)J" } : Jvm.MethodName)) ∈ lw_all := lw_g (lw_at lw_m8 189 rfl) rfl
theorem q2096 : (Jvm.Cond.code ({ cls := "RingHouse", name := "put", desc := "(IIJ)J" } : Jvm.MethodName) prog_1_method_35_code (8 : Nat) (Option.some Jvm.ClassFile.FieldType.long)) ∈ lw_all := lw_g (lw_at lw_m8 190 rfl) rfl
theorem q2097 : (Jvm.Cond.methodLink "RingHouse" (294 : Nat) ({ cls := "RingHouse$Tree", name := "put", desc := "(LRingHouse$Node;IJ)V" } : Jvm.MethodName)) ∈ lw_all := lw_g (lw_at lw_m8 191 rfl) rfl
theorem q2106 : (Jvm.Cond.instanceMethod ({ cls := "RingHouse", name := "letter", desc := "(III)J" } : Jvm.MethodName)) ∈ lw_all := lw_g (lw_at lw_m8 200 rfl) rfl
theorem q2107 : (Jvm.Cond.selects "RingHouse" ({ cls := "RingHouse", name := "letter", desc := "(III)J" } : Jvm.MethodName) ({ cls := "RingHouse", name := "letter", desc := "(III)J" } : Jvm.MethodName)) ∈ lw_all := lw_g (lw_at lw_m8 201 rfl) rfl
theorem q2108 : (Jvm.Cond.code ({ cls := "RingHouse", name := "letter", desc := "(III)J" } : Jvm.MethodName) prog_1_method_36_code (5 : Nat) (Option.some Jvm.ClassFile.FieldType.long)) ∈ lw_all := lw_g (lw_at lw_m8 202 rfl) rfl
theorem q2109 : (Jvm.Cond.methodLink "RingHouse" (298 : Nat) ({ cls := "RingHouse$Tree", name := "mailbox", desc := "(I)LRingHouse$Node;" } : Jvm.MethodName)) ∈ lw_all := lw_g (lw_at lw_m8 203 rfl) rfl
theorem q2114 : (Jvm.Cond.instanceMethod ({ cls := "RingHouse", name := "audit", desc := "(II)I" } : Jvm.MethodName)) ∈ lw_all := lw_g (lw_at lw_m8 208 rfl) rfl
theorem q2115 : (Jvm.Cond.selects "RingHouse" ({ cls := "RingHouse", name := "audit", desc := "(II)I" } : Jvm.MethodName) ({ cls := "RingHouse", name := "audit", desc := "(II)I" } : Jvm.MethodName)) ∈ lw_all := lw_g (lw_at lw_m8 209 rfl) rfl
theorem q2116 : (Jvm.Cond.code ({ cls := "RingHouse", name := "audit", desc := "(II)I" } : Jvm.MethodName) prog_1_method_37_code (3 : Nat) (Option.some Jvm.ClassFile.FieldType.int)) ∈ lw_all := lw_g (lw_at lw_m8 210 rfl) rfl
theorem q2117 : (Jvm.Cond.methodLink "RingHouse" (312 : Nat) ({ cls := "RingHouse$Audit", name := "has", desc := "(I)Z" } : Jvm.MethodName)) ∈ lw_all := lw_g (lw_at lw_m8 211 rfl) rfl
theorem q2121 : (Jvm.Cond.constantLong "RingHouse" (318 : Nat) (3 : Int64)) ∈ lw_all := lw_g (lw_at lw_m8 215 rfl) rfl
theorem q2123 : (Jvm.Cond.instanceMethod ({ cls := "RingHouse", name := "login", desc := "(IIIIII)I" } : Jvm.MethodName)) ∈ lw_all := lw_g (lw_at lw_m8 217 rfl) rfl
theorem q2124 : (Jvm.Cond.selects "RingHouse" ({ cls := "RingHouse", name := "login", desc := "(IIIIII)I" } : Jvm.MethodName) ({ cls := "RingHouse", name := "login", desc := "(IIIIII)I" } : Jvm.MethodName)) ∈ lw_all := lw_g (lw_at lw_m8 218 rfl) rfl
theorem q2125 : (Jvm.Cond.code ({ cls := "RingHouse", name := "login", desc := "(IIIIII)I" } : Jvm.MethodName) prog_1_method_38_code (9 : Nat) (Option.some Jvm.ClassFile.FieldType.int)) ∈ lw_all := lw_g (lw_at lw_m8 219 rfl) rfl
theorem q2126 : (Jvm.Cond.methodLink "RingHouse" (323 : Nat) ({ cls := "RingHouse", name := "isHalf", desc := "(J)Z" } : Jvm.MethodName)) ∈ lw_all := lw_g (lw_at lw_m8 220 rfl) rfl
theorem q2127 : (Jvm.Cond.static ({ cls := "RingHouse", name := "isHalf", desc := "(J)Z" } : Jvm.MethodName)) ∈ lw_all := lw_g (lw_at lw_m8 221 rfl) rfl
theorem q2128 : (Jvm.Cond.code ({ cls := "RingHouse", name := "isHalf", desc := "(J)Z" } : Jvm.MethodName) prog_1_method_3_code (2 : Nat) (Option.some Jvm.ClassFile.FieldType.boolean)) ∈ lw_all := lw_g (lw_at lw_m8 222 rfl) rfl
theorem q2129 : (Jvm.Cond.constantLong "RingHouse" (7 : Nat) (262143 : Int64)) ∈ lw_all := lw_g (lw_at lw_m8 223 rfl) rfl
theorem q2130 : (Jvm.Cond.methodLink "RingHouse" (326 : Nat) ({ cls := "RingHouse$Process", name := "begin", desc := "(IIILRingHouse$Node;II)V" } : Jvm.MethodName)) ∈ lw_all := lw_g (lw_at lw_m8 224 rfl) rfl
theorem q2156 : (Jvm.Cond.instanceMethod ({ cls := "RingHouse", name := "logout", desc := "(I)I" } : Jvm.MethodName)) ∈ lw_all := lw_g (lw_at lw_m9 10 rfl) rfl
theorem q2157 : (Jvm.Cond.selects "RingHouse" ({ cls := "RingHouse", name := "logout", desc := "(I)I" } : Jvm.MethodName) ({ cls := "RingHouse", name := "logout", desc := "(I)I" } : Jvm.MethodName)) ∈ lw_all := lw_g (lw_at lw_m9 11 rfl) rfl
theorem q2158 : (Jvm.Cond.code ({ cls := "RingHouse", name := "logout", desc := "(I)I" } : Jvm.MethodName) prog_1_method_39_code (3 : Nat) (Option.some Jvm.ClassFile.FieldType.int)) ∈ lw_all := lw_g (lw_at lw_m9 12 rfl) rfl
theorem q2159 : (Jvm.Cond.methodLink "RingHouse" (330 : Nat) ({ cls := "RingHouse", name := "processAt", desc := "(I)LRingHouse$Process;" } : Jvm.MethodName)) ∈ lw_all := lw_g (lw_at lw_m9 13 rfl) rfl
theorem q2160 : (Jvm.Cond.privateMethod ({ cls := "RingHouse", name := "processAt", desc := "(I)LRingHouse$Process;" } : Jvm.MethodName)) ∈ lw_tbl := lw_at lw_m9 14 rfl
theorem q2161 : (Jvm.Cond.instanceMethod ({ cls := "RingHouse", name := "processAt", desc := "(I)LRingHouse$Process;" } : Jvm.MethodName)) ∈ lw_all := lw_g (lw_at lw_m9 15 rfl) rfl
theorem q2162 : (Jvm.Cond.code ({ cls := "RingHouse", name := "processAt", desc := "(I)LRingHouse$Process;" } : Jvm.MethodName) prog_1_method_19_code (2 : Nat) (Option.some (Jvm.ClassFile.FieldType.object "RingHouse$Process"))) ∈ lw_all := lw_g (lw_at lw_m9 16 rfl) rfl
theorem q2164 : (Jvm.Cond.instanceMethod ({ cls := "RingHouse", name := "send", desc := "(IJ)I" } : Jvm.MethodName)) ∈ lw_all := lw_g (lw_at lw_m9 18 rfl) rfl
theorem q2165 : (Jvm.Cond.selects "RingHouse" ({ cls := "RingHouse", name := "send", desc := "(IJ)I" } : Jvm.MethodName) ({ cls := "RingHouse", name := "send", desc := "(IJ)I" } : Jvm.MethodName)) ∈ lw_all := lw_g (lw_at lw_m9 19 rfl) rfl
theorem q2166 : (Jvm.Cond.code ({ cls := "RingHouse", name := "send", desc := "(IJ)I" } : Jvm.MethodName) prog_1_method_40_code (5 : Nat) (Option.some Jvm.ClassFile.FieldType.int)) ∈ lw_all := lw_g (lw_at lw_m9 20 rfl) rfl
theorem q2167 : (Jvm.Cond.methodLink "RingHouse" (334 : Nat) ({ cls := "RingHouse$Process", name := "isFull", desc := "()Z" } : Jvm.MethodName)) ∈ lw_all := lw_g (lw_at lw_m9 21 rfl) rfl
theorem q2171 : (Jvm.Cond.methodLink "RingHouse" (337 : Nat) ({ cls := "RingHouse$Process", name := "receive", desc := "(J)V" } : Jvm.MethodName)) ∈ lw_all := lw_g (lw_at lw_m9 25 rfl) rfl
theorem q2176 : (Jvm.Cond.instanceMethod ({ cls := "RingHouse", name := "tick", desc := "(II)I" } : Jvm.MethodName)) ∈ lw_all := lw_g (lw_at lw_m9 30 rfl) rfl
theorem q2177 : (Jvm.Cond.selects "RingHouse" ({ cls := "RingHouse", name := "tick", desc := "(II)I" } : Jvm.MethodName) ({ cls := "RingHouse", name := "tick", desc := "(II)I" } : Jvm.MethodName)) ∈ lw_all := lw_g (lw_at lw_m9 31 rfl) rfl
theorem q2178 : (Jvm.Cond.code ({ cls := "RingHouse", name := "tick", desc := "(II)I" } : Jvm.MethodName) prog_1_method_41_code (6 : Nat) (Option.some Jvm.ClassFile.FieldType.int)) ∈ lw_all := lw_g (lw_at lw_m9 32 rfl) rfl
theorem q2179 : (Jvm.Cond.constantLong "RingHouse" (344 : Nat) (1000 : Int64)) ∈ lw_all := lw_g (lw_at lw_m9 33 rfl) rfl
theorem q2180 : (Jvm.Cond.methodLinkNest "RingHouse" (346 : Nat) ({ cls := "RingHouse$Machine", name := "tickOf", desc := "(LRingHouse$Process;)Z" } : Jvm.MethodName) "RingHouse") ∈ lw_tbl := lw_at lw_m9 34 rfl
theorem q2223 : (Jvm.Cond.static ({ cls := "RingHouse", name := "pointerWord", desc := "(III)J" } : Jvm.MethodName)) ∈ lw_all := lw_g (lw_at lw_m9 77 rfl) rfl
theorem q2224 : (Jvm.Cond.code ({ cls := "RingHouse", name := "pointerWord", desc := "(III)J" } : Jvm.MethodName) prog_1_method_9_code (3 : Nat) (Option.some Jvm.ClassFile.FieldType.long)) ∈ lw_all := lw_g (lw_at lw_m9 78 rfl) rfl
theorem q2225 : (Jvm.Cond.constantLong "RingHouse" (23 : Nat) (42949672960 : Int64)) ∈ lw_all := lw_g (lw_at lw_m9 79 rfl) rfl
theorem q2337 : (Jvm.Cond.static ({ cls := "RingHouse", name := "isPointer", desc := "(J)Z" } : Jvm.MethodName)) ∈ lw_all := lw_g (lw_at lw_m9 191 rfl) rfl
theorem q2338 : (Jvm.Cond.code ({ cls := "RingHouse", name := "isPointer", desc := "(J)Z" } : Jvm.MethodName) prog_1_method_8_code (2 : Nat) (Option.some Jvm.ClassFile.FieldType.boolean)) ∈ lw_all := lw_g (lw_at lw_m9 192 rfl) rfl
theorem q2339 : (Jvm.Cond.constantLong "RingHouse" (21 : Nat) (5 : Int64)) ∈ lw_all := lw_g (lw_at lw_m9 193 rfl) rfl
theorem q2341 : (Jvm.Cond.static ({ cls := "RingHouse", name := "numberOf", desc := "(J)I" } : Jvm.MethodName)) ∈ lw_all := lw_g (lw_at lw_m9 195 rfl) rfl
theorem q2342 : (Jvm.Cond.code ({ cls := "RingHouse", name := "numberOf", desc := "(J)I" } : Jvm.MethodName) prog_1_method_11_code (2 : Nat) (Option.some Jvm.ClassFile.FieldType.int)) ∈ lw_all := lw_g (lw_at lw_m9 196 rfl) rfl
theorem q2344 : (Jvm.Cond.static ({ cls := "RingHouse", name := "placeOf", desc := "(J)I" } : Jvm.MethodName)) ∈ lw_all := lw_g (lw_at lw_m9 198 rfl) rfl
theorem q2345 : (Jvm.Cond.code ({ cls := "RingHouse", name := "placeOf", desc := "(J)I" } : Jvm.MethodName) prog_1_method_12_code (2 : Nat) (Option.some Jvm.ClassFile.FieldType.int)) ∈ lw_all := lw_g (lw_at lw_m9 199 rfl) rfl
theorem q2347 : (Jvm.Cond.static ({ cls := "RingHouse", name := "ringOf", desc := "(J)I" } : Jvm.MethodName)) ∈ lw_all := lw_g (lw_at lw_m9 201 rfl) rfl
theorem q2348 : (Jvm.Cond.code ({ cls := "RingHouse", name := "ringOf", desc := "(J)I" } : Jvm.MethodName) prog_1_method_10_code (2 : Nat) (Option.some Jvm.ClassFile.FieldType.int)) ∈ lw_all := lw_g (lw_at lw_m9 202 rfl) rfl
theorem q2350 : (Jvm.Cond.static ({ cls := "RingHouse", name := "isChained", desc := "(J)Z" } : Jvm.MethodName)) ∈ lw_all := lw_g (lw_at lw_m9 204 rfl) rfl
theorem q2351 : (Jvm.Cond.code ({ cls := "RingHouse", name := "isChained", desc := "(J)Z" } : Jvm.MethodName) prog_1_method_13_code (2 : Nat) (Option.some Jvm.ClassFile.FieldType.boolean)) ∈ lw_all := lw_g (lw_at lw_m9 205 rfl) rfl
theorem q2420 : (Jvm.Cond.static ({ cls := "RingHouse", name := "signed", desc := "(J)J" } : Jvm.MethodName)) ∈ lw_all := lw_g (lw_at lw_m10 34 rfl) rfl
theorem q2421 : (Jvm.Cond.code ({ cls := "RingHouse", name := "signed", desc := "(J)J" } : Jvm.MethodName) prog_1_method_1_code (2 : Nat) (Option.some Jvm.ClassFile.FieldType.long)) ∈ lw_all := lw_g (lw_at lw_m10 35 rfl) rfl
theorem q2422 : (Jvm.Cond.constantLong "RingHouse" (1 : Nat) (68719476736 : Int64)) ∈ lw_all := lw_g (lw_at lw_m10 36 rfl) rfl
theorem q2731 : (Jvm.Cond.instanceMethod ({ cls := "RingHouse", name := "schedule", desc := "(II)I" } : Jvm.MethodName)) ∈ lw_all := lw_g (lw_at lw_m11 105 rfl) rfl
theorem q2732 : (Jvm.Cond.selects "RingHouse" ({ cls := "RingHouse", name := "schedule", desc := "(II)I" } : Jvm.MethodName) ({ cls := "RingHouse", name := "schedule", desc := "(II)I" } : Jvm.MethodName)) ∈ lw_all := lw_g (lw_at lw_m11 106 rfl) rfl
theorem q2733 : (Jvm.Cond.code ({ cls := "RingHouse", name := "schedule", desc := "(II)I" } : Jvm.MethodName) prog_1_method_42_code (4 : Nat) (Option.some Jvm.ClassFile.FieldType.int)) ∈ lw_all := lw_g (lw_at lw_m11 107 rfl) rfl
theorem q2735 : (Jvm.Cond.instanceMethod ({ cls := "RingHouse", name := "run", desc := "(I)I" } : Jvm.MethodName)) ∈ lw_all := lw_g (lw_at lw_m11 109 rfl) rfl
theorem q2736 : (Jvm.Cond.selects "RingHouse" ({ cls := "RingHouse", name := "run", desc := "(I)I" } : Jvm.MethodName) ({ cls := "RingHouse", name := "run", desc := "(I)I" } : Jvm.MethodName)) ∈ lw_all := lw_g (lw_at lw_m11 110 rfl) rfl
theorem q2737 : (Jvm.Cond.code ({ cls := "RingHouse", name := "run", desc := "(I)I" } : Jvm.MethodName) prog_1_method_43_code (5 : Nat) (Option.some Jvm.ClassFile.FieldType.int)) ∈ lw_all := lw_g (lw_at lw_m11 111 rfl) rfl
theorem q2738 : (Jvm.Cond.constantLong "RingHouse" (350 : Nat) (2000 : Int64)) ∈ lw_all := lw_g (lw_at lw_m11 112 rfl) rfl
theorem q2740 : (Jvm.Cond.instanceMethod ({ cls := "RingHouse", name := "register", desc := "(II)J" } : Jvm.MethodName)) ∈ lw_all := lw_g (lw_at lw_m11 114 rfl) rfl
theorem q2741 : (Jvm.Cond.selects "RingHouse" ({ cls := "RingHouse", name := "register", desc := "(II)J" } : Jvm.MethodName) ({ cls := "RingHouse", name := "register", desc := "(II)J" } : Jvm.MethodName)) ∈ lw_all := lw_g (lw_at lw_m11 115 rfl) rfl
theorem q2742 : (Jvm.Cond.code ({ cls := "RingHouse", name := "register", desc := "(II)J" } : Jvm.MethodName) prog_1_method_44_code (5 : Nat) (Option.some Jvm.ClassFile.FieldType.long)) ∈ lw_all := lw_g (lw_at lw_m11 116 rfl) rfl
theorem q2743 : (Jvm.Cond.constantLong "RingHouse" (364 : Nat) (23 : Int64)) ∈ lw_all := lw_g (lw_at lw_m11 117 rfl) rfl
theorem q2744 : (Jvm.Cond.methodLink "RingHouse" (366 : Nat) ({ cls := "RingHouse$Registers", name := "pointer", desc := "(I)J" } : Jvm.MethodName)) ∈ lw_all := lw_g (lw_at lw_m11 118 rfl) rfl
theorem q2746 : (Jvm.Cond.instanceMethod ({ cls := "RingHouse", name := "process", desc := "(II)I" } : Jvm.MethodName)) ∈ lw_all := lw_g (lw_at lw_m11 120 rfl) rfl
theorem q2747 : (Jvm.Cond.selects "RingHouse" ({ cls := "RingHouse", name := "process", desc := "(II)I" } : Jvm.MethodName) ({ cls := "RingHouse", name := "process", desc := "(II)I" } : Jvm.MethodName)) ∈ lw_all := lw_g (lw_at lw_m11 121 rfl) rfl
theorem q2748 : (Jvm.Cond.code ({ cls := "RingHouse", name := "process", desc := "(II)I" } : Jvm.MethodName) prog_1_method_45_code (5 : Nat) (Option.some Jvm.ClassFile.FieldType.int)) ∈ lw_all := lw_g (lw_at lw_m11 122 rfl) rfl
theorem q2749 : (Jvm.Cond.constantLong "RingHouse" (389 : Nat) (11 : Int64)) ∈ lw_all := lw_g (lw_at lw_m11 123 rfl) rfl
theorem q2751 : (Jvm.Cond.instanceMethod ({ cls := "RingHouse", name := "stack", desc := "(III)J" } : Jvm.MethodName)) ∈ lw_all := lw_g (lw_at lw_m11 125 rfl) rfl
theorem q2752 : (Jvm.Cond.selects "RingHouse" ({ cls := "RingHouse", name := "stack", desc := "(III)J" } : Jvm.MethodName) ({ cls := "RingHouse", name := "stack", desc := "(III)J" } : Jvm.MethodName)) ∈ lw_all := lw_g (lw_at lw_m11 126 rfl) rfl
theorem q2753 : (Jvm.Cond.code ({ cls := "RingHouse", name := "stack", desc := "(III)J" } : Jvm.MethodName) prog_1_method_46_code (5 : Nat) (Option.some Jvm.ClassFile.FieldType.long)) ∈ lw_all := lw_g (lw_at lw_m11 127 rfl) rfl
theorem q2755 : (Jvm.Cond.instanceMethod ({ cls := "RingHouse", name := "known", desc := "(II)I" } : Jvm.MethodName)) ∈ lw_all := lw_g (lw_at lw_m11 129 rfl) rfl
theorem q2756 : (Jvm.Cond.selects "RingHouse" ({ cls := "RingHouse", name := "known", desc := "(II)I" } : Jvm.MethodName) ({ cls := "RingHouse", name := "known", desc := "(II)I" } : Jvm.MethodName)) ∈ lw_all := lw_g (lw_at lw_m11 130 rfl) rfl
theorem q2757 : (Jvm.Cond.code ({ cls := "RingHouse", name := "known", desc := "(II)I" } : Jvm.MethodName) prog_1_method_47_code (4 : Nat) (Option.some Jvm.ClassFile.FieldType.int)) ∈ lw_all := lw_g (lw_at lw_m11 131 rfl) rfl
theorem q2758 : (Jvm.Cond.methodLinkNest "RingHouse" (429 : Nat) ({ cls := "RingHouse$Machine", name := "isKnown", desc := "(LRingHouse$Process;J)Z" } : Jvm.MethodName) "RingHouse") ∈ lw_tbl := lw_at lw_m11 132 rfl
theorem q2760 : (Jvm.Cond.instanceMethod ({ cls := "RingHouse", name := "link", desc := "(III)J" } : Jvm.MethodName)) ∈ lw_all := lw_g (lw_at lw_m11 134 rfl) rfl
theorem q2761 : (Jvm.Cond.selects "RingHouse" ({ cls := "RingHouse", name := "link", desc := "(III)J" } : Jvm.MethodName) ({ cls := "RingHouse", name := "link", desc := "(III)J" } : Jvm.MethodName)) ∈ lw_all := lw_g (lw_at lw_m11 135 rfl) rfl
theorem q2762 : (Jvm.Cond.code ({ cls := "RingHouse", name := "link", desc := "(III)J" } : Jvm.MethodName) prog_1_method_48_code (5 : Nat) (Option.some Jvm.ClassFile.FieldType.long)) ∈ lw_all := lw_g (lw_at lw_m11 136 rfl) rfl
theorem q2763 : (Jvm.Cond.constantLong "RingHouse" (439 : Nat) (262144 : Int64)) ∈ lw_all := lw_g (lw_at lw_m11 137 rfl) rfl
theorem q2765 : (Jvm.Cond.instanceMethod ({ cls := "RingHouse", name := "event", desc := "(III)J" } : Jvm.MethodName)) ∈ lw_all := lw_g (lw_at lw_m11 139 rfl) rfl
theorem q2766 : (Jvm.Cond.selects "RingHouse" ({ cls := "RingHouse", name := "event", desc := "(III)J" } : Jvm.MethodName) ({ cls := "RingHouse", name := "event", desc := "(III)J" } : Jvm.MethodName)) ∈ lw_all := lw_g (lw_at lw_m11 140 rfl) rfl
theorem q2767 : (Jvm.Cond.code ({ cls := "RingHouse", name := "event", desc := "(III)J" } : Jvm.MethodName) prog_1_method_49_code (5 : Nat) (Option.some Jvm.ClassFile.FieldType.long)) ∈ lw_all := lw_g (lw_at lw_m11 141 rfl) rfl
theorem q2768 : (Jvm.Cond.methodLink "RingHouse" (444 : Nat) ({ cls := "RingHouse$Trace", name := "has", desc := "(I)Z" } : Jvm.MethodName)) ∈ lw_all := lw_g (lw_at lw_m11 142 rfl) rfl
theorem q2773 : (Jvm.Cond.instanceMethod ({ cls := "RingHouse", name := "sum", desc := "(I)J" } : Jvm.MethodName)) ∈ lw_all := lw_g (lw_at lw_m11 147 rfl) rfl
theorem q2774 : (Jvm.Cond.selects "RingHouse" ({ cls := "RingHouse", name := "sum", desc := "(I)J" } : Jvm.MethodName) ({ cls := "RingHouse", name := "sum", desc := "(I)J" } : Jvm.MethodName)) ∈ lw_all := lw_g (lw_at lw_m11 148 rfl) rfl
theorem q2775 : (Jvm.Cond.code ({ cls := "RingHouse", name := "sum", desc := "(I)J" } : Jvm.MethodName) prog_1_method_50_code (3 : Nat) (Option.some Jvm.ClassFile.FieldType.long)) ∈ lw_all := lw_g (lw_at lw_m11 149 rfl) rfl
theorem q2777 : (Jvm.Cond.instanceMethod ({ cls := "RingHouse", name := "type", desc := "(JI)I" } : Jvm.MethodName)) ∈ lw_all := lw_g (lw_at lw_m11 151 rfl) rfl
theorem q2778 : (Jvm.Cond.selects "RingHouse" ({ cls := "RingHouse", name := "type", desc := "(JI)I" } : Jvm.MethodName) ({ cls := "RingHouse", name := "type", desc := "(JI)I" } : Jvm.MethodName)) ∈ lw_all := lw_g (lw_at lw_m11 152 rfl) rfl
theorem q2779 : (Jvm.Cond.code ({ cls := "RingHouse", name := "type", desc := "(JI)I" } : Jvm.MethodName) prog_1_method_51_code (5 : Nat) (Option.some Jvm.ClassFile.FieldType.int)) ∈ lw_all := lw_g (lw_at lw_m11 153 rfl) rfl
theorem q2781 : (Jvm.Cond.instanceMethod ({ cls := "RingHouse", name := "assemble", desc := "(I)I" } : Jvm.MethodName)) ∈ lw_all := lw_g (lw_at lw_m11 155 rfl) rfl
theorem q2782 : (Jvm.Cond.selects "RingHouse" ({ cls := "RingHouse", name := "assemble", desc := "(I)I" } : Jvm.MethodName) ({ cls := "RingHouse", name := "assemble", desc := "(I)I" } : Jvm.MethodName)) ∈ lw_all := lw_g (lw_at lw_m11 156 rfl) rfl
theorem q2783 : (Jvm.Cond.code ({ cls := "RingHouse", name := "assemble", desc := "(I)I" } : Jvm.MethodName) prog_1_method_52_code (4 : Nat) (Option.some Jvm.ClassFile.FieldType.int)) ∈ lw_all := lw_g (lw_at lw_m11 157 rfl) rfl
theorem q2784 : (Jvm.Cond.methodLink "RingHouse" (456 : Nat) ({ cls := "RingHouse$Assembler", name := "into", desc := "(LRingHouse$Node;)I" } : Jvm.MethodName)) ∈ lw_all := lw_g (lw_at lw_m11 158 rfl) rfl
theorem q2801 : (Jvm.Cond.static ({ cls := "RingHouse", name := "sign", desc := "(I)I" } : Jvm.MethodName)) ∈ lw_all := lw_g (lw_at lw_m11 175 rfl) rfl
theorem q2802 : (Jvm.Cond.code ({ cls := "RingHouse", name := "sign", desc := "(I)I" } : Jvm.MethodName) prog_1_method_17_code (1 : Nat) (Option.some Jvm.ClassFile.FieldType.int)) ∈ lw_all := lw_g (lw_at lw_m11 176 rfl) rfl
theorem q2988 : (Jvm.Cond.instanceMethod ({ cls := "RingHouse", name := "place", desc := "()I" } : Jvm.MethodName)) ∈ lw_all := lw_g (lw_at lw_m12 122 rfl) rfl
theorem q2989 : (Jvm.Cond.selects "RingHouse" ({ cls := "RingHouse", name := "place", desc := "()I" } : Jvm.MethodName) ({ cls := "RingHouse", name := "place", desc := "()I" } : Jvm.MethodName)) ∈ lw_all := lw_g (lw_at lw_m12 123 rfl) rfl
theorem q2990 : (Jvm.Cond.code ({ cls := "RingHouse", name := "place", desc := "()I" } : Jvm.MethodName) prog_1_method_53_code (1 : Nat) (Option.some Jvm.ClassFile.FieldType.int)) ∈ lw_all := lw_g (lw_at lw_m12 124 rfl) rfl
theorem q2992 : (Jvm.Cond.instanceMethod ({ cls := "RingHouse", name := "list", desc := "(J)I" } : Jvm.MethodName)) ∈ lw_all := lw_g (lw_at lw_m12 126 rfl) rfl
theorem q2993 : (Jvm.Cond.selects "RingHouse" ({ cls := "RingHouse", name := "list", desc := "(J)I" } : Jvm.MethodName) ({ cls := "RingHouse", name := "list", desc := "(J)I" } : Jvm.MethodName)) ∈ lw_all := lw_g (lw_at lw_m12 127 rfl) rfl
theorem q2994 : (Jvm.Cond.code ({ cls := "RingHouse", name := "list", desc := "(J)I" } : Jvm.MethodName) prog_1_method_54_code (3 : Nat) (Option.some Jvm.ClassFile.FieldType.int)) ∈ lw_all := lw_g (lw_at lw_m12 128 rfl) rfl
theorem q2995 : (Jvm.Cond.methodLink "RingHouse" (462 : Nat) ({ cls := "RingHouse$Lister", name := "list", desc := "(JLRingHouse$Decoded;)I" } : Jvm.MethodName)) ∈ lw_all := lw_g (lw_at lw_m12 129 rfl) rfl
theorem q3024 : (Jvm.Cond.instanceMethod ({ cls := "RingHouse", name := "listed", desc := "(I)I" } : Jvm.MethodName)) ∈ lw_all := lw_g (lw_at lw_m12 158 rfl) rfl
theorem q3025 : (Jvm.Cond.selects "RingHouse" ({ cls := "RingHouse", name := "listed", desc := "(I)I" } : Jvm.MethodName) ({ cls := "RingHouse", name := "listed", desc := "(I)I" } : Jvm.MethodName)) ∈ lw_all := lw_g (lw_at lw_m12 159 rfl) rfl
theorem q3026 : (Jvm.Cond.code ({ cls := "RingHouse", name := "listed", desc := "(I)I" } : Jvm.MethodName) prog_1_method_55_code (2 : Nat) (Option.some Jvm.ClassFile.FieldType.int)) ∈ lw_all := lw_g (lw_at lw_m12 160 rfl) rfl
theorem q3028 : (Jvm.Cond.instanceMethod ({ cls := "RingHouse", name := "dump", desc := "(I)I" } : Jvm.MethodName)) ∈ lw_all := lw_g (lw_at lw_m12 162 rfl) rfl
theorem q3029 : (Jvm.Cond.selects "RingHouse" ({ cls := "RingHouse", name := "dump", desc := "(I)I" } : Jvm.MethodName) ({ cls := "RingHouse", name := "dump", desc := "(I)I" } : Jvm.MethodName)) ∈ lw_all := lw_g (lw_at lw_m12 163 rfl) rfl
theorem q3030 : (Jvm.Cond.code ({ cls := "RingHouse", name := "dump", desc := "(I)I" } : Jvm.MethodName) prog_1_method_56_code (3 : Nat) (Option.some Jvm.ClassFile.FieldType.int)) ∈ lw_all := lw_g (lw_at lw_m12 164 rfl) rfl
theorem q3031 : (Jvm.Cond.methodLink "RingHouse" (471 : Nat) ({ cls := "RingHouse$Tape", name := "dump", desc := "(LRingHouse$Node;)I" } : Jvm.MethodName)) ∈ lw_all := lw_g (lw_at lw_m12 165 rfl) rfl
theorem q3062 : (Jvm.Cond.instanceMethod ({ cls := "RingHouse", name := "tape", desc := "(I)I" } : Jvm.MethodName)) ∈ lw_all := lw_g (lw_at lw_m12 196 rfl) rfl
theorem q3063 : (Jvm.Cond.selects "RingHouse" ({ cls := "RingHouse", name := "tape", desc := "(I)I" } : Jvm.MethodName) ({ cls := "RingHouse", name := "tape", desc := "(I)I" } : Jvm.MethodName)) ∈ lw_all := lw_g (lw_at lw_m12 197 rfl) rfl
theorem q3064 : (Jvm.Cond.code ({ cls := "RingHouse", name := "tape", desc := "(I)I" } : Jvm.MethodName) prog_1_method_57_code (2 : Nat) (Option.some Jvm.ClassFile.FieldType.int)) ∈ lw_all := lw_g (lw_at lw_m12 198 rfl) rfl
theorem q3066 : (Jvm.Cond.instanceMethod ({ cls := "RingHouse", name := "alter", desc := "(II)I" } : Jvm.MethodName)) ∈ lw_all := lw_g (lw_at lw_m12 200 rfl) rfl
theorem q3067 : (Jvm.Cond.selects "RingHouse" ({ cls := "RingHouse", name := "alter", desc := "(II)I" } : Jvm.MethodName) ({ cls := "RingHouse", name := "alter", desc := "(II)I" } : Jvm.MethodName)) ∈ lw_all := lw_g (lw_at lw_m12 201 rfl) rfl
theorem q3068 : (Jvm.Cond.code ({ cls := "RingHouse", name := "alter", desc := "(II)I" } : Jvm.MethodName) prog_1_method_58_code (3 : Nat) (Option.some Jvm.ClassFile.FieldType.int)) ∈ lw_all := lw_g (lw_at lw_m12 202 rfl) rfl
theorem q3069 : (Jvm.Cond.constant "RingHouse" (479 : Nat) (98304 : Int32)) ∈ lw_all := lw_g (lw_at lw_m12 203 rfl) rfl
theorem q3071 : (Jvm.Cond.instanceMethod ({ cls := "RingHouse", name := "cut", desc := "(I)I" } : Jvm.MethodName)) ∈ lw_all := lw_g (lw_at lw_m12 205 rfl) rfl
theorem q3072 : (Jvm.Cond.selects "RingHouse" ({ cls := "RingHouse", name := "cut", desc := "(I)I" } : Jvm.MethodName) ({ cls := "RingHouse", name := "cut", desc := "(I)I" } : Jvm.MethodName)) ∈ lw_all := lw_g (lw_at lw_m12 206 rfl) rfl
theorem q3073 : (Jvm.Cond.code ({ cls := "RingHouse", name := "cut", desc := "(I)I" } : Jvm.MethodName) prog_1_method_59_code (3 : Nat) (Option.some Jvm.ClassFile.FieldType.int)) ∈ lw_all := lw_g (lw_at lw_m12 207 rfl) rfl
theorem q3075 : (Jvm.Cond.instanceMethod ({ cls := "RingHouse", name := "reload", desc := "(IJ)I" } : Jvm.MethodName)) ∈ lw_all := lw_g (lw_at lw_m12 209 rfl) rfl
theorem q3076 : (Jvm.Cond.selects "RingHouse" ({ cls := "RingHouse", name := "reload", desc := "(IJ)I" } : Jvm.MethodName) ({ cls := "RingHouse", name := "reload", desc := "(IJ)I" } : Jvm.MethodName)) ∈ lw_all := lw_g (lw_at lw_m12 210 rfl) rfl
theorem q3077 : (Jvm.Cond.code ({ cls := "RingHouse", name := "reload", desc := "(IJ)I" } : Jvm.MethodName) prog_1_method_60_code (6 : Nat) (Option.some Jvm.ClassFile.FieldType.int)) ∈ lw_all := lw_g (lw_at lw_m12 211 rfl) rfl
theorem q3078 : (Jvm.Cond.methodLink "RingHouse" (480 : Nat) ({ cls := "RingHouse$Tape", name := "reload", desc := "(LRingHouse$Node;J)I" } : Jvm.MethodName)) ∈ lw_all := lw_g (lw_at lw_m12 212 rfl) rfl
theorem q3087 : (Jvm.Cond.laysStatic "RingHouse" "HEAD" "[I") ∈ lw_tbl := lw_at lw_m12 221 rfl
theorem q3161 : (Jvm.Cond.instanceMethod ({ cls := "RingHouse", name := "count", desc := "(I)I" } : Jvm.MethodName)) ∈ lw_all := lw_g (lw_at lw_m13 55 rfl) rfl
theorem q3162 : (Jvm.Cond.selects "RingHouse" ({ cls := "RingHouse", name := "count", desc := "(I)I" } : Jvm.MethodName) ({ cls := "RingHouse", name := "count", desc := "(I)I" } : Jvm.MethodName)) ∈ lw_all := lw_g (lw_at lw_m13 56 rfl) rfl
theorem q3163 : (Jvm.Cond.code ({ cls := "RingHouse", name := "count", desc := "(I)I" } : Jvm.MethodName) prog_1_method_61_code (4 : Nat) (Option.some Jvm.ClassFile.FieldType.int)) ∈ lw_all := lw_g (lw_at lw_m13 57 rfl) rfl
theorem in_X0 : ∀ w ∈ wsX00, w ∈ lw_all := lw_in wsX00 [1800, 1802, 1804, 1806, 1808, 1810, 1812, 1814, 1816, 1818] (by decide +kernel) (by decide +kernel)
/-! RingHouse$Tree -/
def RX1 : String := "RingHouse$Tree"
def TX1 : u_T := fun k => match k with
  | 0 => ("RingHouse$Tree", "nodes", "[LRingHouse$Node;", true)
  | 1 => ("RingHouse$Tree", "index", "LRingHouse$Index;", true)
  | 2 => ("RingHouse$Tree", "store", "LRingHouse$Store;", true)
  | 3 => ("RingHouse$Tree", "boxes", "[LRingHouse$Box;", true)
  | 4 => ("RingHouse$Tree", "freeBoxes", "I", false)
  | 5 => ("RingHouse$Tree", "root", "LRingHouse$Node;", true)
  | 6 => ("RingHouse$Tree", "many", "I", false)
  | 7 => ("RingHouse$Tree", "version", "I", false)
  | _ => ("RingHouse$Tree", "processes", "[LRingHouse$Process;", false)
def tyX1 : Nat → FieldType := fun k => match k with
  | 0 => .array (.object "RingHouse$Node")
  | 1 => .object "RingHouse$Index"
  | 2 => .object "RingHouse$Store"
  | 3 => .array (.object "RingHouse$Box")
  | 4 => .int
  | 5 => .object "RingHouse$Node"
  | 6 => .int
  | 7 => .int
  | _ => .array (.object "RingHouse$Process")
abbrev wsX10 : List Cond := u_ws RX1 TX1 9
theorem nmX1 : ∀ a, a < 9 → ∀ b, b < 9 → a ≠ b → (TX1 a).2.1 ≠ (TX1 b).2.1 := by decide +kernel
theorem tyX1_ok : ∀ k, k < 9 → parseFieldDescriptor (TX1 k).2.2.1 = some (tyX1 k) := by decide +kernel
abbrev cX1_init : ByteArray := prog_67_method_1_code
def yX1_init : MethodName := ⟨RX1, "<init>", "()V"⟩
abbrev cX1_directory : ByteArray := prog_67_method_3_code
def yX1_directory : MethodName := ⟨RX1, "directory", "(I)LRingHouse$Node;"⟩
abbrev cX1_node : ByteArray := prog_67_method_2_code
def yX1_node : MethodName := ⟨RX1, "node", "(I)LRingHouse$Node;"⟩
abbrev cX1_bears : ByteArray := prog_67_method_8_code
def yX1_bears : MethodName := ⟨RX1, "bears", "(LRingHouse$Node;I)Z"⟩
abbrev cX1_account : ByteArray := prog_67_method_7_code
def yX1_account : MethodName := ⟨RX1, "account", "(LRingHouse$Node;)LRingHouse$Node;"⟩
abbrev cX1_make : ByteArray := prog_67_method_10_code
def yX1_make : MethodName := ⟨RX1, "make", "(LRingHouse$Node;IJII)LRingHouse$Node;"⟩
abbrev cX1_free : ByteArray := prog_67_method_6_code
def yX1_free : MethodName := ⟨RX1, "free", "()LRingHouse$Node;"⟩
abbrev cX1_charge : ByteArray := prog_67_method_9_code
def yX1_charge : MethodName := ⟨RX1, "charge", "(LRingHouse$Node;I)V"⟩
abbrev cX1_resize : ByteArray := prog_67_method_11_code
def yX1_resize : MethodName := ⟨RX1, "resize", "(LRingHouse$Node;I)V"⟩
abbrev cX1_segment : ByteArray := prog_67_method_4_code
def yX1_segment : MethodName := ⟨RX1, "segment", "(I)LRingHouse$Node;"⟩
abbrev cX1_limit : ByteArray := prog_67_method_15_code
def yX1_limit : MethodName := ⟨RX1, "limit", "(LRingHouse$Node;I)Z"⟩
abbrev cX1_rename : ByteArray := prog_67_method_14_code
def yX1_rename : MethodName := ⟨RX1, "rename", "(LRingHouse$Node;J)V"⟩
abbrev cX1_remove : ByteArray := prog_67_method_16_code
def yX1_remove : MethodName := ⟨RX1, "remove", "(LRingHouse$Node;)I"⟩
abbrev cX1_get : ByteArray := prog_67_method_12_code
def yX1_get : MethodName := ⟨RX1, "get", "(LRingHouse$Node;I)J"⟩
abbrev cX1_put : ByteArray := prog_67_method_13_code
def yX1_put : MethodName := ⟨RX1, "put", "(LRingHouse$Node;IJ)V"⟩
abbrev cX1_mailbox : ByteArray := prog_67_method_5_code
def yX1_mailbox : MethodName := ⟨RX1, "mailbox", "(I)LRingHouse$Node;"⟩
theorem q228 : (Jvm.Cond.initialized "RingHouse$Tree") ∈ lw_all := lw_g (lw_at lw_m1 2 rfl) rfl
theorem q309 : (Jvm.Cond.instantiable "RingHouse$Tree" (9 : Nat)) ∈ lw_all := lw_g (lw_at lw_m1 83 rfl) rfl
theorem q311 : (Jvm.Cond.instanceMethod ({ cls := "RingHouse$Tree", name := "<init>", desc := "()V" } : Jvm.MethodName)) ∈ lw_all := lw_g (lw_at lw_m1 85 rfl) rfl
theorem q312 : (Jvm.Cond.code ({ cls := "RingHouse$Tree", name := "<init>", desc := "()V" } : Jvm.MethodName) prog_67_method_1_code (2 : Nat) (Option.none : Option Jvm.ClassFile.FieldType)) ∈ lw_all := lw_g (lw_at lw_m1 86 rfl) rfl
theorem q313 : (Jvm.Cond.methodLink "RingHouse$Tree" (3 : Nat) ({ cls := "java/lang/Object", name := "<init>", desc := "()V" } : Jvm.MethodName)) ∈ lw_all := lw_g (lw_at lw_m1 87 rfl) rfl
theorem q314 : (Jvm.Cond.classLink "RingHouse$Tree" (9 : Nat) "RingHouse$Node") ∈ lw_all := lw_g (lw_at lw_m1 88 rfl) rfl
theorem q316 : (Jvm.Cond.classLink "RingHouse$Tree" (17 : Nat) "RingHouse$Index") ∈ lw_all := lw_g (lw_at lw_m1 90 rfl) rfl
theorem q318 : (Jvm.Cond.methodLinkNest "RingHouse$Tree" (19 : Nat) ({ cls := "RingHouse$Index", name := "<init>", desc := "()V" } : Jvm.MethodName) "RingHouse") ∈ lw_tbl := lw_at lw_m1 92 rfl
theorem q327 : (Jvm.Cond.classLink "RingHouse$Tree" (24 : Nat) "RingHouse$Store") ∈ lw_all := lw_g (lw_at lw_m1 101 rfl) rfl
theorem q329 : (Jvm.Cond.methodLink "RingHouse$Tree" (26 : Nat) ({ cls := "RingHouse$Store", name := "<init>", desc := "()V" } : Jvm.MethodName)) ∈ lw_all := lw_g (lw_at lw_m1 103 rfl) rfl
theorem q345 : (Jvm.Cond.classLink "RingHouse$Tree" (31 : Nat) "RingHouse$Box") ∈ lw_all := lw_g (lw_at lw_m1 119 rfl) rfl
theorem q348 : (Jvm.Cond.methodLink "RingHouse$Tree" (47 : Nat) ({ cls := "RingHouse$Node", name := "<init>", desc := "(I)V" } : Jvm.MethodName)) ∈ lw_all := lw_g (lw_at lw_m1 122 rfl) rfl
theorem q379 : (Jvm.Cond.fieldLinkNest "RingHouse$Tree" (82 : Nat) "RingHouse$Node" "kind" "I" "RingHouse") ∈ lw_tbl := lw_at lw_m1 153 rfl
theorem q386 : (Jvm.Cond.fieldLinkNest "RingHouse$Tree" (174 : Nat) "RingHouse$Node" "name" "J" "RingHouse") ∈ lw_tbl := lw_at lw_m1 160 rfl
theorem q399 : (Jvm.Cond.fieldLinkNest "RingHouse$Tree" (99 : Nat) "RingHouse$Node" "parent" "LRingHouse$Node;" "RingHouse") ∈ lw_tbl := lw_at lw_m1 173 rfl
theorem q408 : (Jvm.Cond.fieldLinkNest "RingHouse$Tree" (66 : Nat) "RingHouse$Node" "acl" "LRingHouse$Acl;" "RingHouse") ∈ lw_tbl := lw_at lw_m1 182 rfl
theorem q446 : (Jvm.Cond.fieldLinkNest "RingHouse$Tree" (182 : Nat) "RingHouse$Node" "last" "LRingHouse$Node;" "RingHouse") ∈ lw_tbl := lw_at lw_m1 220 rfl
theorem q451 : (Jvm.Cond.fieldLinkNest "RingHouse$Tree" (63 : Nat) "RingHouse$Node" "limit" "I" "RingHouse") ∈ lw_tbl := lw_at lw_m1 225 rfl
theorem q457 : (Jvm.Cond.fieldLinkNest "RingHouse$Tree" (106 : Nat) "RingHouse$Node" "used" "I" "RingHouse") ∈ lw_tbl := lw_at lw_m1 231 rfl
theorem q468 : (Jvm.Cond.fieldLinkNest "RingHouse$Tree" (121 : Nat) "RingHouse$Node" "box" "LRingHouse$Box;" "RingHouse") ∈ lw_tbl := lw_at lw_m2 2 rfl
theorem q479 : (Jvm.Cond.fieldLinkNest "RingHouse$Tree" (143 : Nat) "RingHouse$Node" "length" "I" "RingHouse") ∈ lw_tbl := lw_at lw_m2 13 rfl
theorem q483 : (Jvm.Cond.fieldLinkNest "RingHouse$Tree" (150 : Nat) "RingHouse$Node" "map" "[I" "RingHouse") ∈ lw_tbl := lw_at lw_m2 17 rfl
theorem q534 : (Jvm.Cond.methodLinkNest "RingHouse$Tree" (50 : Nat) ({ cls := "RingHouse$Box", name := "<init>", desc := "()V" } : Jvm.MethodName) "RingHouse") ∈ lw_tbl := lw_at lw_m2 68 rfl
theorem q548 : (Jvm.Cond.fieldLinkNest "RingHouse$Tree" (125 : Nat) "RingHouse$Box" "letters" "I" "RingHouse") ∈ lw_tbl := lw_at lw_m2 82 rfl
theorem q557 : (Jvm.Cond.methodLink "RingHouse$Tree" (55 : Nat) ({ cls := "RingHouse$Node", name := "begin", desc := "(IJI)V" } : Jvm.MethodName)) ∈ lw_all := lw_g (lw_at lw_m2 91 rfl) rfl
theorem q569 : (Jvm.Cond.methodLink "RingHouse$Tree" (59 : Nat) ({ cls := "RingHouse$Node", name := "setBrackets", desc := "(III)V" } : Jvm.MethodName)) ∈ lw_all := lw_g (lw_at lw_m2 103 rfl) rfl
theorem q570 : (Jvm.Cond.methodLink "RingHouse$Tree" (70 : Nat) ({ cls := "RingHouse$Acl", name := "set", desc := "(III)I" } : Jvm.MethodName)) ∈ lw_all := lw_g (lw_at lw_m2 104 rfl) rfl
theorem q585 : (Jvm.Cond.fieldLink "RingHouse$Tree" (11 : Nat) "RingHouse$Tree" "nodes" "[LRingHouse$Node;") ∈ lw_all := lw_g (lw_at lw_m2 119 rfl) rfl
theorem q587 : (Jvm.Cond.fieldLink "RingHouse$Tree" (20 : Nat) "RingHouse$Tree" "index" "LRingHouse$Index;") ∈ lw_all := lw_g (lw_at lw_m2 121 rfl) rfl
theorem q592 : (Jvm.Cond.fieldLink "RingHouse$Tree" (27 : Nat) "RingHouse$Tree" "store" "LRingHouse$Store;") ∈ lw_all := lw_g (lw_at lw_m2 126 rfl) rfl
theorem q593 : (Jvm.Cond.fieldLink "RingHouse$Tree" (33 : Nat) "RingHouse$Tree" "boxes" "[LRingHouse$Box;") ∈ lw_all := lw_g (lw_at lw_m2 127 rfl) rfl
theorem q594 : (Jvm.Cond.fieldLink "RingHouse$Tree" (37 : Nat) "RingHouse$Tree" "freeBoxes" "I") ∈ lw_all := lw_g (lw_at lw_m2 128 rfl) rfl
theorem q595 : (Jvm.Cond.fieldLink "RingHouse$Tree" (51 : Nat) "RingHouse$Tree" "root" "LRingHouse$Node;") ∈ lw_all := lw_g (lw_at lw_m2 129 rfl) rfl
theorem q599 : (Jvm.Cond.fieldLink "RingHouse$Tree" (41 : Nat) "RingHouse$Tree" "many" "I") ∈ lw_all := lw_g (lw_at lw_m2 133 rfl) rfl
theorem q601 : (Jvm.Cond.fieldLink "RingHouse$Tree" (44 : Nat) "RingHouse$Tree" "version" "I") ∈ lw_all := lw_g (lw_at lw_m2 135 rfl) rfl
theorem q607 : (Jvm.Cond.fieldLink "RingHouse$Tree" (194 : Nat) "RingHouse$Tree" "processes" "[LRingHouse$Process;") ∈ lw_all := lw_g (lw_at lw_m2 141 rfl) rfl
theorem q609 : (Jvm.Cond.laysFinal "RingHouse$Tree" "RingHouse$Tree" "nodes" "[LRingHouse$Node;") ∈ lw_all := lw_g (lw_at lw_m2 143 rfl) rfl
theorem q610 : (Jvm.Cond.soleField "RingHouse$Tree" "nodes") ∈ lw_all := lw_g (lw_at lw_m2 144 rfl) rfl
theorem q611 : (Jvm.Cond.laysFinal "RingHouse$Tree" "RingHouse$Tree" "index" "LRingHouse$Index;") ∈ lw_all := lw_g (lw_at lw_m2 145 rfl) rfl
theorem q612 : (Jvm.Cond.soleField "RingHouse$Tree" "index") ∈ lw_all := lw_g (lw_at lw_m2 146 rfl) rfl
theorem q613 : (Jvm.Cond.laysFinal "RingHouse$Tree" "RingHouse$Tree" "store" "LRingHouse$Store;") ∈ lw_all := lw_g (lw_at lw_m2 147 rfl) rfl
theorem q614 : (Jvm.Cond.soleField "RingHouse$Tree" "store") ∈ lw_all := lw_g (lw_at lw_m2 148 rfl) rfl
theorem q615 : (Jvm.Cond.laysFinal "RingHouse$Tree" "RingHouse$Tree" "boxes" "[LRingHouse$Box;") ∈ lw_all := lw_g (lw_at lw_m2 149 rfl) rfl
theorem q616 : (Jvm.Cond.soleField "RingHouse$Tree" "boxes") ∈ lw_all := lw_g (lw_at lw_m2 150 rfl) rfl
theorem q617 : (Jvm.Cond.lays "RingHouse$Tree" "RingHouse$Tree" "freeBoxes" "I") ∈ lw_all := lw_g (lw_at lw_m2 151 rfl) rfl
theorem q618 : (Jvm.Cond.soleField "RingHouse$Tree" "freeBoxes") ∈ lw_all := lw_g (lw_at lw_m2 152 rfl) rfl
theorem q619 : (Jvm.Cond.laysFinal "RingHouse$Tree" "RingHouse$Tree" "root" "LRingHouse$Node;") ∈ lw_all := lw_g (lw_at lw_m2 153 rfl) rfl
theorem q620 : (Jvm.Cond.soleField "RingHouse$Tree" "root") ∈ lw_all := lw_g (lw_at lw_m2 154 rfl) rfl
theorem q621 : (Jvm.Cond.lays "RingHouse$Tree" "RingHouse$Tree" "many" "I") ∈ lw_all := lw_g (lw_at lw_m2 155 rfl) rfl
theorem q622 : (Jvm.Cond.soleField "RingHouse$Tree" "many") ∈ lw_all := lw_g (lw_at lw_m2 156 rfl) rfl
theorem q623 : (Jvm.Cond.lays "RingHouse$Tree" "RingHouse$Tree" "version" "I") ∈ lw_all := lw_g (lw_at lw_m2 157 rfl) rfl
theorem q624 : (Jvm.Cond.soleField "RingHouse$Tree" "version") ∈ lw_all := lw_g (lw_at lw_m2 158 rfl) rfl
theorem q625 : (Jvm.Cond.lays "RingHouse$Tree" "RingHouse$Tree" "processes" "[LRingHouse$Process;") ∈ lw_all := lw_g (lw_at lw_m2 159 rfl) rfl
theorem q626 : (Jvm.Cond.soleField "RingHouse$Tree" "processes") ∈ lw_all := lw_g (lw_at lw_m2 160 rfl) rfl
theorem q627 : (Jvm.Cond.superclass "RingHouse$Tree" "java/lang/Object") ∈ lw_all := lw_g (lw_at lw_m2 161 rfl) rfl
theorem q1826 : (Jvm.Cond.instanceMethod ({ cls := "RingHouse$Tree", name := "directory", desc := "(I)LRingHouse$Node;" } : Jvm.MethodName)) ∈ lw_all := lw_g (lw_at lw_m7 160 rfl) rfl
theorem q1827 : (Jvm.Cond.selects "RingHouse$Tree" ({ cls := "RingHouse$Tree", name := "directory", desc := "(I)LRingHouse$Node;" } : Jvm.MethodName) ({ cls := "RingHouse$Tree", name := "directory", desc := "(I)LRingHouse$Node;" } : Jvm.MethodName)) ∈ lw_all := lw_g (lw_at lw_m7 161 rfl) rfl
theorem q1828 : (Jvm.Cond.code ({ cls := "RingHouse$Tree", name := "directory", desc := "(I)LRingHouse$Node;" } : Jvm.MethodName) prog_67_method_3_code (3 : Nat) (Option.some (Jvm.ClassFile.FieldType.object "RingHouse$Node"))) ∈ lw_all := lw_g (lw_at lw_m7 162 rfl) rfl
theorem q1829 : (Jvm.Cond.methodLink "RingHouse$Tree" (85 : Nat) ({ cls := "RingHouse$Tree", name := "node", desc := "(I)LRingHouse$Node;" } : Jvm.MethodName)) ∈ lw_all := lw_g (lw_at lw_m7 163 rfl) rfl
theorem q1830 : (Jvm.Cond.instanceMethod ({ cls := "RingHouse$Tree", name := "node", desc := "(I)LRingHouse$Node;" } : Jvm.MethodName)) ∈ lw_all := lw_g (lw_at lw_m7 164 rfl) rfl
theorem q1831 : (Jvm.Cond.selects "RingHouse$Tree" ({ cls := "RingHouse$Tree", name := "node", desc := "(I)LRingHouse$Node;" } : Jvm.MethodName) ({ cls := "RingHouse$Tree", name := "node", desc := "(I)LRingHouse$Node;" } : Jvm.MethodName)) ∈ lw_all := lw_g (lw_at lw_m7 165 rfl) rfl
theorem q1832 : (Jvm.Cond.code ({ cls := "RingHouse$Tree", name := "node", desc := "(I)LRingHouse$Node;" } : Jvm.MethodName) prog_67_method_2_code (2 : Nat) (Option.some (Jvm.ClassFile.FieldType.object "RingHouse$Node"))) ∈ lw_all := lw_g (lw_at lw_m7 166 rfl) rfl
theorem q1833 : (Jvm.Cond.constantLong "RingHouse$Tree" (76 : Nat) (255 : Int64)) ∈ lw_all := lw_g (lw_at lw_m7 167 rfl) rfl
theorem q1834 : (Jvm.Cond.methodLinkNest "RingHouse$Tree" (78 : Nat) ({ cls := "RingHouse", name := "isIn", desc := "(JJJ)Z" } : Jvm.MethodName) "RingHouse") ∈ lw_tbl := lw_at lw_m7 168 rfl
theorem q1837 : (Jvm.Cond.methodLink "RingHouse$Tree" (89 : Nat) ({ cls := "RingHouse$Node", name := "isDirectory", desc := "()Z" } : Jvm.MethodName)) ∈ lw_all := lw_g (lw_at lw_m7 171 rfl) rfl
theorem q1876 : (Jvm.Cond.instanceMethod ({ cls := "RingHouse$Tree", name := "bears", desc := "(LRingHouse$Node;I)Z" } : Jvm.MethodName)) ∈ lw_all := lw_g (lw_at lw_m7 210 rfl) rfl
theorem q1877 : (Jvm.Cond.selects "RingHouse$Tree" ({ cls := "RingHouse$Tree", name := "bears", desc := "(LRingHouse$Node;I)Z" } : Jvm.MethodName) ({ cls := "RingHouse$Tree", name := "bears", desc := "(LRingHouse$Node;I)Z" } : Jvm.MethodName)) ∈ lw_all := lw_g (lw_at lw_m7 211 rfl) rfl
theorem q1878 : (Jvm.Cond.code ({ cls := "RingHouse$Tree", name := "bears", desc := "(LRingHouse$Node;I)Z" } : Jvm.MethodName) prog_67_method_8_code (4 : Nat) (Option.some Jvm.ClassFile.FieldType.boolean)) ∈ lw_all := lw_g (lw_at lw_m7 212 rfl) rfl
theorem q1879 : (Jvm.Cond.methodLink "RingHouse$Tree" (102 : Nat) ({ cls := "RingHouse$Tree", name := "account", desc := "(LRingHouse$Node;)LRingHouse$Node;" } : Jvm.MethodName)) ∈ lw_all := lw_g (lw_at lw_m7 213 rfl) rfl
theorem q1880 : (Jvm.Cond.instanceMethod ({ cls := "RingHouse$Tree", name := "account", desc := "(LRingHouse$Node;)LRingHouse$Node;" } : Jvm.MethodName)) ∈ lw_all := lw_g (lw_at lw_m7 214 rfl) rfl
theorem q1881 : (Jvm.Cond.selects "RingHouse$Tree" ({ cls := "RingHouse$Tree", name := "account", desc := "(LRingHouse$Node;)LRingHouse$Node;" } : Jvm.MethodName) ({ cls := "RingHouse$Tree", name := "account", desc := "(LRingHouse$Node;)LRingHouse$Node;" } : Jvm.MethodName)) ∈ lw_all := lw_g (lw_at lw_m7 215 rfl) rfl
theorem q1882 : (Jvm.Cond.code ({ cls := "RingHouse$Tree", name := "account", desc := "(LRingHouse$Node;)LRingHouse$Node;" } : Jvm.MethodName) prog_67_method_7_code (3 : Nat) (Option.some (Jvm.ClassFile.FieldType.object "RingHouse$Node"))) ∈ lw_all := lw_g (lw_at lw_m7 216 rfl) rfl
theorem q1884 : (Jvm.Cond.instanceMethod ({ cls := "RingHouse$Tree", name := "make", desc := "(LRingHouse$Node;IJII)LRingHouse$Node;" } : Jvm.MethodName)) ∈ lw_all := lw_g (lw_at lw_m7 218 rfl) rfl
theorem q1885 : (Jvm.Cond.selects "RingHouse$Tree" ({ cls := "RingHouse$Tree", name := "make", desc := "(LRingHouse$Node;IJII)LRingHouse$Node;" } : Jvm.MethodName) ({ cls := "RingHouse$Tree", name := "make", desc := "(LRingHouse$Node;IJII)LRingHouse$Node;" } : Jvm.MethodName)) ∈ lw_all := lw_g (lw_at lw_m7 219 rfl) rfl
theorem q1886 : (Jvm.Cond.code ({ cls := "RingHouse$Tree", name := "make", desc := "(LRingHouse$Node;IJII)LRingHouse$Node;" } : Jvm.MethodName) prog_67_method_10_code (8 : Nat) (Option.some (Jvm.ClassFile.FieldType.object "RingHouse$Node"))) ∈ lw_all := lw_g (lw_at lw_m7 220 rfl) rfl
theorem q1887 : (Jvm.Cond.methodLink "RingHouse$Tree" (109 : Nat) ({ cls := "RingHouse$Tree", name := "free", desc := "()LRingHouse$Node;" } : Jvm.MethodName)) ∈ lw_all := lw_g (lw_at lw_m7 221 rfl) rfl
theorem q1888 : (Jvm.Cond.privateMethod ({ cls := "RingHouse$Tree", name := "free", desc := "()LRingHouse$Node;" } : Jvm.MethodName)) ∈ lw_tbl := lw_at lw_m7 222 rfl
theorem q1889 : (Jvm.Cond.instanceMethod ({ cls := "RingHouse$Tree", name := "free", desc := "()LRingHouse$Node;" } : Jvm.MethodName)) ∈ lw_all := lw_g (lw_at lw_m7 223 rfl) rfl
theorem q1890 : (Jvm.Cond.code ({ cls := "RingHouse$Tree", name := "free", desc := "()LRingHouse$Node;" } : Jvm.MethodName) prog_67_method_6_code (2 : Nat) (Option.some (Jvm.ClassFile.FieldType.object "RingHouse$Node"))) ∈ lw_all := lw_g (lw_at lw_m7 224 rfl) rfl
theorem q1891 : (Jvm.Cond.methodLink "RingHouse$Tree" (113 : Nat) ({ cls := "RingHouse$Node", name := "initial", desc := "(I)LRingHouse$Acl;" } : Jvm.MethodName)) ∈ lw_all := lw_g (lw_at lw_m7 225 rfl) rfl
theorem q1895 : (Jvm.Cond.methodLink "RingHouse$Tree" (117 : Nat) ({ cls := "RingHouse$Acl", name := "take", desc := "(LRingHouse$Acl;)V" } : Jvm.MethodName)) ∈ lw_all := lw_g (lw_at lw_m7 229 rfl) rfl
theorem q1908 : (Jvm.Cond.methodLink "RingHouse$Tree" (128 : Nat) ({ cls := "RingHouse$Node", name := "append", desc := "(LRingHouse$Node;)V" } : Jvm.MethodName)) ∈ lw_all := lw_g (lw_at lw_m8 2 rfl) rfl
theorem q1912 : (Jvm.Cond.methodLink "RingHouse$Tree" (132 : Nat) ({ cls := "RingHouse$Index", name := "add", desc := "(LRingHouse$Node;)V" } : Jvm.MethodName)) ∈ lw_all := lw_g (lw_at lw_m8 6 rfl) rfl
theorem q1916 : (Jvm.Cond.methodLink "RingHouse$Tree" (135 : Nat) ({ cls := "RingHouse$Node", name := "cost", desc := "()I" } : Jvm.MethodName)) ∈ lw_all := lw_g (lw_at lw_m8 10 rfl) rfl
theorem q1931 : (Jvm.Cond.methodLink "RingHouse$Tree" (139 : Nat) ({ cls := "RingHouse$Tree", name := "charge", desc := "(LRingHouse$Node;I)V" } : Jvm.MethodName)) ∈ lw_all := lw_g (lw_at lw_m8 25 rfl) rfl
theorem q1932 : (Jvm.Cond.privateMethod ({ cls := "RingHouse$Tree", name := "charge", desc := "(LRingHouse$Node;I)V" } : Jvm.MethodName)) ∈ lw_tbl := lw_at lw_m8 26 rfl
theorem q1933 : (Jvm.Cond.instanceMethod ({ cls := "RingHouse$Tree", name := "charge", desc := "(LRingHouse$Node;I)V" } : Jvm.MethodName)) ∈ lw_all := lw_g (lw_at lw_m8 27 rfl) rfl
theorem q1934 : (Jvm.Cond.code ({ cls := "RingHouse$Tree", name := "charge", desc := "(LRingHouse$Node;I)V" } : Jvm.MethodName) prog_67_method_9_code (3 : Nat) (Option.none : Option Jvm.ClassFile.FieldType)) ∈ lw_all := lw_g (lw_at lw_m8 28 rfl) rfl
theorem q1946 : (Jvm.Cond.instanceMethod ({ cls := "RingHouse$Tree", name := "resize", desc := "(LRingHouse$Node;I)V" } : Jvm.MethodName)) ∈ lw_all := lw_g (lw_at lw_m8 40 rfl) rfl
theorem q1947 : (Jvm.Cond.selects "RingHouse$Tree" ({ cls := "RingHouse$Tree", name := "resize", desc := "(LRingHouse$Node;I)V" } : Jvm.MethodName) ({ cls := "RingHouse$Tree", name := "resize", desc := "(LRingHouse$Node;I)V" } : Jvm.MethodName)) ∈ lw_all := lw_g (lw_at lw_m8 41 rfl) rfl
theorem q1948 : (Jvm.Cond.code ({ cls := "RingHouse$Tree", name := "resize", desc := "(LRingHouse$Node;I)V" } : Jvm.MethodName) prog_67_method_11_code (6 : Nat) (Option.none : Option Jvm.ClassFile.FieldType)) ∈ lw_all := lw_g (lw_at lw_m8 42 rfl) rfl
theorem q1949 : (Jvm.Cond.methodLinkNest "RingHouse$Tree" (146 : Nat) ({ cls := "RingHouse", name := "records", desc := "(I)I" } : Jvm.MethodName) "RingHouse") ∈ lw_tbl := lw_at lw_m8 43 rfl
theorem q1950 : (Jvm.Cond.methodLink "RingHouse$Tree" (154 : Nat) ({ cls := "RingHouse$Store", name := "give", desc := "(I)V" } : Jvm.MethodName)) ∈ lw_all := lw_g (lw_at lw_m8 44 rfl) rfl
theorem q1954 : (Jvm.Cond.methodLink "RingHouse$Tree" (157 : Nat) ({ cls := "RingHouse$Store", name := "clear", desc := "(II)V" } : Jvm.MethodName)) ∈ lw_all := lw_g (lw_at lw_m8 48 rfl) rfl
theorem q1958 : (Jvm.Cond.methodLink "RingHouse$Tree" (161 : Nat) ({ cls := "RingHouse$Store", name := "take", desc := "()I" } : Jvm.MethodName)) ∈ lw_all := lw_g (lw_at lw_m8 52 rfl) rfl
theorem q1999 : (Jvm.Cond.instanceMethod ({ cls := "RingHouse$Tree", name := "segment", desc := "(I)LRingHouse$Node;" } : Jvm.MethodName)) ∈ lw_all := lw_g (lw_at lw_m8 93 rfl) rfl
theorem q2000 : (Jvm.Cond.selects "RingHouse$Tree" ({ cls := "RingHouse$Tree", name := "segment", desc := "(I)LRingHouse$Node;" } : Jvm.MethodName) ({ cls := "RingHouse$Tree", name := "segment", desc := "(I)LRingHouse$Node;" } : Jvm.MethodName)) ∈ lw_all := lw_g (lw_at lw_m8 94 rfl) rfl
theorem q2001 : (Jvm.Cond.code ({ cls := "RingHouse$Tree", name := "segment", desc := "(I)LRingHouse$Node;" } : Jvm.MethodName) prog_67_method_4_code (3 : Nat) (Option.some (Jvm.ClassFile.FieldType.object "RingHouse$Node"))) ∈ lw_all := lw_g (lw_at lw_m8 95 rfl) rfl
theorem q2002 : (Jvm.Cond.methodLink "RingHouse$Tree" (93 : Nat) ({ cls := "RingHouse$Node", name := "isSegment", desc := "()Z" } : Jvm.MethodName)) ∈ lw_all := lw_g (lw_at lw_m8 96 rfl) rfl
theorem q2012 : (Jvm.Cond.instanceMethod ({ cls := "RingHouse$Tree", name := "limit", desc := "(LRingHouse$Node;I)Z" } : Jvm.MethodName)) ∈ lw_all := lw_g (lw_at lw_m8 106 rfl) rfl
theorem q2013 : (Jvm.Cond.selects "RingHouse$Tree" ({ cls := "RingHouse$Tree", name := "limit", desc := "(LRingHouse$Node;I)Z" } : Jvm.MethodName) ({ cls := "RingHouse$Tree", name := "limit", desc := "(LRingHouse$Node;I)Z" } : Jvm.MethodName)) ∈ lw_all := lw_g (lw_at lw_m8 107 rfl) rfl
theorem q2014 : (Jvm.Cond.code ({ cls := "RingHouse$Tree", name := "limit", desc := "(LRingHouse$Node;I)Z" } : Jvm.MethodName) prog_67_method_15_code (3 : Nat) (Option.some Jvm.ClassFile.FieldType.boolean)) ∈ lw_all := lw_g (lw_at lw_m8 108 rfl) rfl
theorem q2015 : (Jvm.Cond.methodLink "RingHouse$Tree" (178 : Nat) ({ cls := "RingHouse$Tree", name := "bears", desc := "(LRingHouse$Node;I)Z" } : Jvm.MethodName)) ∈ lw_all := lw_g (lw_at lw_m8 109 rfl) rfl
theorem q2022 : (Jvm.Cond.instanceMethod ({ cls := "RingHouse$Tree", name := "rename", desc := "(LRingHouse$Node;J)V" } : Jvm.MethodName)) ∈ lw_all := lw_g (lw_at lw_m8 116 rfl) rfl
theorem q2023 : (Jvm.Cond.selects "RingHouse$Tree" ({ cls := "RingHouse$Tree", name := "rename", desc := "(LRingHouse$Node;J)V" } : Jvm.MethodName) ({ cls := "RingHouse$Tree", name := "rename", desc := "(LRingHouse$Node;J)V" } : Jvm.MethodName)) ∈ lw_all := lw_g (lw_at lw_m8 117 rfl) rfl
theorem q2024 : (Jvm.Cond.code ({ cls := "RingHouse$Tree", name := "rename", desc := "(LRingHouse$Node;J)V" } : Jvm.MethodName) prog_67_method_14_code (4 : Nat) (Option.none : Option Jvm.ClassFile.FieldType)) ∈ lw_all := lw_g (lw_at lw_m8 118 rfl) rfl
theorem q2025 : (Jvm.Cond.methodLink "RingHouse$Tree" (171 : Nat) ({ cls := "RingHouse$Index", name := "remove", desc := "(LRingHouse$Node;)V" } : Jvm.MethodName)) ∈ lw_all := lw_g (lw_at lw_m8 119 rfl) rfl
theorem q2034 : (Jvm.Cond.instanceMethod ({ cls := "RingHouse$Tree", name := "remove", desc := "(LRingHouse$Node;)I" } : Jvm.MethodName)) ∈ lw_all := lw_g (lw_at lw_m8 128 rfl) rfl
theorem q2035 : (Jvm.Cond.selects "RingHouse$Tree" ({ cls := "RingHouse$Tree", name := "remove", desc := "(LRingHouse$Node;)I" } : Jvm.MethodName) ({ cls := "RingHouse$Tree", name := "remove", desc := "(LRingHouse$Node;)I" } : Jvm.MethodName)) ∈ lw_all := lw_g (lw_at lw_m8 129 rfl) rfl
theorem q2036 : (Jvm.Cond.code ({ cls := "RingHouse$Tree", name := "remove", desc := "(LRingHouse$Node;)I" } : Jvm.MethodName) prog_67_method_16_code (7 : Nat) (Option.some Jvm.ClassFile.FieldType.int)) ∈ lw_all := lw_g (lw_at lw_m8 130 rfl) rfl
theorem q2037 : (Jvm.Cond.methodLink "RingHouse$Tree" (185 : Nat) ({ cls := "RingHouse$Tree", name := "remove", desc := "(LRingHouse$Node;)I" } : Jvm.MethodName)) ∈ lw_all := lw_g (lw_at lw_m8 131 rfl) rfl
theorem q2038 : (Jvm.Cond.methodLink "RingHouse$Tree" (188 : Nat) ({ cls := "RingHouse$Tree", name := "resize", desc := "(LRingHouse$Node;I)V" } : Jvm.MethodName)) ∈ lw_all := lw_g (lw_at lw_m8 132 rfl) rfl
theorem q2039 : (Jvm.Cond.methodLink "RingHouse$Tree" (96 : Nat) ({ cls := "RingHouse$Node", name := "isMailbox", desc := "()Z" } : Jvm.MethodName)) ∈ lw_all := lw_g (lw_at lw_m8 133 rfl) rfl
theorem q2040 : (Jvm.Cond.methodLink "RingHouse$Tree" (191 : Nat) ({ cls := "RingHouse$Node", name := "detach", desc := "(LRingHouse$Node;)V" } : Jvm.MethodName)) ∈ lw_all := lw_g (lw_at lw_m8 134 rfl) rfl
theorem q2044 : (Jvm.Cond.methodLink "RingHouse$Tree" (198 : Nat) ({ cls := "RingHouse$Process", name := "loose", desc := "(LRingHouse$Node;)V" } : Jvm.MethodName)) ∈ lw_all := lw_g (lw_at lw_m8 138 rfl) rfl
theorem q2086 : (Jvm.Cond.instanceMethod ({ cls := "RingHouse$Tree", name := "get", desc := "(LRingHouse$Node;I)J" } : Jvm.MethodName)) ∈ lw_all := lw_g (lw_at lw_m8 180 rfl) rfl
theorem q2087 : (Jvm.Cond.selects "RingHouse$Tree" ({ cls := "RingHouse$Tree", name := "get", desc := "(LRingHouse$Node;I)J" } : Jvm.MethodName) ({ cls := "RingHouse$Tree", name := "get", desc := "(LRingHouse$Node;I)J" } : Jvm.MethodName)) ∈ lw_all := lw_g (lw_at lw_m8 181 rfl) rfl
theorem q2088 : (Jvm.Cond.code ({ cls := "RingHouse$Tree", name := "get", desc := "(LRingHouse$Node;I)J" } : Jvm.MethodName) prog_67_method_12_code (3 : Nat) (Option.some Jvm.ClassFile.FieldType.long)) ∈ lw_all := lw_g (lw_at lw_m8 182 rfl) rfl
theorem q2089 : (Jvm.Cond.methodLink "RingHouse$Tree" (163 : Nat) ({ cls := "RingHouse$Store", name := "get", desc := "(II)J" } : Jvm.MethodName)) ∈ lw_all := lw_g (lw_at lw_m8 183 rfl) rfl
theorem q2098 : (Jvm.Cond.instanceMethod ({ cls := "RingHouse$Tree", name := "put", desc := "(LRingHouse$Node;IJ)V" } : Jvm.MethodName)) ∈ lw_all := lw_g (lw_at lw_m8 192 rfl) rfl
theorem q2099 : (Jvm.Cond.selects "RingHouse$Tree" ({ cls := "RingHouse$Tree", name := "put", desc := "(LRingHouse$Node;IJ)V" } : Jvm.MethodName) ({ cls := "RingHouse$Tree", name := "put", desc := "(LRingHouse$Node;IJ)V" } : Jvm.MethodName)) ∈ lw_all := lw_g (lw_at lw_m8 193 rfl) rfl
theorem q2100 : (Jvm.Cond.code ({ cls := "RingHouse$Tree", name := "put", desc := "(LRingHouse$Node;IJ)V" } : Jvm.MethodName) prog_67_method_13_code (5 : Nat) (Option.none : Option Jvm.ClassFile.FieldType)) ∈ lw_all := lw_g (lw_at lw_m8 194 rfl) rfl
theorem q2101 : (Jvm.Cond.methodLink "RingHouse$Tree" (167 : Nat) ({ cls := "RingHouse$Store", name := "put", desc := "(IIJ)V" } : Jvm.MethodName)) ∈ lw_all := lw_g (lw_at lw_m8 195 rfl) rfl
theorem q2110 : (Jvm.Cond.instanceMethod ({ cls := "RingHouse$Tree", name := "mailbox", desc := "(I)LRingHouse$Node;" } : Jvm.MethodName)) ∈ lw_all := lw_g (lw_at lw_m8 204 rfl) rfl
theorem q2111 : (Jvm.Cond.selects "RingHouse$Tree" ({ cls := "RingHouse$Tree", name := "mailbox", desc := "(I)LRingHouse$Node;" } : Jvm.MethodName) ({ cls := "RingHouse$Tree", name := "mailbox", desc := "(I)LRingHouse$Node;" } : Jvm.MethodName)) ∈ lw_all := lw_g (lw_at lw_m8 205 rfl) rfl
theorem q2112 : (Jvm.Cond.code ({ cls := "RingHouse$Tree", name := "mailbox", desc := "(I)LRingHouse$Node;" } : Jvm.MethodName) prog_67_method_5_code (3 : Nat) (Option.some (Jvm.ClassFile.FieldType.object "RingHouse$Node"))) ∈ lw_all := lw_g (lw_at lw_m8 206 rfl) rfl
theorem in_X1 : ∀ w ∈ wsX10, w ∈ lw_all := lw_in wsX10 [609, 611, 613, 615, 617, 619, 621, 623, 625] (by decide +kernel) (by decide +kernel)
/-! RingHouse$Index -/
def RX2 : String := "RingHouse$Index"
def TX2 : u_T := fun k => match k with
  | _ => ("RingHouse$Index", "buckets", "[LRingHouse$Node;", true)
def tyX2 : Nat → FieldType := fun k => match k with
  | _ => .array (.object "RingHouse$Node")
abbrev wsX20 : List Cond := u_ws RX2 TX2 1
theorem nmX2 : ∀ a, a < 1 → ∀ b, b < 1 → a ≠ b → (TX2 a).2.1 ≠ (TX2 b).2.1 := by decide +kernel
theorem tyX2_ok : ∀ k, k < 1 → parseFieldDescriptor (TX2 k).2.2.1 = some (tyX2 k) := by decide +kernel
abbrev cX2_init : ByteArray := prog_20_method_1_code
def yX2_init : MethodName := ⟨RX2, "<init>", "()V"⟩
abbrev cX2_find : ByteArray := prog_20_method_5_code
def yX2_find : MethodName := ⟨RX2, "find", "(LRingHouse$Node;J)LRingHouse$Node;"⟩
abbrev cX2_bucket : ByteArray := prog_20_method_2_code
def yX2_bucket : MethodName := ⟨RX2, "bucket", "(LRingHouse$Node;J)I"⟩
abbrev cX2_add : ByteArray := prog_20_method_3_code
def yX2_add : MethodName := ⟨RX2, "add", "(LRingHouse$Node;)V"⟩
abbrev cX2_remove : ByteArray := prog_20_method_4_code
def yX2_remove : MethodName := ⟨RX2, "remove", "(LRingHouse$Node;)V"⟩
theorem q229 : (Jvm.Cond.initialized "RingHouse$Index") ∈ lw_all := lw_g (lw_at lw_m1 3 rfl) rfl
theorem q317 : (Jvm.Cond.instantiable "RingHouse$Index" (1 : Nat)) ∈ lw_all := lw_g (lw_at lw_m1 91 rfl) rfl
theorem q319 : (Jvm.Cond.instanceMethod ({ cls := "RingHouse$Index", name := "<init>", desc := "()V" } : Jvm.MethodName)) ∈ lw_all := lw_g (lw_at lw_m1 93 rfl) rfl
theorem q320 : (Jvm.Cond.code ({ cls := "RingHouse$Index", name := "<init>", desc := "()V" } : Jvm.MethodName) prog_20_method_1_code (1 : Nat) (Option.none : Option Jvm.ClassFile.FieldType)) ∈ lw_all := lw_g (lw_at lw_m1 94 rfl) rfl
theorem q321 : (Jvm.Cond.methodLink "RingHouse$Index" (3 : Nat) ({ cls := "java/lang/Object", name := "<init>", desc := "()V" } : Jvm.MethodName)) ∈ lw_all := lw_g (lw_at lw_m1 95 rfl) rfl
theorem q322 : (Jvm.Cond.classLink "RingHouse$Index" (9 : Nat) "RingHouse$Node") ∈ lw_all := lw_g (lw_at lw_m1 96 rfl) rfl
theorem q323 : (Jvm.Cond.fieldLink "RingHouse$Index" (11 : Nat) "RingHouse$Index" "buckets" "[LRingHouse$Node;") ∈ lw_all := lw_g (lw_at lw_m1 97 rfl) rfl
theorem q324 : (Jvm.Cond.laysFinal "RingHouse$Index" "RingHouse$Index" "buckets" "[LRingHouse$Node;") ∈ lw_all := lw_g (lw_at lw_m1 98 rfl) rfl
theorem q325 : (Jvm.Cond.soleField "RingHouse$Index" "buckets") ∈ lw_all := lw_g (lw_at lw_m1 99 rfl) rfl
theorem q326 : (Jvm.Cond.superclass "RingHouse$Index" "java/lang/Object") ∈ lw_all := lw_g (lw_at lw_m1 100 rfl) rfl
theorem q372 : (Jvm.Cond.fieldLinkNest "RingHouse$Index" (19 : Nat) "RingHouse$Node" "number" "I" "RingHouse") ∈ lw_tbl := lw_at lw_m1 146 rfl
theorem q383 : (Jvm.Cond.fieldLinkNest "RingHouse$Index" (31 : Nat) "RingHouse$Node" "name" "J" "RingHouse") ∈ lw_tbl := lw_at lw_m1 157 rfl
theorem q397 : (Jvm.Cond.fieldLinkNest "RingHouse$Index" (27 : Nat) "RingHouse$Node" "parent" "LRingHouse$Node;" "RingHouse") ∈ lw_tbl := lw_at lw_m1 171 rfl
theorem q406 : (Jvm.Cond.fieldLinkNest "RingHouse$Index" (39 : Nat) "RingHouse$Node" "alike" "LRingHouse$Node;" "RingHouse") ∈ lw_tbl := lw_at lw_m1 180 rfl
theorem q1866 : (Jvm.Cond.instanceMethod ({ cls := "RingHouse$Index", name := "find", desc := "(LRingHouse$Node;J)LRingHouse$Node;" } : Jvm.MethodName)) ∈ lw_all := lw_g (lw_at lw_m7 200 rfl) rfl
theorem q1867 : (Jvm.Cond.selects "RingHouse$Index" ({ cls := "RingHouse$Index", name := "find", desc := "(LRingHouse$Node;J)LRingHouse$Node;" } : Jvm.MethodName) ({ cls := "RingHouse$Index", name := "find", desc := "(LRingHouse$Node;J)LRingHouse$Node;" } : Jvm.MethodName)) ∈ lw_all := lw_g (lw_at lw_m7 201 rfl) rfl
theorem q1868 : (Jvm.Cond.code ({ cls := "RingHouse$Index", name := "find", desc := "(LRingHouse$Node;J)LRingHouse$Node;" } : Jvm.MethodName) prog_20_method_5_code (5 : Nat) (Option.some (Jvm.ClassFile.FieldType.object "RingHouse$Node"))) ∈ lw_all := lw_g (lw_at lw_m7 202 rfl) rfl
theorem q1869 : (Jvm.Cond.methodLink "RingHouse$Index" (35 : Nat) ({ cls := "RingHouse$Index", name := "bucket", desc := "(LRingHouse$Node;J)I" } : Jvm.MethodName)) ∈ lw_all := lw_g (lw_at lw_m7 203 rfl) rfl
theorem q1870 : (Jvm.Cond.static ({ cls := "RingHouse$Index", name := "bucket", desc := "(LRingHouse$Node;J)I" } : Jvm.MethodName)) ∈ lw_all := lw_g (lw_at lw_m7 204 rfl) rfl
theorem q1871 : (Jvm.Cond.code ({ cls := "RingHouse$Index", name := "bucket", desc := "(LRingHouse$Node;J)I" } : Jvm.MethodName) prog_20_method_2_code (5 : Nat) (Option.some Jvm.ClassFile.FieldType.int)) ∈ lw_all := lw_g (lw_at lw_m7 205 rfl) rfl
theorem q1872 : (Jvm.Cond.constantLong "RingHouse$Index" (17 : Nat) (31 : Int64)) ∈ lw_all := lw_g (lw_at lw_m7 206 rfl) rfl
theorem q1873 : (Jvm.Cond.constantLong "RingHouse$Index" (23 : Nat) (7919 : Int64)) ∈ lw_all := lw_g (lw_at lw_m7 207 rfl) rfl
theorem q1874 : (Jvm.Cond.constantLong "RingHouse$Index" (25 : Nat) (255 : Int64)) ∈ lw_all := lw_g (lw_at lw_m7 208 rfl) rfl
theorem q1913 : (Jvm.Cond.instanceMethod ({ cls := "RingHouse$Index", name := "add", desc := "(LRingHouse$Node;)V" } : Jvm.MethodName)) ∈ lw_all := lw_g (lw_at lw_m8 7 rfl) rfl
theorem q1914 : (Jvm.Cond.selects "RingHouse$Index" ({ cls := "RingHouse$Index", name := "add", desc := "(LRingHouse$Node;)V" } : Jvm.MethodName) ({ cls := "RingHouse$Index", name := "add", desc := "(LRingHouse$Node;)V" } : Jvm.MethodName)) ∈ lw_all := lw_g (lw_at lw_m8 8 rfl) rfl
theorem q1915 : (Jvm.Cond.code ({ cls := "RingHouse$Index", name := "add", desc := "(LRingHouse$Node;)V" } : Jvm.MethodName) prog_20_method_3_code (3 : Nat) (Option.none : Option Jvm.ClassFile.FieldType)) ∈ lw_all := lw_g (lw_at lw_m8 9 rfl) rfl
theorem q2026 : (Jvm.Cond.instanceMethod ({ cls := "RingHouse$Index", name := "remove", desc := "(LRingHouse$Node;)V" } : Jvm.MethodName)) ∈ lw_all := lw_g (lw_at lw_m8 120 rfl) rfl
theorem q2027 : (Jvm.Cond.selects "RingHouse$Index" ({ cls := "RingHouse$Index", name := "remove", desc := "(LRingHouse$Node;)V" } : Jvm.MethodName) ({ cls := "RingHouse$Index", name := "remove", desc := "(LRingHouse$Node;)V" } : Jvm.MethodName)) ∈ lw_all := lw_g (lw_at lw_m8 121 rfl) rfl
theorem q2028 : (Jvm.Cond.code ({ cls := "RingHouse$Index", name := "remove", desc := "(LRingHouse$Node;)V" } : Jvm.MethodName) prog_20_method_4_code (4 : Nat) (Option.none : Option Jvm.ClassFile.FieldType)) ∈ lw_all := lw_g (lw_at lw_m8 122 rfl) rfl
theorem in_X2 : ∀ w ∈ wsX20, w ∈ lw_all := lw_in wsX20 [324] (by decide +kernel) (by decide +kernel)
/-! RingHouse$Store -/
def RX3 : String := "RingHouse$Store"
def TX3 : u_T := fun k => match k with
  | 0 => ("RingHouse$Store", "words", "[J", true)
  | 1 => ("RingHouse$Store", "free", "[I", true)
  | _ => ("RingHouse$Store", "left", "I", false)
def tyX3 : Nat → FieldType := fun k => match k with
  | 0 => .array .long
  | 1 => .array .int
  | _ => .int
abbrev wsX30 : List Cond := u_ws RX3 TX3 3
theorem nmX3 : ∀ a, a < 3 → ∀ b, b < 3 → a ≠ b → (TX3 a).2.1 ≠ (TX3 b).2.1 := by decide +kernel
theorem tyX3_ok : ∀ k, k < 3 → parseFieldDescriptor (TX3 k).2.2.1 = some (tyX3 k) := by decide +kernel
abbrev cX3_init : ByteArray := prog_58_method_1_code
def yX3_init : MethodName := ⟨RX3, "<init>", "()V"⟩
abbrev cX3_give : ByteArray := prog_58_method_3_code
def yX3_give : MethodName := ⟨RX3, "give", "(I)V"⟩
abbrev cX3_clear : ByteArray := prog_58_method_4_code
def yX3_clear : MethodName := ⟨RX3, "clear", "(II)V"⟩
abbrev cX3_take : ByteArray := prog_58_method_2_code
def yX3_take : MethodName := ⟨RX3, "take", "()I"⟩
abbrev cX3_get : ByteArray := prog_58_method_5_code
def yX3_get : MethodName := ⟨RX3, "get", "(II)J"⟩
abbrev cX3_put : ByteArray := prog_58_method_6_code
def yX3_put : MethodName := ⟨RX3, "put", "(IIJ)V"⟩
theorem q230 : (Jvm.Cond.initialized "RingHouse$Store") ∈ lw_all := lw_g (lw_at lw_m1 4 rfl) rfl
theorem q328 : (Jvm.Cond.instantiable "RingHouse$Store" (3 : Nat)) ∈ lw_all := lw_g (lw_at lw_m1 102 rfl) rfl
theorem q330 : (Jvm.Cond.instanceMethod ({ cls := "RingHouse$Store", name := "<init>", desc := "()V" } : Jvm.MethodName)) ∈ lw_all := lw_g (lw_at lw_m1 104 rfl) rfl
theorem q331 : (Jvm.Cond.code ({ cls := "RingHouse$Store", name := "<init>", desc := "()V" } : Jvm.MethodName) prog_58_method_1_code (2 : Nat) (Option.none : Option Jvm.ClassFile.FieldType)) ∈ lw_all := lw_g (lw_at lw_m1 105 rfl) rfl
theorem q332 : (Jvm.Cond.methodLink "RingHouse$Store" (3 : Nat) ({ cls := "java/lang/Object", name := "<init>", desc := "()V" } : Jvm.MethodName)) ∈ lw_all := lw_g (lw_at lw_m1 106 rfl) rfl
theorem q333 : (Jvm.Cond.fieldLink "RingHouse$Store" (9 : Nat) "RingHouse$Store" "words" "[J") ∈ lw_all := lw_g (lw_at lw_m1 107 rfl) rfl
theorem q334 : (Jvm.Cond.fieldLink "RingHouse$Store" (15 : Nat) "RingHouse$Store" "free" "[I") ∈ lw_all := lw_g (lw_at lw_m1 108 rfl) rfl
theorem q335 : (Jvm.Cond.fieldLink "RingHouse$Store" (19 : Nat) "RingHouse$Store" "left" "I") ∈ lw_all := lw_g (lw_at lw_m1 109 rfl) rfl
theorem q336 : (Jvm.Cond.laysFinal "RingHouse$Store" "RingHouse$Store" "words" "[J") ∈ lw_all := lw_g (lw_at lw_m1 110 rfl) rfl
theorem q337 : (Jvm.Cond.soleField "RingHouse$Store" "words") ∈ lw_all := lw_g (lw_at lw_m1 111 rfl) rfl
theorem q338 : (Jvm.Cond.laysFinal "RingHouse$Store" "RingHouse$Store" "free" "[I") ∈ lw_all := lw_g (lw_at lw_m1 112 rfl) rfl
theorem q339 : (Jvm.Cond.soleField "RingHouse$Store" "free") ∈ lw_all := lw_g (lw_at lw_m1 113 rfl) rfl
theorem q340 : (Jvm.Cond.lays "RingHouse$Store" "RingHouse$Store" "left" "I") ∈ lw_all := lw_g (lw_at lw_m1 114 rfl) rfl
theorem q341 : (Jvm.Cond.soleField "RingHouse$Store" "left") ∈ lw_all := lw_g (lw_at lw_m1 115 rfl) rfl
theorem q342 : (Jvm.Cond.superclass "RingHouse$Store" "java/lang/Object") ∈ lw_all := lw_g (lw_at lw_m1 116 rfl) rfl
theorem q1951 : (Jvm.Cond.instanceMethod ({ cls := "RingHouse$Store", name := "give", desc := "(I)V" } : Jvm.MethodName)) ∈ lw_all := lw_g (lw_at lw_m8 45 rfl) rfl
theorem q1952 : (Jvm.Cond.selects "RingHouse$Store" ({ cls := "RingHouse$Store", name := "give", desc := "(I)V" } : Jvm.MethodName) ({ cls := "RingHouse$Store", name := "give", desc := "(I)V" } : Jvm.MethodName)) ∈ lw_all := lw_g (lw_at lw_m8 46 rfl) rfl
theorem q1953 : (Jvm.Cond.code ({ cls := "RingHouse$Store", name := "give", desc := "(I)V" } : Jvm.MethodName) prog_58_method_3_code (2 : Nat) (Option.none : Option Jvm.ClassFile.FieldType)) ∈ lw_all := lw_g (lw_at lw_m8 47 rfl) rfl
theorem q1955 : (Jvm.Cond.instanceMethod ({ cls := "RingHouse$Store", name := "clear", desc := "(II)V" } : Jvm.MethodName)) ∈ lw_all := lw_g (lw_at lw_m8 49 rfl) rfl
theorem q1956 : (Jvm.Cond.selects "RingHouse$Store" ({ cls := "RingHouse$Store", name := "clear", desc := "(II)V" } : Jvm.MethodName) ({ cls := "RingHouse$Store", name := "clear", desc := "(II)V" } : Jvm.MethodName)) ∈ lw_all := lw_g (lw_at lw_m8 50 rfl) rfl
theorem q1957 : (Jvm.Cond.code ({ cls := "RingHouse$Store", name := "clear", desc := "(II)V" } : Jvm.MethodName) prog_58_method_4_code (4 : Nat) (Option.none : Option Jvm.ClassFile.FieldType)) ∈ lw_all := lw_g (lw_at lw_m8 51 rfl) rfl
theorem q1959 : (Jvm.Cond.instanceMethod ({ cls := "RingHouse$Store", name := "take", desc := "()I" } : Jvm.MethodName)) ∈ lw_all := lw_g (lw_at lw_m8 53 rfl) rfl
theorem q1960 : (Jvm.Cond.selects "RingHouse$Store" ({ cls := "RingHouse$Store", name := "take", desc := "()I" } : Jvm.MethodName) ({ cls := "RingHouse$Store", name := "take", desc := "()I" } : Jvm.MethodName)) ∈ lw_all := lw_g (lw_at lw_m8 54 rfl) rfl
theorem q1961 : (Jvm.Cond.code ({ cls := "RingHouse$Store", name := "take", desc := "()I" } : Jvm.MethodName) prog_58_method_2_code (2 : Nat) (Option.some Jvm.ClassFile.FieldType.int)) ∈ lw_all := lw_g (lw_at lw_m8 55 rfl) rfl
theorem q1962 : (Jvm.Cond.methodLink "RingHouse$Store" (23 : Nat) ({ cls := "RingHouse$Store", name := "clear", desc := "(II)V" } : Jvm.MethodName)) ∈ lw_all := lw_g (lw_at lw_m8 56 rfl) rfl
theorem q2090 : (Jvm.Cond.instanceMethod ({ cls := "RingHouse$Store", name := "get", desc := "(II)J" } : Jvm.MethodName)) ∈ lw_all := lw_g (lw_at lw_m8 184 rfl) rfl
theorem q2091 : (Jvm.Cond.selects "RingHouse$Store" ({ cls := "RingHouse$Store", name := "get", desc := "(II)J" } : Jvm.MethodName) ({ cls := "RingHouse$Store", name := "get", desc := "(II)J" } : Jvm.MethodName)) ∈ lw_all := lw_g (lw_at lw_m8 185 rfl) rfl
theorem q2092 : (Jvm.Cond.code ({ cls := "RingHouse$Store", name := "get", desc := "(II)J" } : Jvm.MethodName) prog_58_method_5_code (3 : Nat) (Option.some Jvm.ClassFile.FieldType.long)) ∈ lw_all := lw_g (lw_at lw_m8 186 rfl) rfl
theorem q2102 : (Jvm.Cond.instanceMethod ({ cls := "RingHouse$Store", name := "put", desc := "(IIJ)V" } : Jvm.MethodName)) ∈ lw_all := lw_g (lw_at lw_m8 196 rfl) rfl
theorem q2103 : (Jvm.Cond.selects "RingHouse$Store" ({ cls := "RingHouse$Store", name := "put", desc := "(IIJ)V" } : Jvm.MethodName) ({ cls := "RingHouse$Store", name := "put", desc := "(IIJ)V" } : Jvm.MethodName)) ∈ lw_all := lw_g (lw_at lw_m8 197 rfl) rfl
theorem q2104 : (Jvm.Cond.code ({ cls := "RingHouse$Store", name := "put", desc := "(IIJ)V" } : Jvm.MethodName) prog_58_method_6_code (5 : Nat) (Option.none : Option Jvm.ClassFile.FieldType)) ∈ lw_all := lw_g (lw_at lw_m8 198 rfl) rfl
theorem in_X3 : ∀ w ∈ wsX30, w ∈ lw_all := lw_in wsX30 [336, 338, 340] (by decide +kernel) (by decide +kernel)
/-! RingHouse$Node -/
def RX4 : String := "RingHouse$Node"
def TX4 : u_T := fun k => match k with
  | 0 => ("RingHouse$Node", "number", "I", true)
  | 1 => ("RingHouse$Node", "kind", "I", false)
  | 2 => ("RingHouse$Node", "name", "J", false)
  | 3 => ("RingHouse$Node", "label", "I", false)
  | 4 => ("RingHouse$Node", "parent", "LRingHouse$Node;", false)
  | 5 => ("RingHouse$Node", "before", "LRingHouse$Node;", false)
  | 6 => ("RingHouse$Node", "behind", "LRingHouse$Node;", false)
  | 7 => ("RingHouse$Node", "alike", "LRingHouse$Node;", false)
  | 8 => ("RingHouse$Node", "acl", "LRingHouse$Acl;", true)
  | 9 => ("RingHouse$Node", "r1", "I", false)
  | 10 => ("RingHouse$Node", "r2", "I", false)
  | 11 => ("RingHouse$Node", "r3", "I", false)
  | 12 => ("RingHouse$Node", "denials", "I", false)
  | 13 => ("RingHouse$Node", "first", "LRingHouse$Node;", false)
  | 14 => ("RingHouse$Node", "last", "LRingHouse$Node;", false)
  | 15 => ("RingHouse$Node", "entries", "I", false)
  | 16 => ("RingHouse$Node", "limit", "I", false)
  | 17 => ("RingHouse$Node", "used", "I", false)
  | 18 => ("RingHouse$Node", "forSegments", "LRingHouse$Acl;", true)
  | 19 => ("RingHouse$Node", "forDirectories", "LRingHouse$Acl;", true)
  | 20 => ("RingHouse$Node", "box", "LRingHouse$Box;", false)
  | 21 => ("RingHouse$Node", "gates", "I", false)
  | 22 => ("RingHouse$Node", "length", "I", false)
  | _ => ("RingHouse$Node", "map", "[I", true)
def tyX4 : Nat → FieldType := fun k => match k with
  | 0 => .int
  | 1 => .int
  | 2 => .long
  | 3 => .int
  | 4 => .object "RingHouse$Node"
  | 5 => .object "RingHouse$Node"
  | 6 => .object "RingHouse$Node"
  | 7 => .object "RingHouse$Node"
  | 8 => .object "RingHouse$Acl"
  | 9 => .int
  | 10 => .int
  | 11 => .int
  | 12 => .int
  | 13 => .object "RingHouse$Node"
  | 14 => .object "RingHouse$Node"
  | 15 => .int
  | 16 => .int
  | 17 => .int
  | 18 => .object "RingHouse$Acl"
  | 19 => .object "RingHouse$Acl"
  | 20 => .object "RingHouse$Box"
  | 21 => .int
  | 22 => .int
  | _ => .array .int
abbrev wsX40 : List Cond := u_ws RX4 TX4 24
theorem nmX4 : ∀ a, a < 24 → ∀ b, b < 24 → a ≠ b → (TX4 a).2.1 ≠ (TX4 b).2.1 := by decide +kernel
theorem tyX4_ok : ∀ k, k < 24 → parseFieldDescriptor (TX4 k).2.2.1 = some (tyX4 k) := by decide +kernel
abbrev cX4_init : ByteArray := prog_32_method_1_code
def yX4_init : MethodName := ⟨RX4, "<init>", "(I)V"⟩
abbrev cX4_begin : ByteArray := prog_32_method_7_code
def yX4_begin : MethodName := ⟨RX4, "begin", "(IJI)V"⟩
abbrev cX4_setBrackets : ByteArray := prog_32_method_8_code
def yX4_setBrackets : MethodName := ⟨RX4, "setBrackets", "(III)V"⟩
abbrev cX4_isDirectory : ByteArray := prog_32_method_2_code
def yX4_isDirectory : MethodName := ⟨RX4, "isDirectory", "()Z"⟩
abbrev cX4_initial : ByteArray := prog_32_method_5_code
def yX4_initial : MethodName := ⟨RX4, "initial", "(I)LRingHouse$Acl;"⟩
abbrev cX4_append : ByteArray := prog_32_method_10_code
def yX4_append : MethodName := ⟨RX4, "append", "(LRingHouse$Node;)V"⟩
abbrev cX4_cost : ByteArray := prog_32_method_9_code
def yX4_cost : MethodName := ⟨RX4, "cost", "()I"⟩
abbrev cX4_isMailbox : ByteArray := prog_32_method_4_code
def yX4_isMailbox : MethodName := ⟨RX4, "isMailbox", "()Z"⟩
abbrev cX4_isSegment : ByteArray := prog_32_method_3_code
def yX4_isSegment : MethodName := ⟨RX4, "isSegment", "()Z"⟩
abbrev cX4_detach : ByteArray := prog_32_method_11_code
def yX4_detach : MethodName := ⟨RX4, "detach", "(LRingHouse$Node;)V"⟩
abbrev cX4_isUpgraded : ByteArray := prog_32_method_6_code
def yX4_isUpgraded : MethodName := ⟨RX4, "isUpgraded", "()Z"⟩
theorem q231 : (Jvm.Cond.initialized "RingHouse$Node") ∈ lw_all := lw_g (lw_at lw_m1 5 rfl) rfl
theorem q347 : (Jvm.Cond.instantiable "RingHouse$Node" (24 : Nat)) ∈ lw_all := lw_g (lw_at lw_m1 121 rfl) rfl
theorem q349 : (Jvm.Cond.instanceMethod ({ cls := "RingHouse$Node", name := "<init>", desc := "(I)V" } : Jvm.MethodName)) ∈ lw_all := lw_g (lw_at lw_m1 123 rfl) rfl
theorem q350 : (Jvm.Cond.code ({ cls := "RingHouse$Node", name := "<init>", desc := "(I)V" } : Jvm.MethodName) prog_32_method_1_code (2 : Nat) (Option.none : Option Jvm.ClassFile.FieldType)) ∈ lw_all := lw_g (lw_at lw_m1 124 rfl) rfl
theorem q351 : (Jvm.Cond.methodLink "RingHouse$Node" (3 : Nat) ({ cls := "java/lang/Object", name := "<init>", desc := "()V" } : Jvm.MethodName)) ∈ lw_all := lw_g (lw_at lw_m1 125 rfl) rfl
theorem q352 : (Jvm.Cond.classLink "RingHouse$Node" (9 : Nat) "RingHouse$Acl") ∈ lw_all := lw_g (lw_at lw_m1 126 rfl) rfl
theorem q354 : (Jvm.Cond.methodLink "RingHouse$Node" (11 : Nat) ({ cls := "RingHouse$Acl", name := "<init>", desc := "(I)V" } : Jvm.MethodName)) ∈ lw_all := lw_g (lw_at lw_m1 128 rfl) rfl
theorem q371 : (Jvm.Cond.fieldLink "RingHouse$Node" (30 : Nat) "RingHouse$Node" "number" "I") ∈ lw_all := lw_g (lw_at lw_m1 145 rfl) rfl
theorem q377 : (Jvm.Cond.fieldLink "RingHouse$Node" (34 : Nat) "RingHouse$Node" "kind" "I") ∈ lw_all := lw_g (lw_at lw_m1 151 rfl) rfl
theorem q385 : (Jvm.Cond.fieldLink "RingHouse$Node" (44 : Nat) "RingHouse$Node" "name" "J") ∈ lw_all := lw_g (lw_at lw_m1 159 rfl) rfl
theorem q392 : (Jvm.Cond.fieldLink "RingHouse$Node" (41 : Nat) "RingHouse$Node" "label" "I") ∈ lw_all := lw_g (lw_at lw_m1 166 rfl) rfl
theorem q398 : (Jvm.Cond.fieldLink "RingHouse$Node" (37 : Nat) "RingHouse$Node" "parent" "LRingHouse$Node;") ∈ lw_all := lw_g (lw_at lw_m1 172 rfl) rfl
theorem q402 : (Jvm.Cond.fieldLink "RingHouse$Node" (103 : Nat) "RingHouse$Node" "before" "LRingHouse$Node;") ∈ lw_all := lw_g (lw_at lw_m1 176 rfl) rfl
theorem q405 : (Jvm.Cond.fieldLink "RingHouse$Node" (106 : Nat) "RingHouse$Node" "behind" "LRingHouse$Node;") ∈ lw_all := lw_g (lw_at lw_m1 179 rfl) rfl
theorem q407 : (Jvm.Cond.fieldLink "RingHouse$Node" (14 : Nat) "RingHouse$Node" "acl" "LRingHouse$Acl;") ∈ lw_all := lw_g (lw_at lw_m1 181 rfl) rfl
theorem q424 : (Jvm.Cond.fieldLink "RingHouse$Node" (83 : Nat) "RingHouse$Node" "r1" "I") ∈ lw_all := lw_g (lw_at lw_m1 198 rfl) rfl
theorem q431 : (Jvm.Cond.fieldLink "RingHouse$Node" (86 : Nat) "RingHouse$Node" "r2" "I") ∈ lw_all := lw_g (lw_at lw_m1 205 rfl) rfl
theorem q437 : (Jvm.Cond.fieldLink "RingHouse$Node" (89 : Nat) "RingHouse$Node" "r3" "I") ∈ lw_all := lw_g (lw_at lw_m1 211 rfl) rfl
theorem q440 : (Jvm.Cond.fieldLink "RingHouse$Node" (59 : Nat) "RingHouse$Node" "denials" "I") ∈ lw_all := lw_g (lw_at lw_m1 214 rfl) rfl
theorem q444 : (Jvm.Cond.fieldLink "RingHouse$Node" (62 : Nat) "RingHouse$Node" "first" "LRingHouse$Node;") ∈ lw_all := lw_g (lw_at lw_m1 218 rfl) rfl
theorem q445 : (Jvm.Cond.fieldLink "RingHouse$Node" (65 : Nat) "RingHouse$Node" "last" "LRingHouse$Node;") ∈ lw_all := lw_g (lw_at lw_m1 219 rfl) rfl
theorem q449 : (Jvm.Cond.fieldLink "RingHouse$Node" (68 : Nat) "RingHouse$Node" "entries" "I") ∈ lw_all := lw_g (lw_at lw_m1 223 rfl) rfl
theorem q454 : (Jvm.Cond.fieldLink "RingHouse$Node" (71 : Nat) "RingHouse$Node" "limit" "I") ∈ lw_all := lw_g (lw_at lw_m1 228 rfl) rfl
theorem q456 : (Jvm.Cond.fieldLink "RingHouse$Node" (74 : Nat) "RingHouse$Node" "used" "I") ∈ lw_all := lw_g (lw_at lw_m1 230 rfl) rfl
theorem q459 : (Jvm.Cond.fieldLink "RingHouse$Node" (20 : Nat) "RingHouse$Node" "forSegments" "LRingHouse$Acl;") ∈ lw_all := lw_g (lw_at lw_m1 233 rfl) rfl
theorem q462 : (Jvm.Cond.fieldLink "RingHouse$Node" (23 : Nat) "RingHouse$Node" "forDirectories" "LRingHouse$Acl;") ∈ lw_all := lw_g (lw_at lw_m1 236 rfl) rfl
theorem q467 : (Jvm.Cond.fieldLink "RingHouse$Node" (51 : Nat) "RingHouse$Node" "box" "LRingHouse$Box;") ∈ lw_all := lw_g (lw_at lw_m2 1 rfl) rfl
theorem q473 : (Jvm.Cond.fieldLink "RingHouse$Node" (77 : Nat) "RingHouse$Node" "gates" "I") ∈ lw_all := lw_g (lw_at lw_m2 7 rfl) rfl
theorem q478 : (Jvm.Cond.fieldLink "RingHouse$Node" (80 : Nat) "RingHouse$Node" "length" "I") ∈ lw_all := lw_g (lw_at lw_m2 12 rfl) rfl
theorem q482 : (Jvm.Cond.fieldLink "RingHouse$Node" (26 : Nat) "RingHouse$Node" "map" "[I") ∈ lw_all := lw_g (lw_at lw_m2 16 rfl) rfl
theorem q484 : (Jvm.Cond.laysFinal "RingHouse$Node" "RingHouse$Node" "number" "I") ∈ lw_all := lw_g (lw_at lw_m2 18 rfl) rfl
theorem q485 : (Jvm.Cond.soleField "RingHouse$Node" "number") ∈ lw_all := lw_g (lw_at lw_m2 19 rfl) rfl
theorem q486 : (Jvm.Cond.lays "RingHouse$Node" "RingHouse$Node" "kind" "I") ∈ lw_all := lw_g (lw_at lw_m2 20 rfl) rfl
theorem q487 : (Jvm.Cond.soleField "RingHouse$Node" "kind") ∈ lw_all := lw_g (lw_at lw_m2 21 rfl) rfl
theorem q488 : (Jvm.Cond.lays "RingHouse$Node" "RingHouse$Node" "name" "J") ∈ lw_all := lw_g (lw_at lw_m2 22 rfl) rfl
theorem q489 : (Jvm.Cond.soleField "RingHouse$Node" "name") ∈ lw_all := lw_g (lw_at lw_m2 23 rfl) rfl
theorem q490 : (Jvm.Cond.lays "RingHouse$Node" "RingHouse$Node" "label" "I") ∈ lw_all := lw_g (lw_at lw_m2 24 rfl) rfl
theorem q491 : (Jvm.Cond.soleField "RingHouse$Node" "label") ∈ lw_all := lw_g (lw_at lw_m2 25 rfl) rfl
theorem q492 : (Jvm.Cond.lays "RingHouse$Node" "RingHouse$Node" "parent" "LRingHouse$Node;") ∈ lw_all := lw_g (lw_at lw_m2 26 rfl) rfl
theorem q493 : (Jvm.Cond.soleField "RingHouse$Node" "parent") ∈ lw_all := lw_g (lw_at lw_m2 27 rfl) rfl
theorem q494 : (Jvm.Cond.lays "RingHouse$Node" "RingHouse$Node" "before" "LRingHouse$Node;") ∈ lw_all := lw_g (lw_at lw_m2 28 rfl) rfl
theorem q495 : (Jvm.Cond.soleField "RingHouse$Node" "before") ∈ lw_all := lw_g (lw_at lw_m2 29 rfl) rfl
theorem q496 : (Jvm.Cond.lays "RingHouse$Node" "RingHouse$Node" "behind" "LRingHouse$Node;") ∈ lw_all := lw_g (lw_at lw_m2 30 rfl) rfl
theorem q497 : (Jvm.Cond.soleField "RingHouse$Node" "behind") ∈ lw_all := lw_g (lw_at lw_m2 31 rfl) rfl
theorem q498 : (Jvm.Cond.lays "RingHouse$Node" "RingHouse$Node" "alike" "LRingHouse$Node;") ∈ lw_all := lw_g (lw_at lw_m2 32 rfl) rfl
theorem q499 : (Jvm.Cond.soleField "RingHouse$Node" "alike") ∈ lw_all := lw_g (lw_at lw_m2 33 rfl) rfl
theorem q500 : (Jvm.Cond.laysFinal "RingHouse$Node" "RingHouse$Node" "acl" "LRingHouse$Acl;") ∈ lw_all := lw_g (lw_at lw_m2 34 rfl) rfl
theorem q501 : (Jvm.Cond.soleField "RingHouse$Node" "acl") ∈ lw_all := lw_g (lw_at lw_m2 35 rfl) rfl
theorem q502 : (Jvm.Cond.lays "RingHouse$Node" "RingHouse$Node" "r1" "I") ∈ lw_all := lw_g (lw_at lw_m2 36 rfl) rfl
theorem q503 : (Jvm.Cond.soleField "RingHouse$Node" "r1") ∈ lw_all := lw_g (lw_at lw_m2 37 rfl) rfl
theorem q504 : (Jvm.Cond.lays "RingHouse$Node" "RingHouse$Node" "r2" "I") ∈ lw_all := lw_g (lw_at lw_m2 38 rfl) rfl
theorem q505 : (Jvm.Cond.soleField "RingHouse$Node" "r2") ∈ lw_all := lw_g (lw_at lw_m2 39 rfl) rfl
theorem q506 : (Jvm.Cond.lays "RingHouse$Node" "RingHouse$Node" "r3" "I") ∈ lw_all := lw_g (lw_at lw_m2 40 rfl) rfl
theorem q507 : (Jvm.Cond.soleField "RingHouse$Node" "r3") ∈ lw_all := lw_g (lw_at lw_m2 41 rfl) rfl
theorem q508 : (Jvm.Cond.lays "RingHouse$Node" "RingHouse$Node" "denials" "I") ∈ lw_all := lw_g (lw_at lw_m2 42 rfl) rfl
theorem q509 : (Jvm.Cond.soleField "RingHouse$Node" "denials") ∈ lw_all := lw_g (lw_at lw_m2 43 rfl) rfl
theorem q510 : (Jvm.Cond.lays "RingHouse$Node" "RingHouse$Node" "first" "LRingHouse$Node;") ∈ lw_all := lw_g (lw_at lw_m2 44 rfl) rfl
theorem q511 : (Jvm.Cond.soleField "RingHouse$Node" "first") ∈ lw_all := lw_g (lw_at lw_m2 45 rfl) rfl
theorem q512 : (Jvm.Cond.lays "RingHouse$Node" "RingHouse$Node" "last" "LRingHouse$Node;") ∈ lw_all := lw_g (lw_at lw_m2 46 rfl) rfl
theorem q513 : (Jvm.Cond.soleField "RingHouse$Node" "last") ∈ lw_all := lw_g (lw_at lw_m2 47 rfl) rfl
theorem q514 : (Jvm.Cond.lays "RingHouse$Node" "RingHouse$Node" "entries" "I") ∈ lw_all := lw_g (lw_at lw_m2 48 rfl) rfl
theorem q515 : (Jvm.Cond.soleField "RingHouse$Node" "entries") ∈ lw_all := lw_g (lw_at lw_m2 49 rfl) rfl
theorem q516 : (Jvm.Cond.lays "RingHouse$Node" "RingHouse$Node" "limit" "I") ∈ lw_all := lw_g (lw_at lw_m2 50 rfl) rfl
theorem q517 : (Jvm.Cond.soleField "RingHouse$Node" "limit") ∈ lw_all := lw_g (lw_at lw_m2 51 rfl) rfl
theorem q518 : (Jvm.Cond.lays "RingHouse$Node" "RingHouse$Node" "used" "I") ∈ lw_all := lw_g (lw_at lw_m2 52 rfl) rfl
theorem q519 : (Jvm.Cond.soleField "RingHouse$Node" "used") ∈ lw_all := lw_g (lw_at lw_m2 53 rfl) rfl
theorem q520 : (Jvm.Cond.laysFinal "RingHouse$Node" "RingHouse$Node" "forSegments" "LRingHouse$Acl;") ∈ lw_all := lw_g (lw_at lw_m2 54 rfl) rfl
theorem q521 : (Jvm.Cond.soleField "RingHouse$Node" "forSegments") ∈ lw_all := lw_g (lw_at lw_m2 55 rfl) rfl
theorem q522 : (Jvm.Cond.laysFinal "RingHouse$Node" "RingHouse$Node" "forDirectories" "LRingHouse$Acl;") ∈ lw_all := lw_g (lw_at lw_m2 56 rfl) rfl
theorem q523 : (Jvm.Cond.soleField "RingHouse$Node" "forDirectories") ∈ lw_all := lw_g (lw_at lw_m2 57 rfl) rfl
theorem q524 : (Jvm.Cond.lays "RingHouse$Node" "RingHouse$Node" "box" "LRingHouse$Box;") ∈ lw_all := lw_g (lw_at lw_m2 58 rfl) rfl
theorem q525 : (Jvm.Cond.soleField "RingHouse$Node" "box") ∈ lw_all := lw_g (lw_at lw_m2 59 rfl) rfl
theorem q526 : (Jvm.Cond.lays "RingHouse$Node" "RingHouse$Node" "gates" "I") ∈ lw_all := lw_g (lw_at lw_m2 60 rfl) rfl
theorem q527 : (Jvm.Cond.soleField "RingHouse$Node" "gates") ∈ lw_all := lw_g (lw_at lw_m2 61 rfl) rfl
theorem q528 : (Jvm.Cond.lays "RingHouse$Node" "RingHouse$Node" "length" "I") ∈ lw_all := lw_g (lw_at lw_m2 62 rfl) rfl
theorem q529 : (Jvm.Cond.soleField "RingHouse$Node" "length") ∈ lw_all := lw_g (lw_at lw_m2 63 rfl) rfl
theorem q530 : (Jvm.Cond.laysFinal "RingHouse$Node" "RingHouse$Node" "map" "[I") ∈ lw_all := lw_g (lw_at lw_m2 64 rfl) rfl
theorem q531 : (Jvm.Cond.soleField "RingHouse$Node" "map") ∈ lw_all := lw_g (lw_at lw_m2 65 rfl) rfl
theorem q532 : (Jvm.Cond.superclass "RingHouse$Node" "java/lang/Object") ∈ lw_all := lw_g (lw_at lw_m2 66 rfl) rfl
theorem q558 : (Jvm.Cond.instanceMethod ({ cls := "RingHouse$Node", name := "begin", desc := "(IJI)V" } : Jvm.MethodName)) ∈ lw_all := lw_g (lw_at lw_m2 92 rfl) rfl
theorem q559 : (Jvm.Cond.selects "RingHouse$Node" ({ cls := "RingHouse$Node", name := "begin", desc := "(IJI)V" } : Jvm.MethodName) ({ cls := "RingHouse$Node", name := "begin", desc := "(IJI)V" } : Jvm.MethodName)) ∈ lw_all := lw_g (lw_at lw_m2 93 rfl) rfl
theorem q560 : (Jvm.Cond.code ({ cls := "RingHouse$Node", name := "begin", desc := "(IJI)V" } : Jvm.MethodName) prog_32_method_7_code (5 : Nat) (Option.none : Option Jvm.ClassFile.FieldType)) ∈ lw_all := lw_g (lw_at lw_m2 94 rfl) rfl
theorem q561 : (Jvm.Cond.methodLink "RingHouse$Node" (48 : Nat) ({ cls := "RingHouse$Acl", name := "clear", desc := "()V" } : Jvm.MethodName)) ∈ lw_all := lw_g (lw_at lw_m2 95 rfl) rfl
theorem q565 : (Jvm.Cond.methodLink "RingHouse$Node" (55 : Nat) ({ cls := "RingHouse$Node", name := "setBrackets", desc := "(III)V" } : Jvm.MethodName)) ∈ lw_all := lw_g (lw_at lw_m2 99 rfl) rfl
theorem q566 : (Jvm.Cond.instanceMethod ({ cls := "RingHouse$Node", name := "setBrackets", desc := "(III)V" } : Jvm.MethodName)) ∈ lw_all := lw_g (lw_at lw_m2 100 rfl) rfl
theorem q567 : (Jvm.Cond.selects "RingHouse$Node" ({ cls := "RingHouse$Node", name := "setBrackets", desc := "(III)V" } : Jvm.MethodName) ({ cls := "RingHouse$Node", name := "setBrackets", desc := "(III)V" } : Jvm.MethodName)) ∈ lw_all := lw_g (lw_at lw_m2 101 rfl) rfl
theorem q568 : (Jvm.Cond.code ({ cls := "RingHouse$Node", name := "setBrackets", desc := "(III)V" } : Jvm.MethodName) prog_32_method_8_code (4 : Nat) (Option.none : Option Jvm.ClassFile.FieldType)) ∈ lw_all := lw_g (lw_at lw_m2 102 rfl) rfl
theorem q1838 : (Jvm.Cond.instanceMethod ({ cls := "RingHouse$Node", name := "isDirectory", desc := "()Z" } : Jvm.MethodName)) ∈ lw_all := lw_g (lw_at lw_m7 172 rfl) rfl
theorem q1839 : (Jvm.Cond.selects "RingHouse$Node" ({ cls := "RingHouse$Node", name := "isDirectory", desc := "()Z" } : Jvm.MethodName) ({ cls := "RingHouse$Node", name := "isDirectory", desc := "()Z" } : Jvm.MethodName)) ∈ lw_all := lw_g (lw_at lw_m7 173 rfl) rfl
theorem q1840 : (Jvm.Cond.code ({ cls := "RingHouse$Node", name := "isDirectory", desc := "()Z" } : Jvm.MethodName) prog_32_method_2_code (1 : Nat) (Option.some Jvm.ClassFile.FieldType.boolean)) ∈ lw_all := lw_g (lw_at lw_m7 174 rfl) rfl
theorem q1892 : (Jvm.Cond.instanceMethod ({ cls := "RingHouse$Node", name := "initial", desc := "(I)LRingHouse$Acl;" } : Jvm.MethodName)) ∈ lw_all := lw_g (lw_at lw_m7 226 rfl) rfl
theorem q1893 : (Jvm.Cond.selects "RingHouse$Node" ({ cls := "RingHouse$Node", name := "initial", desc := "(I)LRingHouse$Acl;" } : Jvm.MethodName) ({ cls := "RingHouse$Node", name := "initial", desc := "(I)LRingHouse$Acl;" } : Jvm.MethodName)) ∈ lw_all := lw_g (lw_at lw_m7 227 rfl) rfl
theorem q1894 : (Jvm.Cond.code ({ cls := "RingHouse$Node", name := "initial", desc := "(I)LRingHouse$Acl;" } : Jvm.MethodName) prog_32_method_5_code (2 : Nat) (Option.some (Jvm.ClassFile.FieldType.object "RingHouse$Acl"))) ∈ lw_all := lw_g (lw_at lw_m7 228 rfl) rfl
theorem q1909 : (Jvm.Cond.instanceMethod ({ cls := "RingHouse$Node", name := "append", desc := "(LRingHouse$Node;)V" } : Jvm.MethodName)) ∈ lw_all := lw_g (lw_at lw_m8 3 rfl) rfl
theorem q1910 : (Jvm.Cond.selects "RingHouse$Node" ({ cls := "RingHouse$Node", name := "append", desc := "(LRingHouse$Node;)V" } : Jvm.MethodName) ({ cls := "RingHouse$Node", name := "append", desc := "(LRingHouse$Node;)V" } : Jvm.MethodName)) ∈ lw_all := lw_g (lw_at lw_m8 4 rfl) rfl
theorem q1911 : (Jvm.Cond.code ({ cls := "RingHouse$Node", name := "append", desc := "(LRingHouse$Node;)V" } : Jvm.MethodName) prog_32_method_10_code (2 : Nat) (Option.none : Option Jvm.ClassFile.FieldType)) ∈ lw_all := lw_g (lw_at lw_m8 5 rfl) rfl
theorem q1917 : (Jvm.Cond.instanceMethod ({ cls := "RingHouse$Node", name := "cost", desc := "()I" } : Jvm.MethodName)) ∈ lw_all := lw_g (lw_at lw_m8 11 rfl) rfl
theorem q1918 : (Jvm.Cond.selects "RingHouse$Node" ({ cls := "RingHouse$Node", name := "cost", desc := "()I" } : Jvm.MethodName) ({ cls := "RingHouse$Node", name := "cost", desc := "()I" } : Jvm.MethodName)) ∈ lw_all := lw_g (lw_at lw_m8 12 rfl) rfl
theorem q1919 : (Jvm.Cond.code ({ cls := "RingHouse$Node", name := "cost", desc := "()I" } : Jvm.MethodName) prog_32_method_9_code (1 : Nat) (Option.some Jvm.ClassFile.FieldType.int)) ∈ lw_all := lw_g (lw_at lw_m8 13 rfl) rfl
theorem q1920 : (Jvm.Cond.methodLink "RingHouse$Node" (92 : Nat) ({ cls := "RingHouse$Node", name := "isMailbox", desc := "()Z" } : Jvm.MethodName)) ∈ lw_all := lw_g (lw_at lw_m8 14 rfl) rfl
theorem q1921 : (Jvm.Cond.instanceMethod ({ cls := "RingHouse$Node", name := "isMailbox", desc := "()Z" } : Jvm.MethodName)) ∈ lw_all := lw_g (lw_at lw_m8 15 rfl) rfl
theorem q1922 : (Jvm.Cond.selects "RingHouse$Node" ({ cls := "RingHouse$Node", name := "isMailbox", desc := "()Z" } : Jvm.MethodName) ({ cls := "RingHouse$Node", name := "isMailbox", desc := "()Z" } : Jvm.MethodName)) ∈ lw_all := lw_g (lw_at lw_m8 16 rfl) rfl
theorem q1923 : (Jvm.Cond.code ({ cls := "RingHouse$Node", name := "isMailbox", desc := "()Z" } : Jvm.MethodName) prog_32_method_4_code (1 : Nat) (Option.some Jvm.ClassFile.FieldType.boolean)) ∈ lw_all := lw_g (lw_at lw_m8 17 rfl) rfl
theorem q1924 : (Jvm.Cond.methodLink "RingHouse$Node" (96 : Nat) ({ cls := "RingHouse$Node", name := "isSegment", desc := "()Z" } : Jvm.MethodName)) ∈ lw_all := lw_g (lw_at lw_m8 18 rfl) rfl
theorem q1925 : (Jvm.Cond.instanceMethod ({ cls := "RingHouse$Node", name := "isSegment", desc := "()Z" } : Jvm.MethodName)) ∈ lw_all := lw_g (lw_at lw_m8 19 rfl) rfl
theorem q1926 : (Jvm.Cond.selects "RingHouse$Node" ({ cls := "RingHouse$Node", name := "isSegment", desc := "()Z" } : Jvm.MethodName) ({ cls := "RingHouse$Node", name := "isSegment", desc := "()Z" } : Jvm.MethodName)) ∈ lw_all := lw_g (lw_at lw_m8 20 rfl) rfl
theorem q1927 : (Jvm.Cond.code ({ cls := "RingHouse$Node", name := "isSegment", desc := "()Z" } : Jvm.MethodName) prog_32_method_3_code (1 : Nat) (Option.some Jvm.ClassFile.FieldType.boolean)) ∈ lw_all := lw_g (lw_at lw_m8 21 rfl) rfl
theorem q1928 : (Jvm.Cond.methodLinkNest "RingHouse$Node" (99 : Nat) ({ cls := "RingHouse", name := "records", desc := "(I)I" } : Jvm.MethodName) "RingHouse") ∈ lw_tbl := lw_at lw_m8 22 rfl
theorem q2041 : (Jvm.Cond.instanceMethod ({ cls := "RingHouse$Node", name := "detach", desc := "(LRingHouse$Node;)V" } : Jvm.MethodName)) ∈ lw_all := lw_g (lw_at lw_m8 135 rfl) rfl
theorem q2042 : (Jvm.Cond.selects "RingHouse$Node" ({ cls := "RingHouse$Node", name := "detach", desc := "(LRingHouse$Node;)V" } : Jvm.MethodName) ({ cls := "RingHouse$Node", name := "detach", desc := "(LRingHouse$Node;)V" } : Jvm.MethodName)) ∈ lw_all := lw_g (lw_at lw_m8 136 rfl) rfl
theorem q2043 : (Jvm.Cond.code ({ cls := "RingHouse$Node", name := "detach", desc := "(LRingHouse$Node;)V" } : Jvm.MethodName) prog_32_method_11_code (2 : Nat) (Option.none : Option Jvm.ClassFile.FieldType)) ∈ lw_all := lw_g (lw_at lw_m8 137 rfl) rfl
theorem q2541 : (Jvm.Cond.instanceMethod ({ cls := "RingHouse$Node", name := "isUpgraded", desc := "()Z" } : Jvm.MethodName)) ∈ lw_all := lw_g (lw_at lw_m10 155 rfl) rfl
theorem q2542 : (Jvm.Cond.selects "RingHouse$Node" ({ cls := "RingHouse$Node", name := "isUpgraded", desc := "()Z" } : Jvm.MethodName) ({ cls := "RingHouse$Node", name := "isUpgraded", desc := "()Z" } : Jvm.MethodName)) ∈ lw_all := lw_g (lw_at lw_m10 156 rfl) rfl
theorem q2543 : (Jvm.Cond.code ({ cls := "RingHouse$Node", name := "isUpgraded", desc := "()Z" } : Jvm.MethodName) prog_32_method_6_code (1 : Nat) (Option.some Jvm.ClassFile.FieldType.boolean)) ∈ lw_all := lw_g (lw_at lw_m10 157 rfl) rfl
theorem in_X4 : ∀ w ∈ wsX40, w ∈ lw_all := lw_in wsX40 [484, 486, 488, 490, 492, 494, 496, 498, 500, 502, 504, 506, 508, 510, 512, 514, 516, 518, 520, 522, 524, 526, 528, 530] (by decide +kernel) (by decide +kernel)
/-! RingHouse$Acl -/
def RX5 : String := "RingHouse$Acl"
def TX5 : u_T := fun k => match k with
  | 0 => ("RingHouse$Acl", "who", "[I", true)
  | 1 => ("RingHouse$Acl", "modes", "[I", true)
  | _ => ("RingHouse$Acl", "items", "I", false)
def tyX5 : Nat → FieldType := fun k => match k with
  | 0 => .array .int
  | 1 => .array .int
  | _ => .int
abbrev wsX50 : List Cond := u_ws RX5 TX5 3
theorem nmX5 : ∀ a, a < 3 → ∀ b, b < 3 → a ≠ b → (TX5 a).2.1 ≠ (TX5 b).2.1 := by decide +kernel
theorem tyX5_ok : ∀ k, k < 3 → parseFieldDescriptor (TX5 k).2.2.1 = some (tyX5 k) := by decide +kernel
abbrev cX5_init : ByteArray := prog_2_method_1_code
def yX5_init : MethodName := ⟨RX5, "<init>", "(I)V"⟩
abbrev cX5_clear : ByteArray := prog_2_method_3_code
def yX5_clear : MethodName := ⟨RX5, "clear", "()V"⟩
abbrev cX5_set : ByteArray := prog_2_method_5_code
def yX5_set : MethodName := ⟨RX5, "set", "(III)I"⟩
abbrev cX5_find : ByteArray := prog_2_method_4_code
def yX5_find : MethodName := ⟨RX5, "find", "(II)I"⟩
abbrev cX5_key : ByteArray := prog_2_method_2_code
def yX5_key : MethodName := ⟨RX5, "key", "(II)I"⟩
abbrev cX5_remove : ByteArray := prog_2_method_6_code
def yX5_remove : MethodName := ⟨RX5, "remove", "(I)I"⟩
abbrev cX5_take : ByteArray := prog_2_method_7_code
def yX5_take : MethodName := ⟨RX5, "take", "(LRingHouse$Acl;)V"⟩
abbrev cX5_person : ByteArray := prog_2_method_8_code
def yX5_person : MethodName := ⟨RX5, "person", "(I)I"⟩
abbrev cX5_project : ByteArray := prog_2_method_9_code
def yX5_project : MethodName := ⟨RX5, "project", "(I)I"⟩
abbrev cX5_of : ByteArray := prog_2_method_10_code
def yX5_of : MethodName := ⟨RX5, "of", "(II)I"⟩
theorem q232 : (Jvm.Cond.initialized "RingHouse$Acl") ∈ lw_all := lw_g (lw_at lw_m1 6 rfl) rfl
theorem q353 : (Jvm.Cond.instantiable "RingHouse$Acl" (3 : Nat)) ∈ lw_all := lw_g (lw_at lw_m1 127 rfl) rfl
theorem q355 : (Jvm.Cond.instanceMethod ({ cls := "RingHouse$Acl", name := "<init>", desc := "(I)V" } : Jvm.MethodName)) ∈ lw_all := lw_g (lw_at lw_m1 129 rfl) rfl
theorem q356 : (Jvm.Cond.code ({ cls := "RingHouse$Acl", name := "<init>", desc := "(I)V" } : Jvm.MethodName) prog_2_method_1_code (2 : Nat) (Option.none : Option Jvm.ClassFile.FieldType)) ∈ lw_all := lw_g (lw_at lw_m1 130 rfl) rfl
theorem q357 : (Jvm.Cond.methodLink "RingHouse$Acl" (3 : Nat) ({ cls := "java/lang/Object", name := "<init>", desc := "()V" } : Jvm.MethodName)) ∈ lw_all := lw_g (lw_at lw_m1 131 rfl) rfl
theorem q358 : (Jvm.Cond.fieldLink "RingHouse$Acl" (9 : Nat) "RingHouse$Acl" "who" "[I") ∈ lw_all := lw_g (lw_at lw_m1 132 rfl) rfl
theorem q359 : (Jvm.Cond.fieldLink "RingHouse$Acl" (15 : Nat) "RingHouse$Acl" "modes" "[I") ∈ lw_all := lw_g (lw_at lw_m1 133 rfl) rfl
theorem q361 : (Jvm.Cond.fieldLink "RingHouse$Acl" (18 : Nat) "RingHouse$Acl" "items" "I") ∈ lw_all := lw_g (lw_at lw_m1 135 rfl) rfl
theorem q364 : (Jvm.Cond.laysFinal "RingHouse$Acl" "RingHouse$Acl" "who" "[I") ∈ lw_all := lw_g (lw_at lw_m1 138 rfl) rfl
theorem q365 : (Jvm.Cond.soleField "RingHouse$Acl" "who") ∈ lw_all := lw_g (lw_at lw_m1 139 rfl) rfl
theorem q366 : (Jvm.Cond.laysFinal "RingHouse$Acl" "RingHouse$Acl" "modes" "[I") ∈ lw_all := lw_g (lw_at lw_m1 140 rfl) rfl
theorem q367 : (Jvm.Cond.soleField "RingHouse$Acl" "modes") ∈ lw_all := lw_g (lw_at lw_m1 141 rfl) rfl
theorem q368 : (Jvm.Cond.lays "RingHouse$Acl" "RingHouse$Acl" "items" "I") ∈ lw_all := lw_g (lw_at lw_m1 142 rfl) rfl
theorem q369 : (Jvm.Cond.soleField "RingHouse$Acl" "items") ∈ lw_all := lw_g (lw_at lw_m1 143 rfl) rfl
theorem q370 : (Jvm.Cond.superclass "RingHouse$Acl" "java/lang/Object") ∈ lw_all := lw_g (lw_at lw_m1 144 rfl) rfl
theorem q562 : (Jvm.Cond.instanceMethod ({ cls := "RingHouse$Acl", name := "clear", desc := "()V" } : Jvm.MethodName)) ∈ lw_all := lw_g (lw_at lw_m2 96 rfl) rfl
theorem q563 : (Jvm.Cond.selects "RingHouse$Acl" ({ cls := "RingHouse$Acl", name := "clear", desc := "()V" } : Jvm.MethodName) ({ cls := "RingHouse$Acl", name := "clear", desc := "()V" } : Jvm.MethodName)) ∈ lw_all := lw_g (lw_at lw_m2 97 rfl) rfl
theorem q564 : (Jvm.Cond.code ({ cls := "RingHouse$Acl", name := "clear", desc := "()V" } : Jvm.MethodName) prog_2_method_3_code (1 : Nat) (Option.none : Option Jvm.ClassFile.FieldType)) ∈ lw_all := lw_g (lw_at lw_m2 98 rfl) rfl
theorem q571 : (Jvm.Cond.instanceMethod ({ cls := "RingHouse$Acl", name := "set", desc := "(III)I" } : Jvm.MethodName)) ∈ lw_all := lw_g (lw_at lw_m2 105 rfl) rfl
theorem q572 : (Jvm.Cond.selects "RingHouse$Acl" ({ cls := "RingHouse$Acl", name := "set", desc := "(III)I" } : Jvm.MethodName) ({ cls := "RingHouse$Acl", name := "set", desc := "(III)I" } : Jvm.MethodName)) ∈ lw_all := lw_g (lw_at lw_m2 106 rfl) rfl
theorem q573 : (Jvm.Cond.code ({ cls := "RingHouse$Acl", name := "set", desc := "(III)I" } : Jvm.MethodName) prog_2_method_5_code (5 : Nat) (Option.some Jvm.ClassFile.FieldType.int)) ∈ lw_all := lw_g (lw_at lw_m2 107 rfl) rfl
theorem q574 : (Jvm.Cond.methodLink "RingHouse$Acl" (26 : Nat) ({ cls := "RingHouse$Acl", name := "find", desc := "(II)I" } : Jvm.MethodName)) ∈ lw_all := lw_g (lw_at lw_m2 108 rfl) rfl
theorem q575 : (Jvm.Cond.instanceMethod ({ cls := "RingHouse$Acl", name := "find", desc := "(II)I" } : Jvm.MethodName)) ∈ lw_all := lw_g (lw_at lw_m2 109 rfl) rfl
theorem q576 : (Jvm.Cond.selects "RingHouse$Acl" ({ cls := "RingHouse$Acl", name := "find", desc := "(II)I" } : Jvm.MethodName) ({ cls := "RingHouse$Acl", name := "find", desc := "(II)I" } : Jvm.MethodName)) ∈ lw_all := lw_g (lw_at lw_m2 110 rfl) rfl
theorem q577 : (Jvm.Cond.code ({ cls := "RingHouse$Acl", name := "find", desc := "(II)I" } : Jvm.MethodName) prog_2_method_4_code (5 : Nat) (Option.some Jvm.ClassFile.FieldType.int)) ∈ lw_all := lw_g (lw_at lw_m2 111 rfl) rfl
theorem q578 : (Jvm.Cond.methodLink "RingHouse$Acl" (22 : Nat) ({ cls := "RingHouse$Acl", name := "key", desc := "(II)I" } : Jvm.MethodName)) ∈ lw_all := lw_g (lw_at lw_m2 112 rfl) rfl
theorem q579 : (Jvm.Cond.static ({ cls := "RingHouse$Acl", name := "key", desc := "(II)I" } : Jvm.MethodName)) ∈ lw_all := lw_g (lw_at lw_m2 113 rfl) rfl
theorem q580 : (Jvm.Cond.code ({ cls := "RingHouse$Acl", name := "key", desc := "(II)I" } : Jvm.MethodName) prog_2_method_2_code (2 : Nat) (Option.some Jvm.ClassFile.FieldType.int)) ∈ lw_all := lw_g (lw_at lw_m2 114 rfl) rfl
theorem q581 : (Jvm.Cond.methodLink "RingHouse$Acl" (29 : Nat) ({ cls := "RingHouse$Acl", name := "remove", desc := "(I)I" } : Jvm.MethodName)) ∈ lw_all := lw_g (lw_at lw_m2 115 rfl) rfl
theorem q582 : (Jvm.Cond.privateMethod ({ cls := "RingHouse$Acl", name := "remove", desc := "(I)I" } : Jvm.MethodName)) ∈ lw_tbl := lw_at lw_m2 116 rfl
theorem q583 : (Jvm.Cond.instanceMethod ({ cls := "RingHouse$Acl", name := "remove", desc := "(I)I" } : Jvm.MethodName)) ∈ lw_all := lw_g (lw_at lw_m2 117 rfl) rfl
theorem q584 : (Jvm.Cond.code ({ cls := "RingHouse$Acl", name := "remove", desc := "(I)I" } : Jvm.MethodName) prog_2_method_6_code (3 : Nat) (Option.some Jvm.ClassFile.FieldType.int)) ∈ lw_all := lw_g (lw_at lw_m2 118 rfl) rfl
theorem q1896 : (Jvm.Cond.instanceMethod ({ cls := "RingHouse$Acl", name := "take", desc := "(LRingHouse$Acl;)V" } : Jvm.MethodName)) ∈ lw_all := lw_g (lw_at lw_m7 230 rfl) rfl
theorem q1897 : (Jvm.Cond.selects "RingHouse$Acl" ({ cls := "RingHouse$Acl", name := "take", desc := "(LRingHouse$Acl;)V" } : Jvm.MethodName) ({ cls := "RingHouse$Acl", name := "take", desc := "(LRingHouse$Acl;)V" } : Jvm.MethodName)) ∈ lw_all := lw_g (lw_at lw_m7 231 rfl) rfl
theorem q1898 : (Jvm.Cond.code ({ cls := "RingHouse$Acl", name := "take", desc := "(LRingHouse$Acl;)V" } : Jvm.MethodName) prog_2_method_7_code (3 : Nat) (Option.none : Option Jvm.ClassFile.FieldType)) ∈ lw_all := lw_g (lw_at lw_m7 232 rfl) rfl
theorem q1899 : (Jvm.Cond.methodLink "RingHouse$Acl" (33 : Nat) ({ cls := "RingHouse$Acl", name := "person", desc := "(I)I" } : Jvm.MethodName)) ∈ lw_all := lw_g (lw_at lw_m7 233 rfl) rfl
theorem q1900 : (Jvm.Cond.instanceMethod ({ cls := "RingHouse$Acl", name := "person", desc := "(I)I" } : Jvm.MethodName)) ∈ lw_all := lw_g (lw_at lw_m7 234 rfl) rfl
theorem q1901 : (Jvm.Cond.selects "RingHouse$Acl" ({ cls := "RingHouse$Acl", name := "person", desc := "(I)I" } : Jvm.MethodName) ({ cls := "RingHouse$Acl", name := "person", desc := "(I)I" } : Jvm.MethodName)) ∈ lw_all := lw_g (lw_at lw_m7 235 rfl) rfl
theorem q1902 : (Jvm.Cond.code ({ cls := "RingHouse$Acl", name := "person", desc := "(I)I" } : Jvm.MethodName) prog_2_method_8_code (2 : Nat) (Option.some Jvm.ClassFile.FieldType.int)) ∈ lw_all := lw_g (lw_at lw_m7 236 rfl) rfl
theorem q1903 : (Jvm.Cond.methodLink "RingHouse$Acl" (36 : Nat) ({ cls := "RingHouse$Acl", name := "project", desc := "(I)I" } : Jvm.MethodName)) ∈ lw_all := lw_g (lw_at lw_m7 237 rfl) rfl
theorem q1904 : (Jvm.Cond.instanceMethod ({ cls := "RingHouse$Acl", name := "project", desc := "(I)I" } : Jvm.MethodName)) ∈ lw_all := lw_g (lw_at lw_m7 238 rfl) rfl
theorem q1905 : (Jvm.Cond.selects "RingHouse$Acl" ({ cls := "RingHouse$Acl", name := "project", desc := "(I)I" } : Jvm.MethodName) ({ cls := "RingHouse$Acl", name := "project", desc := "(I)I" } : Jvm.MethodName)) ∈ lw_all := lw_g (lw_at lw_m7 239 rfl) rfl
theorem q1906 : (Jvm.Cond.code ({ cls := "RingHouse$Acl", name := "project", desc := "(I)I" } : Jvm.MethodName) prog_2_method_9_code (2 : Nat) (Option.some Jvm.ClassFile.FieldType.int)) ∈ lw_all := lw_g (lw_at lw_m8 0 rfl) rfl
theorem q1907 : (Jvm.Cond.methodLink "RingHouse$Acl" (39 : Nat) ({ cls := "RingHouse$Acl", name := "set", desc := "(III)I" } : Jvm.MethodName)) ∈ lw_all := lw_g (lw_at lw_m8 1 rfl) rfl
theorem q2074 : (Jvm.Cond.instanceMethod ({ cls := "RingHouse$Acl", name := "of", desc := "(II)I" } : Jvm.MethodName)) ∈ lw_all := lw_g (lw_at lw_m8 168 rfl) rfl
theorem q2075 : (Jvm.Cond.selects "RingHouse$Acl" ({ cls := "RingHouse$Acl", name := "of", desc := "(II)I" } : Jvm.MethodName) ({ cls := "RingHouse$Acl", name := "of", desc := "(II)I" } : Jvm.MethodName)) ∈ lw_all := lw_g (lw_at lw_m8 169 rfl) rfl
theorem q2076 : (Jvm.Cond.code ({ cls := "RingHouse$Acl", name := "of", desc := "(II)I" } : Jvm.MethodName) prog_2_method_10_code (4 : Nat) (Option.some Jvm.ClassFile.FieldType.int)) ∈ lw_all := lw_g (lw_at lw_m8 170 rfl) rfl
theorem in_X5 : ∀ w ∈ wsX50, w ∈ lw_all := lw_in wsX50 [364, 366, 368] (by decide +kernel) (by decide +kernel)
/-! RingHouse$Box -/
def RX6 : String := "RingHouse$Box"
def TX6 : u_T := fun k => match k with
  | 0 => ("RingHouse$Box", "words", "[J", true)
  | 1 => ("RingHouse$Box", "labels", "[I", true)
  | _ => ("RingHouse$Box", "letters", "I", false)
def tyX6 : Nat → FieldType := fun k => match k with
  | 0 => .array .long
  | 1 => .array .int
  | _ => .int
abbrev wsX60 : List Cond := u_ws RX6 TX6 3
theorem nmX6 : ∀ a, a < 3 → ∀ b, b < 3 → a ≠ b → (TX6 a).2.1 ≠ (TX6 b).2.1 := by decide +kernel
theorem tyX6_ok : ∀ k, k < 3 → parseFieldDescriptor (TX6 k).2.2.1 = some (tyX6 k) := by decide +kernel
abbrev cX6_init : ByteArray := prog_7_method_1_code
def yX6_init : MethodName := ⟨RX6, "<init>", "()V"⟩
abbrev cX6_post : ByteArray := prog_7_method_3_code
def yX6_post : MethodName := ⟨RX6, "post", "(JI)Z"⟩
abbrev cX6_many : ByteArray := prog_7_method_2_code
def yX6_many : MethodName := ⟨RX6, "many", "(I)I"⟩
abbrev cX6_seen : ByteArray := prog_7_method_5_code
def yX6_seen : MethodName := ⟨RX6, "seen", "(II)I"⟩
abbrev cX6_oldest : ByteArray := prog_7_method_4_code
def yX6_oldest : MethodName := ⟨RX6, "oldest", "(I)I"⟩
abbrev cX6_take : ByteArray := prog_7_method_6_code
def yX6_take : MethodName := ⟨RX6, "take", "(I)J"⟩
theorem q233 : (Jvm.Cond.initialized "RingHouse$Box") ∈ lw_all := lw_g (lw_at lw_m1 7 rfl) rfl
theorem q533 : (Jvm.Cond.instantiable "RingHouse$Box" (3 : Nat)) ∈ lw_all := lw_g (lw_at lw_m2 67 rfl) rfl
theorem q535 : (Jvm.Cond.instanceMethod ({ cls := "RingHouse$Box", name := "<init>", desc := "()V" } : Jvm.MethodName)) ∈ lw_all := lw_g (lw_at lw_m2 69 rfl) rfl
theorem q536 : (Jvm.Cond.code ({ cls := "RingHouse$Box", name := "<init>", desc := "()V" } : Jvm.MethodName) prog_7_method_1_code (1 : Nat) (Option.none : Option Jvm.ClassFile.FieldType)) ∈ lw_all := lw_g (lw_at lw_m2 70 rfl) rfl
theorem q537 : (Jvm.Cond.methodLink "RingHouse$Box" (3 : Nat) ({ cls := "java/lang/Object", name := "<init>", desc := "()V" } : Jvm.MethodName)) ∈ lw_all := lw_g (lw_at lw_m2 71 rfl) rfl
theorem q538 : (Jvm.Cond.fieldLink "RingHouse$Box" (9 : Nat) "RingHouse$Box" "words" "[J") ∈ lw_all := lw_g (lw_at lw_m2 72 rfl) rfl
theorem q542 : (Jvm.Cond.fieldLink "RingHouse$Box" (15 : Nat) "RingHouse$Box" "labels" "[I") ∈ lw_all := lw_g (lw_at lw_m2 76 rfl) rfl
theorem q546 : (Jvm.Cond.fieldLink "RingHouse$Box" (19 : Nat) "RingHouse$Box" "letters" "I") ∈ lw_all := lw_g (lw_at lw_m2 80 rfl) rfl
theorem q550 : (Jvm.Cond.laysFinal "RingHouse$Box" "RingHouse$Box" "words" "[J") ∈ lw_all := lw_g (lw_at lw_m2 84 rfl) rfl
theorem q551 : (Jvm.Cond.soleField "RingHouse$Box" "words") ∈ lw_all := lw_g (lw_at lw_m2 85 rfl) rfl
theorem q552 : (Jvm.Cond.laysFinal "RingHouse$Box" "RingHouse$Box" "labels" "[I") ∈ lw_all := lw_g (lw_at lw_m2 86 rfl) rfl
theorem q553 : (Jvm.Cond.soleField "RingHouse$Box" "labels") ∈ lw_all := lw_g (lw_at lw_m2 87 rfl) rfl
theorem q554 : (Jvm.Cond.lays "RingHouse$Box" "RingHouse$Box" "letters" "I") ∈ lw_all := lw_g (lw_at lw_m2 88 rfl) rfl
theorem q555 : (Jvm.Cond.soleField "RingHouse$Box" "letters") ∈ lw_all := lw_g (lw_at lw_m2 89 rfl) rfl
theorem q556 : (Jvm.Cond.superclass "RingHouse$Box" "java/lang/Object") ∈ lw_all := lw_g (lw_at lw_m2 90 rfl) rfl
theorem q2571 : (Jvm.Cond.instanceMethod ({ cls := "RingHouse$Box", name := "post", desc := "(JI)Z" } : Jvm.MethodName)) ∈ lw_all := lw_g (lw_at lw_m10 185 rfl) rfl
theorem q2572 : (Jvm.Cond.selects "RingHouse$Box" ({ cls := "RingHouse$Box", name := "post", desc := "(JI)Z" } : Jvm.MethodName) ({ cls := "RingHouse$Box", name := "post", desc := "(JI)Z" } : Jvm.MethodName)) ∈ lw_all := lw_g (lw_at lw_m10 186 rfl) rfl
theorem q2573 : (Jvm.Cond.code ({ cls := "RingHouse$Box", name := "post", desc := "(JI)Z" } : Jvm.MethodName) prog_7_method_3_code (4 : Nat) (Option.some Jvm.ClassFile.FieldType.boolean)) ∈ lw_all := lw_g (lw_at lw_m10 187 rfl) rfl
theorem q2574 : (Jvm.Cond.methodLink "RingHouse$Box" (23 : Nat) ({ cls := "RingHouse$Box", name := "many", desc := "(I)I" } : Jvm.MethodName)) ∈ lw_all := lw_g (lw_at lw_m10 188 rfl) rfl
theorem q2575 : (Jvm.Cond.instanceMethod ({ cls := "RingHouse$Box", name := "many", desc := "(I)I" } : Jvm.MethodName)) ∈ lw_all := lw_g (lw_at lw_m10 189 rfl) rfl
theorem q2576 : (Jvm.Cond.selects "RingHouse$Box" ({ cls := "RingHouse$Box", name := "many", desc := "(I)I" } : Jvm.MethodName) ({ cls := "RingHouse$Box", name := "many", desc := "(I)I" } : Jvm.MethodName)) ∈ lw_all := lw_g (lw_at lw_m10 190 rfl) rfl
theorem q2577 : (Jvm.Cond.code ({ cls := "RingHouse$Box", name := "many", desc := "(I)I" } : Jvm.MethodName) prog_7_method_2_code (4 : Nat) (Option.some Jvm.ClassFile.FieldType.int)) ∈ lw_all := lw_g (lw_at lw_m10 191 rfl) rfl
theorem q2582 : (Jvm.Cond.instanceMethod ({ cls := "RingHouse$Box", name := "seen", desc := "(II)I" } : Jvm.MethodName)) ∈ lw_all := lw_g (lw_at lw_m10 196 rfl) rfl
theorem q2583 : (Jvm.Cond.selects "RingHouse$Box" ({ cls := "RingHouse$Box", name := "seen", desc := "(II)I" } : Jvm.MethodName) ({ cls := "RingHouse$Box", name := "seen", desc := "(II)I" } : Jvm.MethodName)) ∈ lw_all := lw_g (lw_at lw_m10 197 rfl) rfl
theorem q2584 : (Jvm.Cond.code ({ cls := "RingHouse$Box", name := "seen", desc := "(II)I" } : Jvm.MethodName) prog_7_method_5_code (5 : Nat) (Option.some Jvm.ClassFile.FieldType.int)) ∈ lw_all := lw_g (lw_at lw_m10 198 rfl) rfl
theorem q2585 : (Jvm.Cond.methodLinkNest "RingHouse$Box" (27 : Nat) ({ cls := "RingHouse", name := "dominates", desc := "(II)Z" } : Jvm.MethodName) "RingHouse") ∈ lw_tbl := lw_at lw_m10 199 rfl
theorem q2590 : (Jvm.Cond.instanceMethod ({ cls := "RingHouse$Box", name := "oldest", desc := "(I)I" } : Jvm.MethodName)) ∈ lw_all := lw_g (lw_at lw_m10 204 rfl) rfl
theorem q2591 : (Jvm.Cond.selects "RingHouse$Box" ({ cls := "RingHouse$Box", name := "oldest", desc := "(I)I" } : Jvm.MethodName) ({ cls := "RingHouse$Box", name := "oldest", desc := "(I)I" } : Jvm.MethodName)) ∈ lw_all := lw_g (lw_at lw_m10 205 rfl) rfl
theorem q2592 : (Jvm.Cond.code ({ cls := "RingHouse$Box", name := "oldest", desc := "(I)I" } : Jvm.MethodName) prog_7_method_4_code (3 : Nat) (Option.some Jvm.ClassFile.FieldType.int)) ∈ lw_all := lw_g (lw_at lw_m10 206 rfl) rfl
theorem q2594 : (Jvm.Cond.instanceMethod ({ cls := "RingHouse$Box", name := "take", desc := "(I)J" } : Jvm.MethodName)) ∈ lw_all := lw_g (lw_at lw_m10 208 rfl) rfl
theorem q2595 : (Jvm.Cond.selects "RingHouse$Box" ({ cls := "RingHouse$Box", name := "take", desc := "(I)J" } : Jvm.MethodName) ({ cls := "RingHouse$Box", name := "take", desc := "(I)J" } : Jvm.MethodName)) ∈ lw_all := lw_g (lw_at lw_m10 209 rfl) rfl
theorem q2596 : (Jvm.Cond.code ({ cls := "RingHouse$Box", name := "take", desc := "(I)J" } : Jvm.MethodName) prog_7_method_6_code (5 : Nat) (Option.some Jvm.ClassFile.FieldType.long)) ∈ lw_all := lw_g (lw_at lw_m10 210 rfl) rfl
theorem in_X6 : ∀ w ∈ wsX60, w ∈ lw_all := lw_in wsX60 [550, 552, 554] (by decide +kernel) (by decide +kernel)
/-! RingHouse$Decoded -/
def RX7 : String := "RingHouse$Decoded"
def TX7 : u_T := fun k => match k with
  | 0 => ("RingHouse$Decoded", "word", "J", false)
  | 1 => ("RingHouse$Decoded", "operation", "LRingHouse$Operation;", false)
  | 2 => ("RingHouse$Decoded", "mode", "I", false)
  | 3 => ("RingHouse$Decoded", "p", "I", false)
  | 4 => ("RingHouse$Decoded", "n", "I", false)
  | 5 => ("RingHouse$Decoded", "index", "I", false)
  | _ => ("RingHouse$Decoded", "offset", "I", false)
def tyX7 : Nat → FieldType := fun k => match k with
  | 0 => .long
  | 1 => .object "RingHouse$Operation"
  | 2 => .int
  | 3 => .int
  | 4 => .int
  | 5 => .int
  | _ => .int
abbrev wsX70 : List Cond := u_ws RX7 TX7 7
theorem nmX7 : ∀ a, a < 7 → ∀ b, b < 7 → a ≠ b → (TX7 a).2.1 ≠ (TX7 b).2.1 := by decide +kernel
theorem tyX7_ok : ∀ k, k < 7 → parseFieldDescriptor (TX7 k).2.2.1 = some (tyX7 k) := by decide +kernel
abbrev cX7_init : ByteArray := prog_11_method_1_code
def yX7_init : MethodName := ⟨RX7, "<init>", "()V"⟩
abbrev cX7_take : ByteArray := prog_11_method_2_code
def yX7_take : MethodName := ⟨RX7, "take", "(J[LRingHouse$Operation;)V"⟩
theorem q234 : (Jvm.Cond.initialized "RingHouse$Decoded") ∈ lw_all := lw_g (lw_at lw_m1 8 rfl) rfl
theorem q631 : (Jvm.Cond.instantiable "RingHouse$Decoded" (7 : Nat)) ∈ lw_all := lw_g (lw_at lw_m2 165 rfl) rfl
theorem q633 : (Jvm.Cond.instanceMethod ({ cls := "RingHouse$Decoded", name := "<init>", desc := "()V" } : Jvm.MethodName)) ∈ lw_all := lw_g (lw_at lw_m2 167 rfl) rfl
theorem q634 : (Jvm.Cond.code ({ cls := "RingHouse$Decoded", name := "<init>", desc := "()V" } : Jvm.MethodName) prog_11_method_1_code (1 : Nat) (Option.none : Option Jvm.ClassFile.FieldType)) ∈ lw_all := lw_g (lw_at lw_m2 168 rfl) rfl
theorem q635 : (Jvm.Cond.methodLink "RingHouse$Decoded" (3 : Nat) ({ cls := "java/lang/Object", name := "<init>", desc := "()V" } : Jvm.MethodName)) ∈ lw_all := lw_g (lw_at lw_m2 169 rfl) rfl
theorem q636 : (Jvm.Cond.constantLong "RingHouse$Decoded" (9 : Nat) (-1 : Int64)) ∈ lw_all := lw_g (lw_at lw_m2 170 rfl) rfl
theorem q637 : (Jvm.Cond.fieldLink "RingHouse$Decoded" (11 : Nat) "RingHouse$Decoded" "word" "J") ∈ lw_all := lw_g (lw_at lw_m2 171 rfl) rfl
theorem q639 : (Jvm.Cond.fieldLink "RingHouse$Decoded" (49 : Nat) "RingHouse$Decoded" "operation" "LRingHouse$Operation;") ∈ lw_all := lw_g (lw_at lw_m2 173 rfl) rfl
theorem q641 : (Jvm.Cond.fieldLink "RingHouse$Decoded" (19 : Nat) "RingHouse$Decoded" "mode" "I") ∈ lw_all := lw_g (lw_at lw_m2 175 rfl) rfl
theorem q644 : (Jvm.Cond.fieldLink "RingHouse$Decoded" (23 : Nat) "RingHouse$Decoded" "p" "I") ∈ lw_all := lw_g (lw_at lw_m2 178 rfl) rfl
theorem q650 : (Jvm.Cond.fieldLink "RingHouse$Decoded" (26 : Nat) "RingHouse$Decoded" "n" "I") ∈ lw_all := lw_g (lw_at lw_m2 184 rfl) rfl
theorem q654 : (Jvm.Cond.fieldLink "RingHouse$Decoded" (29 : Nat) "RingHouse$Decoded" "index" "I") ∈ lw_all := lw_g (lw_at lw_m2 188 rfl) rfl
theorem q657 : (Jvm.Cond.fieldLink "RingHouse$Decoded" (34 : Nat) "RingHouse$Decoded" "offset" "I") ∈ lw_all := lw_g (lw_at lw_m2 191 rfl) rfl
theorem q660 : (Jvm.Cond.lays "RingHouse$Decoded" "RingHouse$Decoded" "word" "J") ∈ lw_all := lw_g (lw_at lw_m2 194 rfl) rfl
theorem q661 : (Jvm.Cond.soleField "RingHouse$Decoded" "word") ∈ lw_all := lw_g (lw_at lw_m2 195 rfl) rfl
theorem q662 : (Jvm.Cond.lays "RingHouse$Decoded" "RingHouse$Decoded" "operation" "LRingHouse$Operation;") ∈ lw_all := lw_g (lw_at lw_m2 196 rfl) rfl
theorem q663 : (Jvm.Cond.soleField "RingHouse$Decoded" "operation") ∈ lw_all := lw_g (lw_at lw_m2 197 rfl) rfl
theorem q664 : (Jvm.Cond.lays "RingHouse$Decoded" "RingHouse$Decoded" "mode" "I") ∈ lw_all := lw_g (lw_at lw_m2 198 rfl) rfl
theorem q665 : (Jvm.Cond.soleField "RingHouse$Decoded" "mode") ∈ lw_all := lw_g (lw_at lw_m2 199 rfl) rfl
theorem q666 : (Jvm.Cond.lays "RingHouse$Decoded" "RingHouse$Decoded" "p" "I") ∈ lw_all := lw_g (lw_at lw_m2 200 rfl) rfl
theorem q667 : (Jvm.Cond.soleField "RingHouse$Decoded" "p") ∈ lw_all := lw_g (lw_at lw_m2 201 rfl) rfl
theorem q668 : (Jvm.Cond.lays "RingHouse$Decoded" "RingHouse$Decoded" "n" "I") ∈ lw_all := lw_g (lw_at lw_m2 202 rfl) rfl
theorem q669 : (Jvm.Cond.soleField "RingHouse$Decoded" "n") ∈ lw_all := lw_g (lw_at lw_m2 203 rfl) rfl
theorem q670 : (Jvm.Cond.lays "RingHouse$Decoded" "RingHouse$Decoded" "index" "I") ∈ lw_all := lw_g (lw_at lw_m2 204 rfl) rfl
theorem q671 : (Jvm.Cond.soleField "RingHouse$Decoded" "index") ∈ lw_all := lw_g (lw_at lw_m2 205 rfl) rfl
theorem q672 : (Jvm.Cond.lays "RingHouse$Decoded" "RingHouse$Decoded" "offset" "I") ∈ lw_all := lw_g (lw_at lw_m2 206 rfl) rfl
theorem q673 : (Jvm.Cond.soleField "RingHouse$Decoded" "offset") ∈ lw_all := lw_g (lw_at lw_m2 207 rfl) rfl
theorem q674 : (Jvm.Cond.superclass "RingHouse$Decoded" "java/lang/Object") ∈ lw_all := lw_g (lw_at lw_m2 208 rfl) rfl
theorem q1038 : (Jvm.Cond.fieldLinkNest "RingHouse$Decoded" (37 : Nat) "RingHouse$Operation" "sort" "I" "RingHouse") ∈ lw_tbl := lw_at lw_m4 92 rfl
theorem q1043 : (Jvm.Cond.fieldLinkNest "RingHouse$Decoded" (46 : Nat) "RingHouse$Operation" "registers" "I" "RingHouse") ∈ lw_tbl := lw_at lw_m4 97 rfl
theorem q2254 : (Jvm.Cond.instanceMethod ({ cls := "RingHouse$Decoded", name := "take", desc := "(J[LRingHouse$Operation;)V" } : Jvm.MethodName)) ∈ lw_all := lw_g (lw_at lw_m9 108 rfl) rfl
theorem q2255 : (Jvm.Cond.selects "RingHouse$Decoded" ({ cls := "RingHouse$Decoded", name := "take", desc := "(J[LRingHouse$Operation;)V" } : Jvm.MethodName) ({ cls := "RingHouse$Decoded", name := "take", desc := "(J[LRingHouse$Operation;)V" } : Jvm.MethodName)) ∈ lw_all := lw_g (lw_at lw_m9 109 rfl) rfl
theorem q2256 : (Jvm.Cond.code ({ cls := "RingHouse$Decoded", name := "take", desc := "(J[LRingHouse$Operation;)V" } : Jvm.MethodName) prog_11_method_2_code (6 : Nat) (Option.none : Option Jvm.ClassFile.FieldType)) ∈ lw_all := lw_g (lw_at lw_m9 110 rfl) rfl
theorem q2257 : (Jvm.Cond.constantLong "RingHouse$Decoded" (17 : Nat) (7 : Int64)) ∈ lw_all := lw_g (lw_at lw_m9 111 rfl) rfl
theorem q2258 : (Jvm.Cond.constantLong "RingHouse$Decoded" (32 : Nat) (262143 : Int64)) ∈ lw_all := lw_g (lw_at lw_m9 112 rfl) rfl
theorem q2259 : (Jvm.Cond.methodLink "RingHouse$Decoded" (42 : Nat) ({ cls := "RingHouse$Operation", name := "takesMode", desc := "(I)Z" } : Jvm.MethodName)) ∈ lw_all := lw_g (lw_at lw_m9 113 rfl) rfl
theorem in_X7 : ∀ w ∈ wsX70, w ∈ lw_all := lw_in wsX70 [660, 662, 664, 666, 668, 670, 672] (by decide +kernel) (by decide +kernel)
/-! RingHouse$Process -/
def RX8 : String := "RingHouse$Process"
def TX8 : u_T := fun k => match k with
  | 0 => ("RingHouse$Process", "tree", "LRingHouse$Tree;", true)
  | 1 => ("RingHouse$Process", "itself", "I", true)
  | 2 => ("RingHouse$Process", "lives", "Z", false)
  | 3 => ("RingHouse$Process", "state", "I", false)
  | 4 => ("RingHouse$Process", "person", "I", false)
  | 5 => ("RingHouse$Process", "project", "I", false)
  | 6 => ("RingHouse$Process", "label", "I", false)
  | 7 => ("RingHouse$Process", "ticks", "I", false)
  | 8 => ("RingHouse$Process", "now", "LRingHouse$Registers;", true)
  | 9 => ("RingHouse$Process", "frames", "[LRingHouse$Registers;", true)
  | 10 => ("RingHouse$Process", "framed", "I", false)
  | 11 => ("RingHouse$Process", "hasHandler", "Z", false)
  | 12 => ("RingHouse$Process", "handlerNumber", "I", false)
  | 13 => ("RingHouse$Process", "handlerPlace", "I", false)
  | 14 => ("RingHouse$Process", "handlerRing", "I", false)
  | 15 => ("RingHouse$Process", "stacks", "[J", true)
  | 16 => ("RingHouse$Process", "known", "[LRingHouse$Node;", true)
  | 17 => ("RingHouse$Process", "rights", "[LRingHouse$Rights;", true)
  | 18 => ("RingHouse$Process", "linked", "[I", true)
  | 19 => ("RingHouse$Process", "linkPlace", "[I", true)
  | 20 => ("RingHouse$Process", "work", "LRingHouse$Node;", false)
  | 21 => ("RingHouse$Process", "search", "[LRingHouse$Node;", true)
  | 22 => ("RingHouse$Process", "messages", "[J", true)
  | 23 => ("RingHouse$Process", "head", "I", false)
  | 24 => ("RingHouse$Process", "waiting", "I", false)
  | _ => ("RingHouse$Process", "trace", "LRingHouse$Trace;", true)
def tyX8 : Nat → FieldType := fun k => match k with
  | 0 => .object "RingHouse$Tree"
  | 1 => .int
  | 2 => .boolean
  | 3 => .int
  | 4 => .int
  | 5 => .int
  | 6 => .int
  | 7 => .int
  | 8 => .object "RingHouse$Registers"
  | 9 => .array (.object "RingHouse$Registers")
  | 10 => .int
  | 11 => .boolean
  | 12 => .int
  | 13 => .int
  | 14 => .int
  | 15 => .array .long
  | 16 => .array (.object "RingHouse$Node")
  | 17 => .array (.object "RingHouse$Rights")
  | 18 => .array .int
  | 19 => .array .int
  | 20 => .object "RingHouse$Node"
  | 21 => .array (.object "RingHouse$Node")
  | 22 => .array .long
  | 23 => .int
  | 24 => .int
  | _ => .object "RingHouse$Trace"
abbrev wsX80 : List Cond := u_ws RX8 TX8 26
theorem nmX8 : ∀ a, a < 26 → ∀ b, b < 26 → a ≠ b → (TX8 a).2.1 ≠ (TX8 b).2.1 := by decide +kernel
theorem tyX8_ok : ∀ k, k < 26 → parseFieldDescriptor (TX8 k).2.2.1 = some (tyX8 k) := by decide +kernel
abbrev cX8_init : ByteArray := prog_38_method_1_code
def yX8_init : MethodName := ⟨RX8, "<init>", "(LRingHouse$Tree;I)V"⟩
abbrev cX8_loose : ByteArray := prog_38_method_8_code
def yX8_loose : MethodName := ⟨RX8, "loose", "(LRingHouse$Node;)V"⟩
abbrev cX8_forget : ByteArray := prog_38_method_6_code
def yX8_forget : MethodName := ⟨RX8, "forget", "(I)V"⟩
abbrev cX8_unbind : ByteArray := prog_38_method_5_code
def yX8_unbind : MethodName := ⟨RX8, "unbind", "(I)V"⟩
abbrev cX8_begin : ByteArray := prog_38_method_2_code
def yX8_begin : MethodName := ⟨RX8, "begin", "(IIILRingHouse$Node;II)V"⟩
abbrev cX8_know : ByteArray := prog_38_method_4_code
def yX8_know : MethodName := ⟨RX8, "know", "(ILRingHouse$Node;)V"⟩
abbrev cX8_isFull : ByteArray := prog_38_method_13_code
def yX8_isFull : MethodName := ⟨RX8, "isFull", "()Z"⟩
abbrev cX8_receive : ByteArray := prog_38_method_14_code
def yX8_receive : MethodName := ⟨RX8, "receive", "(J)V"⟩
abbrev cX8_oldest : ByteArray := prog_38_method_15_code
def yX8_oldest : MethodName := ⟨RX8, "oldest", "()J"⟩
abbrev cX8_event : ByteArray := prog_38_method_3_code
def yX8_event : MethodName := ⟨RX8, "event", "(IJJJ)V"⟩
abbrev cX8_fault : ByteArray := prog_38_method_18_code
def yX8_fault : MethodName := ⟨RX8, "fault", "(IIII)V"⟩
abbrev cX8_refusal : ByteArray := prog_38_method_10_code
def yX8_refusal : MethodName := ⟨RX8, "refusal", "(III)I"⟩
abbrev cX8_rightsOf : ByteArray := prog_38_method_9_code
def yX8_rightsOf : MethodName := ⟨RX8, "rightsOf", "(I)LRingHouse$Rights;"⟩
abbrev cX8_refusal_2 : ByteArray := prog_38_method_11_code
def yX8_refusal_2 : MethodName := ⟨RX8, "refusal", "(LRingHouse$Node;I)I"⟩
abbrev cX8_numberFor : ByteArray := prog_38_method_7_code
def yX8_numberFor : MethodName := ⟨RX8, "numberFor", "(LRingHouse$Node;)I"⟩
abbrev cX8_end : ByteArray := prog_38_method_17_code
def yX8_end : MethodName := ⟨RX8, "end", "()V"⟩
abbrev cX8_refusalOfBox : ByteArray := prog_38_method_12_code
def yX8_refusalOfBox : MethodName := ⟨RX8, "refusalOfBox", "(LRingHouse$Node;I)I"⟩
abbrev cX8_take : ByteArray := prog_38_method_16_code
def yX8_take : MethodName := ⟨RX8, "take", "()J"⟩
theorem q235 : (Jvm.Cond.initialized "RingHouse$Process") ∈ lw_all := lw_g (lw_at lw_m1 9 rfl) rfl
theorem q393 : (Jvm.Cond.fieldLinkNest "RingHouse$Process" (147 : Nat) "RingHouse$Node" "label" "I" "RingHouse") ∈ lw_tbl := lw_at lw_m1 167 rfl
theorem q413 : (Jvm.Cond.fieldLinkNest "RingHouse$Process" (134 : Nat) "RingHouse$Node" "acl" "LRingHouse$Acl;" "RingHouse") ∈ lw_tbl := lw_at lw_m1 187 rfl
theorem q425 : (Jvm.Cond.fieldLinkNest "RingHouse$Process" (165 : Nat) "RingHouse$Node" "r1" "I" "RingHouse") ∈ lw_tbl := lw_at lw_m1 199 rfl
theorem q432 : (Jvm.Cond.fieldLinkNest "RingHouse$Process" (162 : Nat) "RingHouse$Node" "r2" "I" "RingHouse") ∈ lw_tbl := lw_at lw_m1 206 rfl
theorem q597 : (Jvm.Cond.fieldLinkNest "RingHouse$Process" (107 : Nat) "RingHouse$Tree" "root" "LRingHouse$Node;" "RingHouse") ∈ lw_tbl := lw_at lw_m2 131 rfl
theorem q604 : (Jvm.Cond.fieldLinkNest "RingHouse$Process" (133 : Nat) "RingHouse$Tree" "version" "I" "RingHouse") ∈ lw_tbl := lw_at lw_m2 138 rfl
theorem q675 : (Jvm.Cond.instantiable "RingHouse$Process" (26 : Nat)) ∈ lw_all := lw_g (lw_at lw_m2 209 rfl) rfl
theorem q677 : (Jvm.Cond.instanceMethod ({ cls := "RingHouse$Process", name := "<init>", desc := "(LRingHouse$Tree;I)V" } : Jvm.MethodName)) ∈ lw_all := lw_g (lw_at lw_m2 211 rfl) rfl
theorem q678 : (Jvm.Cond.code ({ cls := "RingHouse$Process", name := "<init>", desc := "(LRingHouse$Tree;I)V" } : Jvm.MethodName) prog_38_method_1_code (4 : Nat) (Option.none : Option Jvm.ClassFile.FieldType)) ∈ lw_all := lw_g (lw_at lw_m2 212 rfl) rfl
theorem q679 : (Jvm.Cond.methodLink "RingHouse$Process" (3 : Nat) ({ cls := "java/lang/Object", name := "<init>", desc := "()V" } : Jvm.MethodName)) ∈ lw_all := lw_g (lw_at lw_m2 213 rfl) rfl
theorem q680 : (Jvm.Cond.classLink "RingHouse$Process" (9 : Nat) "RingHouse$Registers") ∈ lw_all := lw_g (lw_at lw_m2 214 rfl) rfl
theorem q682 : (Jvm.Cond.methodLinkNest "RingHouse$Process" (11 : Nat) ({ cls := "RingHouse$Registers", name := "<init>", desc := "()V" } : Jvm.MethodName) "RingHouse") ∈ lw_tbl := lw_at lw_m2 216 rfl
theorem q708 : (Jvm.Cond.fieldLinkNest "RingHouse$Process" (181 : Nat) "RingHouse$Registers" "a" "J" "RingHouse") ∈ lw_tbl := lw_at lw_m3 2 rfl
theorem q731 : (Jvm.Cond.fieldLinkNest "RingHouse$Process" (189 : Nat) "RingHouse$Registers" "q" "J" "RingHouse") ∈ lw_tbl := lw_at lw_m3 25 rfl
theorem q779 : (Jvm.Cond.fieldLinkNest "RingHouse$Process" (168 : Nat) "RingHouse$Registers" "ring" "I" "RingHouse") ∈ lw_tbl := lw_at lw_m3 73 rfl
theorem q813 : (Jvm.Cond.classLink "RingHouse$Process" (26 : Nat) "RingHouse$Node") ∈ lw_all := lw_g (lw_at lw_m3 107 rfl) rfl
theorem q814 : (Jvm.Cond.classLink "RingHouse$Process" (32 : Nat) "RingHouse$Rights") ∈ lw_all := lw_g (lw_at lw_m3 108 rfl) rfl
theorem q816 : (Jvm.Cond.classLink "RingHouse$Process" (51 : Nat) "RingHouse$Trace") ∈ lw_all := lw_g (lw_at lw_m3 110 rfl) rfl
theorem q818 : (Jvm.Cond.methodLinkNest "RingHouse$Process" (53 : Nat) ({ cls := "RingHouse$Trace", name := "<init>", desc := "()V" } : Jvm.MethodName) "RingHouse") ∈ lw_tbl := lw_at lw_m3 112 rfl
theorem q837 : (Jvm.Cond.methodLinkNest "RingHouse$Process" (66 : Nat) ({ cls := "RingHouse$Rights", name := "<init>", desc := "()V" } : Jvm.MethodName) "RingHouse") ∈ lw_tbl := lw_at lw_m3 131 rfl
theorem q841 : (Jvm.Cond.fieldLinkNest "RingHouse$Process" (127 : Nat) "RingHouse$Rights" "version" "I" "RingHouse") ∈ lw_tbl := lw_at lw_m3 135 rfl
theorem q842 : (Jvm.Cond.fieldLinkNest "RingHouse$Process" (144 : Nat) "RingHouse$Rights" "modes" "I" "RingHouse") ∈ lw_tbl := lw_at lw_m3 136 rfl
theorem q843 : (Jvm.Cond.fieldLinkNest "RingHouse$Process" (152 : Nat) "RingHouse$Rights" "isAbove" "Z" "RingHouse") ∈ lw_tbl := lw_at lw_m3 137 rfl
theorem q844 : (Jvm.Cond.fieldLinkNest "RingHouse$Process" (155 : Nat) "RingHouse$Rights" "isSame" "Z" "RingHouse") ∈ lw_tbl := lw_at lw_m3 138 rfl
theorem q854 : (Jvm.Cond.fieldLink "RingHouse$Process" (58 : Nat) "RingHouse$Process" "tree" "LRingHouse$Tree;") ∈ lw_all := lw_g (lw_at lw_m3 148 rfl) rfl
theorem q855 : (Jvm.Cond.fieldLink "RingHouse$Process" (62 : Nat) "RingHouse$Process" "itself" "I") ∈ lw_all := lw_g (lw_at lw_m3 149 rfl) rfl
theorem q858 : (Jvm.Cond.fieldLink "RingHouse$Process" (67 : Nat) "RingHouse$Process" "lives" "Z") ∈ lw_all := lw_g (lw_at lw_m3 152 rfl) rfl
theorem q862 : (Jvm.Cond.fieldLink "RingHouse$Process" (71 : Nat) "RingHouse$Process" "state" "I") ∈ lw_all := lw_g (lw_at lw_m3 156 rfl) rfl
theorem q866 : (Jvm.Cond.fieldLink "RingHouse$Process" (74 : Nat) "RingHouse$Process" "person" "I") ∈ lw_all := lw_g (lw_at lw_m3 160 rfl) rfl
theorem q872 : (Jvm.Cond.fieldLink "RingHouse$Process" (77 : Nat) "RingHouse$Process" "project" "I") ∈ lw_all := lw_g (lw_at lw_m3 166 rfl) rfl
theorem q882 : (Jvm.Cond.fieldLink "RingHouse$Process" (80 : Nat) "RingHouse$Process" "label" "I") ∈ lw_all := lw_g (lw_at lw_m3 176 rfl) rfl
theorem q887 : (Jvm.Cond.fieldLink "RingHouse$Process" (83 : Nat) "RingHouse$Process" "ticks" "I") ∈ lw_all := lw_g (lw_at lw_m3 181 rfl) rfl
theorem q890 : (Jvm.Cond.fieldLink "RingHouse$Process" (12 : Nat) "RingHouse$Process" "now" "LRingHouse$Registers;") ∈ lw_all := lw_g (lw_at lw_m3 184 rfl) rfl
theorem q893 : (Jvm.Cond.fieldLink "RingHouse$Process" (18 : Nat) "RingHouse$Process" "frames" "[LRingHouse$Registers;") ∈ lw_all := lw_g (lw_at lw_m3 187 rfl) rfl
theorem q896 : (Jvm.Cond.fieldLink "RingHouse$Process" (93 : Nat) "RingHouse$Process" "framed" "I") ∈ lw_all := lw_g (lw_at lw_m3 190 rfl) rfl
theorem q899 : (Jvm.Cond.fieldLink "RingHouse$Process" (96 : Nat) "RingHouse$Process" "hasHandler" "Z") ∈ lw_all := lw_g (lw_at lw_m3 193 rfl) rfl
theorem q902 : (Jvm.Cond.fieldLink "RingHouse$Process" (192 : Nat) "RingHouse$Process" "handlerNumber" "I") ∈ lw_all := lw_g (lw_at lw_m3 196 rfl) rfl
theorem q904 : (Jvm.Cond.fieldLink "RingHouse$Process" (195 : Nat) "RingHouse$Process" "handlerPlace" "I") ∈ lw_all := lw_g (lw_at lw_m3 198 rfl) rfl
theorem q906 : (Jvm.Cond.fieldLink "RingHouse$Process" (174 : Nat) "RingHouse$Process" "handlerRing" "I") ∈ lw_all := lw_g (lw_at lw_m3 200 rfl) rfl
theorem q907 : (Jvm.Cond.fieldLink "RingHouse$Process" (22 : Nat) "RingHouse$Process" "stacks" "[J") ∈ lw_all := lw_g (lw_at lw_m3 201 rfl) rfl
theorem q910 : (Jvm.Cond.fieldLink "RingHouse$Process" (28 : Nat) "RingHouse$Process" "known" "[LRingHouse$Node;") ∈ lw_all := lw_g (lw_at lw_m3 204 rfl) rfl
theorem q915 : (Jvm.Cond.fieldLink "RingHouse$Process" (34 : Nat) "RingHouse$Process" "rights" "[LRingHouse$Rights;") ∈ lw_all := lw_g (lw_at lw_m3 209 rfl) rfl
theorem q916 : (Jvm.Cond.fieldLink "RingHouse$Process" (38 : Nat) "RingHouse$Process" "linked" "[I") ∈ lw_all := lw_g (lw_at lw_m3 210 rfl) rfl
theorem q919 : (Jvm.Cond.fieldLink "RingHouse$Process" (42 : Nat) "RingHouse$Process" "linkPlace" "[I") ∈ lw_all := lw_g (lw_at lw_m3 213 rfl) rfl
theorem q930 : (Jvm.Cond.fieldLink "RingHouse$Process" (113 : Nat) "RingHouse$Process" "work" "LRingHouse$Node;") ∈ lw_all := lw_g (lw_at lw_m3 224 rfl) rfl
theorem q932 : (Jvm.Cond.fieldLink "RingHouse$Process" (45 : Nat) "RingHouse$Process" "search" "[LRingHouse$Node;") ∈ lw_all := lw_g (lw_at lw_m3 226 rfl) rfl
theorem q936 : (Jvm.Cond.fieldLink "RingHouse$Process" (48 : Nat) "RingHouse$Process" "messages" "[J") ∈ lw_all := lw_g (lw_at lw_m3 230 rfl) rfl
theorem q937 : (Jvm.Cond.fieldLink "RingHouse$Process" (116 : Nat) "RingHouse$Process" "head" "I") ∈ lw_all := lw_g (lw_at lw_m3 231 rfl) rfl
theorem q939 : (Jvm.Cond.fieldLink "RingHouse$Process" (119 : Nat) "RingHouse$Process" "waiting" "I") ∈ lw_all := lw_g (lw_at lw_m3 233 rfl) rfl
theorem q942 : (Jvm.Cond.fieldLink "RingHouse$Process" (54 : Nat) "RingHouse$Process" "trace" "LRingHouse$Trace;") ∈ lw_all := lw_g (lw_at lw_m3 236 rfl) rfl
theorem q944 : (Jvm.Cond.laysFinal "RingHouse$Process" "RingHouse$Process" "tree" "LRingHouse$Tree;") ∈ lw_all := lw_g (lw_at lw_m3 238 rfl) rfl
theorem q945 : (Jvm.Cond.soleField "RingHouse$Process" "tree") ∈ lw_all := lw_g (lw_at lw_m3 239 rfl) rfl
theorem q946 : (Jvm.Cond.laysFinal "RingHouse$Process" "RingHouse$Process" "itself" "I") ∈ lw_all := lw_g (lw_at lw_m4 0 rfl) rfl
theorem q947 : (Jvm.Cond.soleField "RingHouse$Process" "itself") ∈ lw_all := lw_g (lw_at lw_m4 1 rfl) rfl
theorem q948 : (Jvm.Cond.lays "RingHouse$Process" "RingHouse$Process" "lives" "Z") ∈ lw_all := lw_g (lw_at lw_m4 2 rfl) rfl
theorem q949 : (Jvm.Cond.soleField "RingHouse$Process" "lives") ∈ lw_all := lw_g (lw_at lw_m4 3 rfl) rfl
theorem q950 : (Jvm.Cond.lays "RingHouse$Process" "RingHouse$Process" "state" "I") ∈ lw_all := lw_g (lw_at lw_m4 4 rfl) rfl
theorem q951 : (Jvm.Cond.soleField "RingHouse$Process" "state") ∈ lw_all := lw_g (lw_at lw_m4 5 rfl) rfl
theorem q952 : (Jvm.Cond.lays "RingHouse$Process" "RingHouse$Process" "person" "I") ∈ lw_all := lw_g (lw_at lw_m4 6 rfl) rfl
theorem q953 : (Jvm.Cond.soleField "RingHouse$Process" "person") ∈ lw_all := lw_g (lw_at lw_m4 7 rfl) rfl
theorem q954 : (Jvm.Cond.lays "RingHouse$Process" "RingHouse$Process" "project" "I") ∈ lw_all := lw_g (lw_at lw_m4 8 rfl) rfl
theorem q955 : (Jvm.Cond.soleField "RingHouse$Process" "project") ∈ lw_all := lw_g (lw_at lw_m4 9 rfl) rfl
theorem q956 : (Jvm.Cond.lays "RingHouse$Process" "RingHouse$Process" "label" "I") ∈ lw_all := lw_g (lw_at lw_m4 10 rfl) rfl
theorem q957 : (Jvm.Cond.soleField "RingHouse$Process" "label") ∈ lw_all := lw_g (lw_at lw_m4 11 rfl) rfl
theorem q958 : (Jvm.Cond.lays "RingHouse$Process" "RingHouse$Process" "ticks" "I") ∈ lw_all := lw_g (lw_at lw_m4 12 rfl) rfl
theorem q959 : (Jvm.Cond.soleField "RingHouse$Process" "ticks") ∈ lw_all := lw_g (lw_at lw_m4 13 rfl) rfl
theorem q960 : (Jvm.Cond.laysFinal "RingHouse$Process" "RingHouse$Process" "now" "LRingHouse$Registers;") ∈ lw_all := lw_g (lw_at lw_m4 14 rfl) rfl
theorem q961 : (Jvm.Cond.soleField "RingHouse$Process" "now") ∈ lw_all := lw_g (lw_at lw_m4 15 rfl) rfl
theorem q962 : (Jvm.Cond.laysFinal "RingHouse$Process" "RingHouse$Process" "frames" "[LRingHouse$Registers;") ∈ lw_all := lw_g (lw_at lw_m4 16 rfl) rfl
theorem q963 : (Jvm.Cond.soleField "RingHouse$Process" "frames") ∈ lw_all := lw_g (lw_at lw_m4 17 rfl) rfl
theorem q964 : (Jvm.Cond.lays "RingHouse$Process" "RingHouse$Process" "framed" "I") ∈ lw_all := lw_g (lw_at lw_m4 18 rfl) rfl
theorem q965 : (Jvm.Cond.soleField "RingHouse$Process" "framed") ∈ lw_all := lw_g (lw_at lw_m4 19 rfl) rfl
theorem q966 : (Jvm.Cond.lays "RingHouse$Process" "RingHouse$Process" "hasHandler" "Z") ∈ lw_all := lw_g (lw_at lw_m4 20 rfl) rfl
theorem q967 : (Jvm.Cond.soleField "RingHouse$Process" "hasHandler") ∈ lw_all := lw_g (lw_at lw_m4 21 rfl) rfl
theorem q968 : (Jvm.Cond.lays "RingHouse$Process" "RingHouse$Process" "handlerNumber" "I") ∈ lw_all := lw_g (lw_at lw_m4 22 rfl) rfl
theorem q969 : (Jvm.Cond.soleField "RingHouse$Process" "handlerNumber") ∈ lw_all := lw_g (lw_at lw_m4 23 rfl) rfl
theorem q970 : (Jvm.Cond.lays "RingHouse$Process" "RingHouse$Process" "handlerPlace" "I") ∈ lw_all := lw_g (lw_at lw_m4 24 rfl) rfl
theorem q971 : (Jvm.Cond.soleField "RingHouse$Process" "handlerPlace") ∈ lw_all := lw_g (lw_at lw_m4 25 rfl) rfl
theorem q972 : (Jvm.Cond.lays "RingHouse$Process" "RingHouse$Process" "handlerRing" "I") ∈ lw_all := lw_g (lw_at lw_m4 26 rfl) rfl
theorem q973 : (Jvm.Cond.soleField "RingHouse$Process" "handlerRing") ∈ lw_all := lw_g (lw_at lw_m4 27 rfl) rfl
theorem q974 : (Jvm.Cond.laysFinal "RingHouse$Process" "RingHouse$Process" "stacks" "[J") ∈ lw_all := lw_g (lw_at lw_m4 28 rfl) rfl
theorem q975 : (Jvm.Cond.soleField "RingHouse$Process" "stacks") ∈ lw_all := lw_g (lw_at lw_m4 29 rfl) rfl
theorem q976 : (Jvm.Cond.laysFinal "RingHouse$Process" "RingHouse$Process" "known" "[LRingHouse$Node;") ∈ lw_all := lw_g (lw_at lw_m4 30 rfl) rfl
theorem q977 : (Jvm.Cond.soleField "RingHouse$Process" "known") ∈ lw_all := lw_g (lw_at lw_m4 31 rfl) rfl
theorem q978 : (Jvm.Cond.laysFinal "RingHouse$Process" "RingHouse$Process" "rights" "[LRingHouse$Rights;") ∈ lw_all := lw_g (lw_at lw_m4 32 rfl) rfl
theorem q979 : (Jvm.Cond.soleField "RingHouse$Process" "rights") ∈ lw_all := lw_g (lw_at lw_m4 33 rfl) rfl
theorem q980 : (Jvm.Cond.laysFinal "RingHouse$Process" "RingHouse$Process" "linked" "[I") ∈ lw_all := lw_g (lw_at lw_m4 34 rfl) rfl
theorem q981 : (Jvm.Cond.soleField "RingHouse$Process" "linked") ∈ lw_all := lw_g (lw_at lw_m4 35 rfl) rfl
theorem q982 : (Jvm.Cond.laysFinal "RingHouse$Process" "RingHouse$Process" "linkPlace" "[I") ∈ lw_all := lw_g (lw_at lw_m4 36 rfl) rfl
theorem q983 : (Jvm.Cond.soleField "RingHouse$Process" "linkPlace") ∈ lw_all := lw_g (lw_at lw_m4 37 rfl) rfl
theorem q984 : (Jvm.Cond.lays "RingHouse$Process" "RingHouse$Process" "work" "LRingHouse$Node;") ∈ lw_all := lw_g (lw_at lw_m4 38 rfl) rfl
theorem q985 : (Jvm.Cond.soleField "RingHouse$Process" "work") ∈ lw_all := lw_g (lw_at lw_m4 39 rfl) rfl
theorem q986 : (Jvm.Cond.laysFinal "RingHouse$Process" "RingHouse$Process" "search" "[LRingHouse$Node;") ∈ lw_all := lw_g (lw_at lw_m4 40 rfl) rfl
theorem q987 : (Jvm.Cond.soleField "RingHouse$Process" "search") ∈ lw_all := lw_g (lw_at lw_m4 41 rfl) rfl
theorem q988 : (Jvm.Cond.laysFinal "RingHouse$Process" "RingHouse$Process" "messages" "[J") ∈ lw_all := lw_g (lw_at lw_m4 42 rfl) rfl
theorem q989 : (Jvm.Cond.soleField "RingHouse$Process" "messages") ∈ lw_all := lw_g (lw_at lw_m4 43 rfl) rfl
theorem q990 : (Jvm.Cond.lays "RingHouse$Process" "RingHouse$Process" "head" "I") ∈ lw_all := lw_g (lw_at lw_m4 44 rfl) rfl
theorem q991 : (Jvm.Cond.soleField "RingHouse$Process" "head") ∈ lw_all := lw_g (lw_at lw_m4 45 rfl) rfl
theorem q992 : (Jvm.Cond.lays "RingHouse$Process" "RingHouse$Process" "waiting" "I") ∈ lw_all := lw_g (lw_at lw_m4 46 rfl) rfl
theorem q993 : (Jvm.Cond.soleField "RingHouse$Process" "waiting") ∈ lw_all := lw_g (lw_at lw_m4 47 rfl) rfl
theorem q994 : (Jvm.Cond.laysFinal "RingHouse$Process" "RingHouse$Process" "trace" "LRingHouse$Trace;") ∈ lw_all := lw_g (lw_at lw_m4 48 rfl) rfl
theorem q995 : (Jvm.Cond.soleField "RingHouse$Process" "trace") ∈ lw_all := lw_g (lw_at lw_m4 49 rfl) rfl
theorem q996 : (Jvm.Cond.superclass "RingHouse$Process" "java/lang/Object") ∈ lw_all := lw_g (lw_at lw_m4 50 rfl) rfl
theorem q2045 : (Jvm.Cond.instanceMethod ({ cls := "RingHouse$Process", name := "loose", desc := "(LRingHouse$Node;)V" } : Jvm.MethodName)) ∈ lw_all := lw_g (lw_at lw_m8 139 rfl) rfl
theorem q2046 : (Jvm.Cond.selects "RingHouse$Process" ({ cls := "RingHouse$Process", name := "loose", desc := "(LRingHouse$Node;)V" } : Jvm.MethodName) ({ cls := "RingHouse$Process", name := "loose", desc := "(LRingHouse$Node;)V" } : Jvm.MethodName)) ∈ lw_all := lw_g (lw_at lw_m8 140 rfl) rfl
theorem q2047 : (Jvm.Cond.code ({ cls := "RingHouse$Process", name := "loose", desc := "(LRingHouse$Node;)V" } : Jvm.MethodName) prog_38_method_8_code (3 : Nat) (Option.none : Option Jvm.ClassFile.FieldType)) ∈ lw_all := lw_g (lw_at lw_m8 141 rfl) rfl
theorem q2048 : (Jvm.Cond.methodLink "RingHouse$Process" (130 : Nat) ({ cls := "RingHouse$Process", name := "forget", desc := "(I)V" } : Jvm.MethodName)) ∈ lw_all := lw_g (lw_at lw_m8 142 rfl) rfl
theorem q2049 : (Jvm.Cond.instanceMethod ({ cls := "RingHouse$Process", name := "forget", desc := "(I)V" } : Jvm.MethodName)) ∈ lw_all := lw_g (lw_at lw_m8 143 rfl) rfl
theorem q2050 : (Jvm.Cond.selects "RingHouse$Process" ({ cls := "RingHouse$Process", name := "forget", desc := "(I)V" } : Jvm.MethodName) ({ cls := "RingHouse$Process", name := "forget", desc := "(I)V" } : Jvm.MethodName)) ∈ lw_all := lw_g (lw_at lw_m8 144 rfl) rfl
theorem q2051 : (Jvm.Cond.code ({ cls := "RingHouse$Process", name := "forget", desc := "(I)V" } : Jvm.MethodName) prog_38_method_6_code (3 : Nat) (Option.none : Option Jvm.ClassFile.FieldType)) ∈ lw_all := lw_g (lw_at lw_m8 145 rfl) rfl
theorem q2052 : (Jvm.Cond.methodLink "RingHouse$Process" (99 : Nat) ({ cls := "RingHouse$Process", name := "unbind", desc := "(I)V" } : Jvm.MethodName)) ∈ lw_all := lw_g (lw_at lw_m8 146 rfl) rfl
theorem q2053 : (Jvm.Cond.privateMethod ({ cls := "RingHouse$Process", name := "unbind", desc := "(I)V" } : Jvm.MethodName)) ∈ lw_tbl := lw_at lw_m8 147 rfl
theorem q2054 : (Jvm.Cond.instanceMethod ({ cls := "RingHouse$Process", name := "unbind", desc := "(I)V" } : Jvm.MethodName)) ∈ lw_all := lw_g (lw_at lw_m8 148 rfl) rfl
theorem q2055 : (Jvm.Cond.code ({ cls := "RingHouse$Process", name := "unbind", desc := "(I)V" } : Jvm.MethodName) prog_38_method_5_code (3 : Nat) (Option.none : Option Jvm.ClassFile.FieldType)) ∈ lw_all := lw_g (lw_at lw_m8 149 rfl) rfl
theorem q2131 : (Jvm.Cond.instanceMethod ({ cls := "RingHouse$Process", name := "begin", desc := "(IIILRingHouse$Node;II)V" } : Jvm.MethodName)) ∈ lw_all := lw_g (lw_at lw_m8 225 rfl) rfl
theorem q2132 : (Jvm.Cond.selects "RingHouse$Process" ({ cls := "RingHouse$Process", name := "begin", desc := "(IIILRingHouse$Node;II)V" } : Jvm.MethodName) ({ cls := "RingHouse$Process", name := "begin", desc := "(IIILRingHouse$Node;II)V" } : Jvm.MethodName)) ∈ lw_all := lw_g (lw_at lw_m8 226 rfl) rfl
theorem q2133 : (Jvm.Cond.code ({ cls := "RingHouse$Process", name := "begin", desc := "(IIILRingHouse$Node;II)V" } : Jvm.MethodName) prog_38_method_2_code (8 : Nat) (Option.none : Option Jvm.ClassFile.FieldType)) ∈ lw_all := lw_g (lw_at lw_m8 227 rfl) rfl
theorem q2134 : (Jvm.Cond.methodLink "RingHouse$Process" (86 : Nat) ({ cls := "RingHouse$Registers", name := "clear", desc := "()V" } : Jvm.MethodName)) ∈ lw_all := lw_g (lw_at lw_m8 228 rfl) rfl
theorem q2146 : (Jvm.Cond.methodLink "RingHouse$Process" (89 : Nat) ({ cls := "RingHouse$Registers", name := "go", desc := "(III)V" } : Jvm.MethodName)) ∈ lw_all := lw_g (lw_at lw_m9 0 rfl) rfl
theorem q2147 : (Jvm.Cond.methodLink "RingHouse$Process" (103 : Nat) ({ cls := "RingHouse$Process", name := "know", desc := "(ILRingHouse$Node;)V" } : Jvm.MethodName)) ∈ lw_all := lw_g (lw_at lw_m9 1 rfl) rfl
theorem q2148 : (Jvm.Cond.privateMethod ({ cls := "RingHouse$Process", name := "know", desc := "(ILRingHouse$Node;)V" } : Jvm.MethodName)) ∈ lw_tbl := lw_at lw_m9 2 rfl
theorem q2149 : (Jvm.Cond.instanceMethod ({ cls := "RingHouse$Process", name := "know", desc := "(ILRingHouse$Node;)V" } : Jvm.MethodName)) ∈ lw_all := lw_g (lw_at lw_m9 3 rfl) rfl
theorem q2150 : (Jvm.Cond.code ({ cls := "RingHouse$Process", name := "know", desc := "(ILRingHouse$Node;)V" } : Jvm.MethodName) prog_38_method_4_code (3 : Nat) (Option.none : Option Jvm.ClassFile.FieldType)) ∈ lw_all := lw_g (lw_at lw_m9 4 rfl) rfl
theorem q2151 : (Jvm.Cond.methodLink "RingHouse$Process" (122 : Nat) ({ cls := "RingHouse$Trace", name := "clear", desc := "()V" } : Jvm.MethodName)) ∈ lw_all := lw_g (lw_at lw_m9 5 rfl) rfl
theorem q2168 : (Jvm.Cond.instanceMethod ({ cls := "RingHouse$Process", name := "isFull", desc := "()Z" } : Jvm.MethodName)) ∈ lw_all := lw_g (lw_at lw_m9 22 rfl) rfl
theorem q2169 : (Jvm.Cond.selects "RingHouse$Process" ({ cls := "RingHouse$Process", name := "isFull", desc := "()Z" } : Jvm.MethodName) ({ cls := "RingHouse$Process", name := "isFull", desc := "()Z" } : Jvm.MethodName)) ∈ lw_all := lw_g (lw_at lw_m9 23 rfl) rfl
theorem q2170 : (Jvm.Cond.code ({ cls := "RingHouse$Process", name := "isFull", desc := "()Z" } : Jvm.MethodName) prog_38_method_13_code (1 : Nat) (Option.some Jvm.ClassFile.FieldType.boolean)) ∈ lw_all := lw_g (lw_at lw_m9 24 rfl) rfl
theorem q2172 : (Jvm.Cond.instanceMethod ({ cls := "RingHouse$Process", name := "receive", desc := "(J)V" } : Jvm.MethodName)) ∈ lw_all := lw_g (lw_at lw_m9 26 rfl) rfl
theorem q2173 : (Jvm.Cond.selects "RingHouse$Process" ({ cls := "RingHouse$Process", name := "receive", desc := "(J)V" } : Jvm.MethodName) ({ cls := "RingHouse$Process", name := "receive", desc := "(J)V" } : Jvm.MethodName)) ∈ lw_all := lw_g (lw_at lw_m9 27 rfl) rfl
theorem q2174 : (Jvm.Cond.code ({ cls := "RingHouse$Process", name := "receive", desc := "(J)V" } : Jvm.MethodName) prog_38_method_14_code (3 : Nat) (Option.none : Option Jvm.ClassFile.FieldType)) ∈ lw_all := lw_g (lw_at lw_m9 28 rfl) rfl
theorem q2185 : (Jvm.Cond.instanceMethod ({ cls := "RingHouse$Process", name := "oldest", desc := "()J" } : Jvm.MethodName)) ∈ lw_all := lw_g (lw_at lw_m9 39 rfl) rfl
theorem q2186 : (Jvm.Cond.selects "RingHouse$Process" ({ cls := "RingHouse$Process", name := "oldest", desc := "()J" } : Jvm.MethodName) ({ cls := "RingHouse$Process", name := "oldest", desc := "()J" } : Jvm.MethodName)) ∈ lw_all := lw_g (lw_at lw_m9 40 rfl) rfl
theorem q2187 : (Jvm.Cond.code ({ cls := "RingHouse$Process", name := "oldest", desc := "()J" } : Jvm.MethodName) prog_38_method_15_code (1 : Nat) (Option.some Jvm.ClassFile.FieldType.long)) ∈ lw_all := lw_g (lw_at lw_m9 41 rfl) rfl
theorem q2189 : (Jvm.Cond.instanceMethod ({ cls := "RingHouse$Process", name := "event", desc := "(IJJJ)V" } : Jvm.MethodName)) ∈ lw_all := lw_g (lw_at lw_m9 43 rfl) rfl
theorem q2190 : (Jvm.Cond.selects "RingHouse$Process" ({ cls := "RingHouse$Process", name := "event", desc := "(IJJJ)V" } : Jvm.MethodName) ({ cls := "RingHouse$Process", name := "event", desc := "(IJJJ)V" } : Jvm.MethodName)) ∈ lw_all := lw_g (lw_at lw_m9 44 rfl) rfl
theorem q2191 : (Jvm.Cond.code ({ cls := "RingHouse$Process", name := "event", desc := "(IJJJ)V" } : Jvm.MethodName) prog_38_method_3_code (8 : Nat) (Option.none : Option Jvm.ClassFile.FieldType)) ∈ lw_all := lw_g (lw_at lw_m9 45 rfl) rfl
theorem q2192 : (Jvm.Cond.methodLink "RingHouse$Process" (123 : Nat) ({ cls := "RingHouse$Trace", name := "add", desc := "(IJJJ)V" } : Jvm.MethodName)) ∈ lw_all := lw_g (lw_at lw_m9 46 rfl) rfl
theorem q2214 : (Jvm.Cond.instanceMethod ({ cls := "RingHouse$Process", name := "fault", desc := "(IIII)V" } : Jvm.MethodName)) ∈ lw_all := lw_g (lw_at lw_m9 68 rfl) rfl
theorem q2215 : (Jvm.Cond.selects "RingHouse$Process" ({ cls := "RingHouse$Process", name := "fault", desc := "(IIII)V" } : Jvm.MethodName) ({ cls := "RingHouse$Process", name := "fault", desc := "(IIII)V" } : Jvm.MethodName)) ∈ lw_all := lw_g (lw_at lw_m9 69 rfl) rfl
theorem q2216 : (Jvm.Cond.code ({ cls := "RingHouse$Process", name := "fault", desc := "(IIII)V" } : Jvm.MethodName) prog_38_method_18_code (5 : Nat) (Option.none : Option Jvm.ClassFile.FieldType)) ∈ lw_all := lw_g (lw_at lw_m9 70 rfl) rfl
theorem q2217 : (Jvm.Cond.methodLink "RingHouse$Process" (171 : Nat) ({ cls := "RingHouse$Process", name := "event", desc := "(IJJJ)V" } : Jvm.MethodName)) ∈ lw_all := lw_g (lw_at lw_m9 71 rfl) rfl
theorem q2218 : (Jvm.Cond.methodLink "RingHouse$Process" (177 : Nat) ({ cls := "RingHouse$Registers", name := "copy", desc := "(LRingHouse$Registers;)V" } : Jvm.MethodName)) ∈ lw_all := lw_g (lw_at lw_m9 72 rfl) rfl
theorem q2222 : (Jvm.Cond.methodLinkNest "RingHouse$Process" (185 : Nat) ({ cls := "RingHouse", name := "pointerWord", desc := "(III)J" } : Jvm.MethodName) "RingHouse") ∈ lw_tbl := lw_at lw_m9 76 rfl
theorem q2227 : (Jvm.Cond.instanceMethod ({ cls := "RingHouse$Process", name := "refusal", desc := "(III)I" } : Jvm.MethodName)) ∈ lw_all := lw_g (lw_at lw_m9 81 rfl) rfl
theorem q2228 : (Jvm.Cond.selects "RingHouse$Process" ({ cls := "RingHouse$Process", name := "refusal", desc := "(III)I" } : Jvm.MethodName) ({ cls := "RingHouse$Process", name := "refusal", desc := "(III)I" } : Jvm.MethodName)) ∈ lw_all := lw_g (lw_at lw_m9 82 rfl) rfl
theorem q2229 : (Jvm.Cond.code ({ cls := "RingHouse$Process", name := "refusal", desc := "(III)I" } : Jvm.MethodName) prog_38_method_10_code (7 : Nat) (Option.some Jvm.ClassFile.FieldType.int)) ∈ lw_all := lw_g (lw_at lw_m9 83 rfl) rfl
theorem q2230 : (Jvm.Cond.methodLink "RingHouse$Process" (158 : Nat) ({ cls := "RingHouse$Process", name := "rightsOf", desc := "(I)LRingHouse$Rights;" } : Jvm.MethodName)) ∈ lw_all := lw_g (lw_at lw_m9 84 rfl) rfl
theorem q2231 : (Jvm.Cond.instanceMethod ({ cls := "RingHouse$Process", name := "rightsOf", desc := "(I)LRingHouse$Rights;" } : Jvm.MethodName)) ∈ lw_all := lw_g (lw_at lw_m9 85 rfl) rfl
theorem q2232 : (Jvm.Cond.selects "RingHouse$Process" ({ cls := "RingHouse$Process", name := "rightsOf", desc := "(I)LRingHouse$Rights;" } : Jvm.MethodName) ({ cls := "RingHouse$Process", name := "rightsOf", desc := "(I)LRingHouse$Rights;" } : Jvm.MethodName)) ∈ lw_all := lw_g (lw_at lw_m9 86 rfl) rfl
theorem q2233 : (Jvm.Cond.code ({ cls := "RingHouse$Process", name := "rightsOf", desc := "(I)LRingHouse$Rights;" } : Jvm.MethodName) prog_38_method_9_code (4 : Nat) (Option.some (Jvm.ClassFile.FieldType.object "RingHouse$Rights"))) ∈ lw_all := lw_g (lw_at lw_m9 87 rfl) rfl
theorem q2234 : (Jvm.Cond.methodLink "RingHouse$Process" (138 : Nat) ({ cls := "RingHouse$Acl", name := "of", desc := "(II)I" } : Jvm.MethodName)) ∈ lw_all := lw_g (lw_at lw_m9 88 rfl) rfl
theorem q2235 : (Jvm.Cond.methodLinkNest "RingHouse$Process" (148 : Nat) ({ cls := "RingHouse", name := "dominates", desc := "(II)Z" } : Jvm.MethodName) "RingHouse") ∈ lw_tbl := lw_at lw_m9 89 rfl
theorem q2319 : (Jvm.Cond.instanceMethod ({ cls := "RingHouse$Process", name := "refusal", desc := "(LRingHouse$Node;I)I" } : Jvm.MethodName)) ∈ lw_all := lw_g (lw_at lw_m9 173 rfl) rfl
theorem q2320 : (Jvm.Cond.selects "RingHouse$Process" ({ cls := "RingHouse$Process", name := "refusal", desc := "(LRingHouse$Node;I)I" } : Jvm.MethodName) ({ cls := "RingHouse$Process", name := "refusal", desc := "(LRingHouse$Node;I)I" } : Jvm.MethodName)) ∈ lw_all := lw_g (lw_at lw_m9 174 rfl) rfl
theorem q2321 : (Jvm.Cond.code ({ cls := "RingHouse$Process", name := "refusal", desc := "(LRingHouse$Node;I)I" } : Jvm.MethodName) prog_38_method_11_code (3 : Nat) (Option.some Jvm.ClassFile.FieldType.int)) ∈ lw_all := lw_g (lw_at lw_m9 175 rfl) rfl
theorem q2325 : (Jvm.Cond.instanceMethod ({ cls := "RingHouse$Process", name := "numberFor", desc := "(LRingHouse$Node;)I" } : Jvm.MethodName)) ∈ lw_all := lw_g (lw_at lw_m9 179 rfl) rfl
theorem q2326 : (Jvm.Cond.selects "RingHouse$Process" ({ cls := "RingHouse$Process", name := "numberFor", desc := "(LRingHouse$Node;)I" } : Jvm.MethodName) ({ cls := "RingHouse$Process", name := "numberFor", desc := "(LRingHouse$Node;)I" } : Jvm.MethodName)) ∈ lw_all := lw_g (lw_at lw_m9 180 rfl) rfl
theorem q2327 : (Jvm.Cond.code ({ cls := "RingHouse$Process", name := "numberFor", desc := "(LRingHouse$Node;)I" } : Jvm.MethodName) prog_38_method_7_code (4 : Nat) (Option.some Jvm.ClassFile.FieldType.int)) ∈ lw_all := lw_g (lw_at lw_m9 181 rfl) rfl
theorem q2477 : (Jvm.Cond.instanceMethod ({ cls := "RingHouse$Process", name := "end", desc := "()V" } : Jvm.MethodName)) ∈ lw_all := lw_g (lw_at lw_m10 91 rfl) rfl
theorem q2478 : (Jvm.Cond.selects "RingHouse$Process" ({ cls := "RingHouse$Process", name := "end", desc := "()V" } : Jvm.MethodName) ({ cls := "RingHouse$Process", name := "end", desc := "()V" } : Jvm.MethodName)) ∈ lw_all := lw_g (lw_at lw_m10 92 rfl) rfl
theorem q2479 : (Jvm.Cond.code ({ cls := "RingHouse$Process", name := "end", desc := "()V" } : Jvm.MethodName) prog_38_method_17_code (1 : Nat) (Option.none : Option Jvm.ClassFile.FieldType)) ∈ lw_all := lw_g (lw_at lw_m10 93 rfl) rfl
theorem q2561 : (Jvm.Cond.instanceMethod ({ cls := "RingHouse$Process", name := "refusalOfBox", desc := "(LRingHouse$Node;I)I" } : Jvm.MethodName)) ∈ lw_all := lw_g (lw_at lw_m10 175 rfl) rfl
theorem q2562 : (Jvm.Cond.selects "RingHouse$Process" ({ cls := "RingHouse$Process", name := "refusalOfBox", desc := "(LRingHouse$Node;I)I" } : Jvm.MethodName) ({ cls := "RingHouse$Process", name := "refusalOfBox", desc := "(LRingHouse$Node;I)I" } : Jvm.MethodName)) ∈ lw_all := lw_g (lw_at lw_m10 176 rfl) rfl
theorem q2563 : (Jvm.Cond.code ({ cls := "RingHouse$Process", name := "refusalOfBox", desc := "(LRingHouse$Node;I)I" } : Jvm.MethodName) prog_38_method_12_code (3 : Nat) (Option.some Jvm.ClassFile.FieldType.int)) ∈ lw_all := lw_g (lw_at lw_m10 177 rfl) rfl
theorem q2673 : (Jvm.Cond.instanceMethod ({ cls := "RingHouse$Process", name := "take", desc := "()J" } : Jvm.MethodName)) ∈ lw_all := lw_g (lw_at lw_m11 47 rfl) rfl
theorem q2674 : (Jvm.Cond.selects "RingHouse$Process" ({ cls := "RingHouse$Process", name := "take", desc := "()J" } : Jvm.MethodName) ({ cls := "RingHouse$Process", name := "take", desc := "()J" } : Jvm.MethodName)) ∈ lw_all := lw_g (lw_at lw_m11 48 rfl) rfl
theorem q2675 : (Jvm.Cond.code ({ cls := "RingHouse$Process", name := "take", desc := "()J" } : Jvm.MethodName) prog_38_method_16_code (3 : Nat) (Option.some Jvm.ClassFile.FieldType.long)) ∈ lw_all := lw_g (lw_at lw_m11 49 rfl) rfl
theorem in_X8 : ∀ w ∈ wsX80, w ∈ lw_all := lw_in wsX80 [944, 946, 948, 950, 952, 954, 956, 958, 960, 962, 964, 966, 968, 970, 972, 974, 976, 978, 980, 982, 984, 986, 988, 990, 992, 994] (by decide +kernel) (by decide +kernel)
/-! RingHouse$Registers -/
def RX9 : String := "RingHouse$Registers"
def TX9 : u_T := fun k => match k with
  | 0 => ("RingHouse$Registers", "a", "J", false)
  | 1 => ("RingHouse$Registers", "q", "J", false)
  | 2 => ("RingHouse$Registers", "x", "[I", true)
  | 3 => ("RingHouse$Registers", "pNumber", "[I", true)
  | 4 => ("RingHouse$Registers", "pPlace", "[I", true)
  | 5 => ("RingHouse$Registers", "pRing", "[I", true)
  | 6 => ("RingHouse$Registers", "number", "I", false)
  | 7 => ("RingHouse$Registers", "place", "I", false)
  | 8 => ("RingHouse$Registers", "ring", "I", false)
  | 9 => ("RingHouse$Registers", "zero", "Z", false)
  | _ => ("RingHouse$Registers", "minus", "Z", false)
def tyX9 : Nat → FieldType := fun k => match k with
  | 0 => .long
  | 1 => .long
  | 2 => .array .int
  | 3 => .array .int
  | 4 => .array .int
  | 5 => .array .int
  | 6 => .int
  | 7 => .int
  | 8 => .int
  | 9 => .boolean
  | _ => .boolean
abbrev wsX90 : List Cond := u_ws RX9 TX9 11
theorem nmX9 : ∀ a, a < 11 → ∀ b, b < 11 → a ≠ b → (TX9 a).2.1 ≠ (TX9 b).2.1 := by decide +kernel
theorem tyX9_ok : ∀ k, k < 11 → parseFieldDescriptor (TX9 k).2.2.1 = some (tyX9 k) := by decide +kernel
abbrev cX9_init : ByteArray := prog_42_method_1_code
def yX9_init : MethodName := ⟨RX9, "<init>", "()V"⟩
abbrev cX9_clear : ByteArray := prog_42_method_2_code
def yX9_clear : MethodName := ⟨RX9, "clear", "()V"⟩
abbrev cX9_point : ByteArray := prog_42_method_3_code
def yX9_point : MethodName := ⟨RX9, "point", "(IIII)V"⟩
abbrev cX9_go : ByteArray := prog_42_method_4_code
def yX9_go : MethodName := ⟨RX9, "go", "(III)V"⟩
abbrev cX9_copy : ByteArray := prog_42_method_5_code
def yX9_copy : MethodName := ⟨RX9, "copy", "(LRingHouse$Registers;)V"⟩
abbrev cX9_tell : ByteArray := prog_42_method_7_code
def yX9_tell : MethodName := ⟨RX9, "tell", "(J)V"⟩
abbrev cX9_tellHalf : ByteArray := prog_42_method_8_code
def yX9_tellHalf : MethodName := ⟨RX9, "tellHalf", "(I)V"⟩
abbrev cX9_pointer : ByteArray := prog_42_method_6_code
def yX9_pointer : MethodName := ⟨RX9, "pointer", "(I)J"⟩
theorem q236 : (Jvm.Cond.initialized "RingHouse$Registers") ∈ lw_all := lw_g (lw_at lw_m1 10 rfl) rfl
theorem q681 : (Jvm.Cond.instantiable "RingHouse$Registers" (11 : Nat)) ∈ lw_all := lw_g (lw_at lw_m2 215 rfl) rfl
theorem q683 : (Jvm.Cond.instanceMethod ({ cls := "RingHouse$Registers", name := "<init>", desc := "()V" } : Jvm.MethodName)) ∈ lw_all := lw_g (lw_at lw_m2 217 rfl) rfl
theorem q684 : (Jvm.Cond.code ({ cls := "RingHouse$Registers", name := "<init>", desc := "()V" } : Jvm.MethodName) prog_42_method_1_code (1 : Nat) (Option.none : Option Jvm.ClassFile.FieldType)) ∈ lw_all := lw_g (lw_at lw_m2 218 rfl) rfl
theorem q685 : (Jvm.Cond.methodLink "RingHouse$Registers" (1 : Nat) ({ cls := "java/lang/Object", name := "<init>", desc := "()V" } : Jvm.MethodName)) ∈ lw_all := lw_g (lw_at lw_m2 219 rfl) rfl
theorem q689 : (Jvm.Cond.fieldLink "RingHouse$Registers" (22 : Nat) "RingHouse$Registers" "a" "J") ∈ lw_all := lw_g (lw_at lw_m2 223 rfl) rfl
theorem q714 : (Jvm.Cond.fieldLink "RingHouse$Registers" (26 : Nat) "RingHouse$Registers" "q" "J") ∈ lw_all := lw_g (lw_at lw_m3 8 rfl) rfl
theorem q733 : (Jvm.Cond.fieldLink "RingHouse$Registers" (7 : Nat) "RingHouse$Registers" "x" "[I") ∈ lw_all := lw_g (lw_at lw_m3 27 rfl) rfl
theorem q747 : (Jvm.Cond.fieldLink "RingHouse$Registers" (13 : Nat) "RingHouse$Registers" "pNumber" "[I") ∈ lw_all := lw_g (lw_at lw_m3 41 rfl) rfl
theorem q750 : (Jvm.Cond.fieldLink "RingHouse$Registers" (16 : Nat) "RingHouse$Registers" "pPlace" "[I") ∈ lw_all := lw_g (lw_at lw_m3 44 rfl) rfl
theorem q753 : (Jvm.Cond.fieldLink "RingHouse$Registers" (19 : Nat) "RingHouse$Registers" "pRing" "[I") ∈ lw_all := lw_g (lw_at lw_m3 47 rfl) rfl
theorem q756 : (Jvm.Cond.fieldLink "RingHouse$Registers" (44 : Nat) "RingHouse$Registers" "number" "I") ∈ lw_all := lw_g (lw_at lw_m3 50 rfl) rfl
theorem q761 : (Jvm.Cond.fieldLink "RingHouse$Registers" (48 : Nat) "RingHouse$Registers" "place" "I") ∈ lw_all := lw_g (lw_at lw_m3 55 rfl) rfl
theorem q777 : (Jvm.Cond.fieldLink "RingHouse$Registers" (51 : Nat) "RingHouse$Registers" "ring" "I") ∈ lw_all := lw_g (lw_at lw_m3 71 rfl) rfl
theorem q783 : (Jvm.Cond.fieldLink "RingHouse$Registers" (37 : Nat) "RingHouse$Registers" "zero" "Z") ∈ lw_all := lw_g (lw_at lw_m3 77 rfl) rfl
theorem q787 : (Jvm.Cond.fieldLink "RingHouse$Registers" (41 : Nat) "RingHouse$Registers" "minus" "Z") ∈ lw_all := lw_g (lw_at lw_m3 81 rfl) rfl
theorem q789 : (Jvm.Cond.lays "RingHouse$Registers" "RingHouse$Registers" "a" "J") ∈ lw_all := lw_g (lw_at lw_m3 83 rfl) rfl
theorem q790 : (Jvm.Cond.soleField "RingHouse$Registers" "a") ∈ lw_all := lw_g (lw_at lw_m3 84 rfl) rfl
theorem q791 : (Jvm.Cond.lays "RingHouse$Registers" "RingHouse$Registers" "q" "J") ∈ lw_all := lw_g (lw_at lw_m3 85 rfl) rfl
theorem q792 : (Jvm.Cond.soleField "RingHouse$Registers" "q") ∈ lw_all := lw_g (lw_at lw_m3 86 rfl) rfl
theorem q793 : (Jvm.Cond.laysFinal "RingHouse$Registers" "RingHouse$Registers" "x" "[I") ∈ lw_all := lw_g (lw_at lw_m3 87 rfl) rfl
theorem q794 : (Jvm.Cond.soleField "RingHouse$Registers" "x") ∈ lw_all := lw_g (lw_at lw_m3 88 rfl) rfl
theorem q795 : (Jvm.Cond.laysFinal "RingHouse$Registers" "RingHouse$Registers" "pNumber" "[I") ∈ lw_all := lw_g (lw_at lw_m3 89 rfl) rfl
theorem q796 : (Jvm.Cond.soleField "RingHouse$Registers" "pNumber") ∈ lw_all := lw_g (lw_at lw_m3 90 rfl) rfl
theorem q797 : (Jvm.Cond.laysFinal "RingHouse$Registers" "RingHouse$Registers" "pPlace" "[I") ∈ lw_all := lw_g (lw_at lw_m3 91 rfl) rfl
theorem q798 : (Jvm.Cond.soleField "RingHouse$Registers" "pPlace") ∈ lw_all := lw_g (lw_at lw_m3 92 rfl) rfl
theorem q799 : (Jvm.Cond.laysFinal "RingHouse$Registers" "RingHouse$Registers" "pRing" "[I") ∈ lw_all := lw_g (lw_at lw_m3 93 rfl) rfl
theorem q800 : (Jvm.Cond.soleField "RingHouse$Registers" "pRing") ∈ lw_all := lw_g (lw_at lw_m3 94 rfl) rfl
theorem q801 : (Jvm.Cond.lays "RingHouse$Registers" "RingHouse$Registers" "number" "I") ∈ lw_all := lw_g (lw_at lw_m3 95 rfl) rfl
theorem q802 : (Jvm.Cond.soleField "RingHouse$Registers" "number") ∈ lw_all := lw_g (lw_at lw_m3 96 rfl) rfl
theorem q803 : (Jvm.Cond.lays "RingHouse$Registers" "RingHouse$Registers" "place" "I") ∈ lw_all := lw_g (lw_at lw_m3 97 rfl) rfl
theorem q804 : (Jvm.Cond.soleField "RingHouse$Registers" "place") ∈ lw_all := lw_g (lw_at lw_m3 98 rfl) rfl
theorem q805 : (Jvm.Cond.lays "RingHouse$Registers" "RingHouse$Registers" "ring" "I") ∈ lw_all := lw_g (lw_at lw_m3 99 rfl) rfl
theorem q806 : (Jvm.Cond.soleField "RingHouse$Registers" "ring") ∈ lw_all := lw_g (lw_at lw_m3 100 rfl) rfl
theorem q807 : (Jvm.Cond.lays "RingHouse$Registers" "RingHouse$Registers" "zero" "Z") ∈ lw_all := lw_g (lw_at lw_m3 101 rfl) rfl
theorem q808 : (Jvm.Cond.soleField "RingHouse$Registers" "zero") ∈ lw_all := lw_g (lw_at lw_m3 102 rfl) rfl
theorem q809 : (Jvm.Cond.lays "RingHouse$Registers" "RingHouse$Registers" "minus" "Z") ∈ lw_all := lw_g (lw_at lw_m3 103 rfl) rfl
theorem q810 : (Jvm.Cond.soleField "RingHouse$Registers" "minus") ∈ lw_all := lw_g (lw_at lw_m3 104 rfl) rfl
theorem q811 : (Jvm.Cond.superclass "RingHouse$Registers" "java/lang/Object") ∈ lw_all := lw_g (lw_at lw_m3 105 rfl) rfl
theorem q2135 : (Jvm.Cond.instanceMethod ({ cls := "RingHouse$Registers", name := "clear", desc := "()V" } : Jvm.MethodName)) ∈ lw_all := lw_g (lw_at lw_m8 229 rfl) rfl
theorem q2136 : (Jvm.Cond.selects "RingHouse$Registers" ({ cls := "RingHouse$Registers", name := "clear", desc := "()V" } : Jvm.MethodName) ({ cls := "RingHouse$Registers", name := "clear", desc := "()V" } : Jvm.MethodName)) ∈ lw_all := lw_g (lw_at lw_m8 230 rfl) rfl
theorem q2137 : (Jvm.Cond.code ({ cls := "RingHouse$Registers", name := "clear", desc := "()V" } : Jvm.MethodName) prog_42_method_2_code (2 : Nat) (Option.none : Option Jvm.ClassFile.FieldType)) ∈ lw_all := lw_g (lw_at lw_m8 231 rfl) rfl
theorem q2138 : (Jvm.Cond.methodLink "RingHouse$Registers" (29 : Nat) ({ cls := "RingHouse$Registers", name := "point", desc := "(IIII)V" } : Jvm.MethodName)) ∈ lw_all := lw_g (lw_at lw_m8 232 rfl) rfl
theorem q2139 : (Jvm.Cond.instanceMethod ({ cls := "RingHouse$Registers", name := "point", desc := "(IIII)V" } : Jvm.MethodName)) ∈ lw_all := lw_g (lw_at lw_m8 233 rfl) rfl
theorem q2140 : (Jvm.Cond.selects "RingHouse$Registers" ({ cls := "RingHouse$Registers", name := "point", desc := "(IIII)V" } : Jvm.MethodName) ({ cls := "RingHouse$Registers", name := "point", desc := "(IIII)V" } : Jvm.MethodName)) ∈ lw_all := lw_g (lw_at lw_m8 234 rfl) rfl
theorem q2141 : (Jvm.Cond.code ({ cls := "RingHouse$Registers", name := "point", desc := "(IIII)V" } : Jvm.MethodName) prog_42_method_3_code (5 : Nat) (Option.none : Option Jvm.ClassFile.FieldType)) ∈ lw_all := lw_g (lw_at lw_m8 235 rfl) rfl
theorem q2142 : (Jvm.Cond.methodLink "RingHouse$Registers" (33 : Nat) ({ cls := "RingHouse$Registers", name := "go", desc := "(III)V" } : Jvm.MethodName)) ∈ lw_all := lw_g (lw_at lw_m8 236 rfl) rfl
theorem q2143 : (Jvm.Cond.instanceMethod ({ cls := "RingHouse$Registers", name := "go", desc := "(III)V" } : Jvm.MethodName)) ∈ lw_all := lw_g (lw_at lw_m8 237 rfl) rfl
theorem q2144 : (Jvm.Cond.selects "RingHouse$Registers" ({ cls := "RingHouse$Registers", name := "go", desc := "(III)V" } : Jvm.MethodName) ({ cls := "RingHouse$Registers", name := "go", desc := "(III)V" } : Jvm.MethodName)) ∈ lw_all := lw_g (lw_at lw_m8 238 rfl) rfl
theorem q2145 : (Jvm.Cond.code ({ cls := "RingHouse$Registers", name := "go", desc := "(III)V" } : Jvm.MethodName) prog_42_method_4_code (4 : Nat) (Option.none : Option Jvm.ClassFile.FieldType)) ∈ lw_all := lw_g (lw_at lw_m8 239 rfl) rfl
theorem q2219 : (Jvm.Cond.instanceMethod ({ cls := "RingHouse$Registers", name := "copy", desc := "(LRingHouse$Registers;)V" } : Jvm.MethodName)) ∈ lw_all := lw_g (lw_at lw_m9 73 rfl) rfl
theorem q2220 : (Jvm.Cond.selects "RingHouse$Registers" ({ cls := "RingHouse$Registers", name := "copy", desc := "(LRingHouse$Registers;)V" } : Jvm.MethodName) ({ cls := "RingHouse$Registers", name := "copy", desc := "(LRingHouse$Registers;)V" } : Jvm.MethodName)) ∈ lw_all := lw_g (lw_at lw_m9 74 rfl) rfl
theorem q2221 : (Jvm.Cond.code ({ cls := "RingHouse$Registers", name := "copy", desc := "(LRingHouse$Registers;)V" } : Jvm.MethodName) prog_42_method_5_code (3 : Nat) (Option.none : Option Jvm.ClassFile.FieldType)) ∈ lw_all := lw_g (lw_at lw_m9 75 rfl) rfl
theorem q2367 : (Jvm.Cond.instanceMethod ({ cls := "RingHouse$Registers", name := "tell", desc := "(J)V" } : Jvm.MethodName)) ∈ lw_all := lw_g (lw_at lw_m9 221 rfl) rfl
theorem q2368 : (Jvm.Cond.selects "RingHouse$Registers" ({ cls := "RingHouse$Registers", name := "tell", desc := "(J)V" } : Jvm.MethodName) ({ cls := "RingHouse$Registers", name := "tell", desc := "(J)V" } : Jvm.MethodName)) ∈ lw_all := lw_g (lw_at lw_m9 222 rfl) rfl
theorem q2369 : (Jvm.Cond.code ({ cls := "RingHouse$Registers", name := "tell", desc := "(J)V" } : Jvm.MethodName) prog_42_method_7_code (3 : Nat) (Option.none : Option Jvm.ClassFile.FieldType)) ∈ lw_all := lw_g (lw_at lw_m9 223 rfl) rfl
theorem q2443 : (Jvm.Cond.instanceMethod ({ cls := "RingHouse$Registers", name := "tellHalf", desc := "(I)V" } : Jvm.MethodName)) ∈ lw_all := lw_g (lw_at lw_m10 57 rfl) rfl
theorem q2444 : (Jvm.Cond.selects "RingHouse$Registers" ({ cls := "RingHouse$Registers", name := "tellHalf", desc := "(I)V" } : Jvm.MethodName) ({ cls := "RingHouse$Registers", name := "tellHalf", desc := "(I)V" } : Jvm.MethodName)) ∈ lw_all := lw_g (lw_at lw_m10 58 rfl) rfl
theorem q2445 : (Jvm.Cond.code ({ cls := "RingHouse$Registers", name := "tellHalf", desc := "(I)V" } : Jvm.MethodName) prog_42_method_8_code (2 : Nat) (Option.none : Option Jvm.ClassFile.FieldType)) ∈ lw_all := lw_g (lw_at lw_m10 59 rfl) rfl
theorem q2451 : (Jvm.Cond.instanceMethod ({ cls := "RingHouse$Registers", name := "pointer", desc := "(I)J" } : Jvm.MethodName)) ∈ lw_all := lw_g (lw_at lw_m10 65 rfl) rfl
theorem q2452 : (Jvm.Cond.selects "RingHouse$Registers" ({ cls := "RingHouse$Registers", name := "pointer", desc := "(I)J" } : Jvm.MethodName) ({ cls := "RingHouse$Registers", name := "pointer", desc := "(I)J" } : Jvm.MethodName)) ∈ lw_all := lw_g (lw_at lw_m10 66 rfl) rfl
theorem q2453 : (Jvm.Cond.code ({ cls := "RingHouse$Registers", name := "pointer", desc := "(I)J" } : Jvm.MethodName) prog_42_method_6_code (2 : Nat) (Option.some Jvm.ClassFile.FieldType.long)) ∈ lw_all := lw_g (lw_at lw_m10 67 rfl) rfl
theorem q2454 : (Jvm.Cond.methodLinkNest "RingHouse$Registers" (54 : Nat) ({ cls := "RingHouse", name := "pointerWord", desc := "(III)J" } : Jvm.MethodName) "RingHouse") ∈ lw_tbl := lw_at lw_m10 68 rfl
theorem in_X9 : ∀ w ∈ wsX90, w ∈ lw_all := lw_in wsX90 [789, 791, 793, 795, 797, 799, 801, 803, 805, 807, 809] (by decide +kernel) (by decide +kernel)
/-! RingHouse$Trace -/
def RX10 : String := "RingHouse$Trace"
def TX10 : u_T := fun k => match k with
  | 0 => ("RingHouse$Trace", "rows", "[J", true)
  | 1 => ("RingHouse$Trace", "many", "I", false)
  | _ => ("RingHouse$Trace", "sum", "J", false)
def tyX10 : Nat → FieldType := fun k => match k with
  | 0 => .array .long
  | 1 => .int
  | _ => .long
abbrev wsX100 : List Cond := u_ws RX10 TX10 3
theorem nmX10 : ∀ a, a < 3 → ∀ b, b < 3 → a ≠ b → (TX10 a).2.1 ≠ (TX10 b).2.1 := by decide +kernel
theorem tyX10_ok : ∀ k, k < 3 → parseFieldDescriptor (TX10 k).2.2.1 = some (tyX10 k) := by decide +kernel
abbrev cX10_init : ByteArray := prog_66_method_1_code
def yX10_init : MethodName := ⟨RX10, "<init>", "()V"⟩
abbrev cX10_clear : ByteArray := prog_66_method_2_code
def yX10_clear : MethodName := ⟨RX10, "clear", "()V"⟩
abbrev cX10_add : ByteArray := prog_66_method_3_code
def yX10_add : MethodName := ⟨RX10, "add", "(IJJJ)V"⟩
abbrev cX10_has : ByteArray := prog_66_method_4_code
def yX10_has : MethodName := ⟨RX10, "has", "(I)Z"⟩
theorem q237 : (Jvm.Cond.initialized "RingHouse$Trace") ∈ lw_all := lw_g (lw_at lw_m1 11 rfl) rfl
theorem q817 : (Jvm.Cond.instantiable "RingHouse$Trace" (3 : Nat)) ∈ lw_all := lw_g (lw_at lw_m3 111 rfl) rfl
theorem q819 : (Jvm.Cond.instanceMethod ({ cls := "RingHouse$Trace", name := "<init>", desc := "()V" } : Jvm.MethodName)) ∈ lw_all := lw_g (lw_at lw_m3 113 rfl) rfl
theorem q820 : (Jvm.Cond.code ({ cls := "RingHouse$Trace", name := "<init>", desc := "()V" } : Jvm.MethodName) prog_66_method_1_code (1 : Nat) (Option.none : Option Jvm.ClassFile.FieldType)) ∈ lw_all := lw_g (lw_at lw_m3 114 rfl) rfl
theorem q821 : (Jvm.Cond.methodLink "RingHouse$Trace" (3 : Nat) ({ cls := "java/lang/Object", name := "<init>", desc := "()V" } : Jvm.MethodName)) ∈ lw_all := lw_g (lw_at lw_m3 115 rfl) rfl
theorem q822 : (Jvm.Cond.constantLong "RingHouse$Trace" (15 : Nat) (-3750763034362895579 : Int64)) ∈ lw_all := lw_g (lw_at lw_m3 116 rfl) rfl
theorem q823 : (Jvm.Cond.fieldLink "RingHouse$Trace" (9 : Nat) "RingHouse$Trace" "rows" "[J") ∈ lw_all := lw_g (lw_at lw_m3 117 rfl) rfl
theorem q825 : (Jvm.Cond.fieldLink "RingHouse$Trace" (21 : Nat) "RingHouse$Trace" "many" "I") ∈ lw_all := lw_g (lw_at lw_m3 119 rfl) rfl
theorem q827 : (Jvm.Cond.fieldLink "RingHouse$Trace" (17 : Nat) "RingHouse$Trace" "sum" "J") ∈ lw_all := lw_g (lw_at lw_m3 121 rfl) rfl
theorem q829 : (Jvm.Cond.laysFinal "RingHouse$Trace" "RingHouse$Trace" "rows" "[J") ∈ lw_all := lw_g (lw_at lw_m3 123 rfl) rfl
theorem q830 : (Jvm.Cond.soleField "RingHouse$Trace" "rows") ∈ lw_all := lw_g (lw_at lw_m3 124 rfl) rfl
theorem q831 : (Jvm.Cond.lays "RingHouse$Trace" "RingHouse$Trace" "many" "I") ∈ lw_all := lw_g (lw_at lw_m3 125 rfl) rfl
theorem q832 : (Jvm.Cond.soleField "RingHouse$Trace" "many") ∈ lw_all := lw_g (lw_at lw_m3 126 rfl) rfl
theorem q833 : (Jvm.Cond.lays "RingHouse$Trace" "RingHouse$Trace" "sum" "J") ∈ lw_all := lw_g (lw_at lw_m3 127 rfl) rfl
theorem q834 : (Jvm.Cond.soleField "RingHouse$Trace" "sum") ∈ lw_all := lw_g (lw_at lw_m3 128 rfl) rfl
theorem q835 : (Jvm.Cond.superclass "RingHouse$Trace" "java/lang/Object") ∈ lw_all := lw_g (lw_at lw_m3 129 rfl) rfl
theorem q2152 : (Jvm.Cond.instanceMethod ({ cls := "RingHouse$Trace", name := "clear", desc := "()V" } : Jvm.MethodName)) ∈ lw_all := lw_g (lw_at lw_m9 6 rfl) rfl
theorem q2153 : (Jvm.Cond.selects "RingHouse$Trace" ({ cls := "RingHouse$Trace", name := "clear", desc := "()V" } : Jvm.MethodName) ({ cls := "RingHouse$Trace", name := "clear", desc := "()V" } : Jvm.MethodName)) ∈ lw_all := lw_g (lw_at lw_m9 7 rfl) rfl
theorem q2154 : (Jvm.Cond.code ({ cls := "RingHouse$Trace", name := "clear", desc := "()V" } : Jvm.MethodName) prog_66_method_2_code (1 : Nat) (Option.none : Option Jvm.ClassFile.FieldType)) ∈ lw_all := lw_g (lw_at lw_m9 8 rfl) rfl
theorem q2193 : (Jvm.Cond.instanceMethod ({ cls := "RingHouse$Trace", name := "add", desc := "(IJJJ)V" } : Jvm.MethodName)) ∈ lw_all := lw_g (lw_at lw_m9 47 rfl) rfl
theorem q2194 : (Jvm.Cond.selects "RingHouse$Trace" ({ cls := "RingHouse$Trace", name := "add", desc := "(IJJJ)V" } : Jvm.MethodName) ({ cls := "RingHouse$Trace", name := "add", desc := "(IJJJ)V" } : Jvm.MethodName)) ∈ lw_all := lw_g (lw_at lw_m9 48 rfl) rfl
theorem q2195 : (Jvm.Cond.code ({ cls := "RingHouse$Trace", name := "add", desc := "(IJJJ)V" } : Jvm.MethodName) prog_66_method_3_code (10 : Nat) (Option.none : Option Jvm.ClassFile.FieldType)) ∈ lw_all := lw_g (lw_at lw_m9 49 rfl) rfl
theorem q2196 : (Jvm.Cond.constantLong "RingHouse$Trace" (25 : Nat) (1099511628211 : Int64)) ∈ lw_all := lw_g (lw_at lw_m9 50 rfl) rfl
theorem q2769 : (Jvm.Cond.instanceMethod ({ cls := "RingHouse$Trace", name := "has", desc := "(I)Z" } : Jvm.MethodName)) ∈ lw_all := lw_g (lw_at lw_m11 143 rfl) rfl
theorem q2770 : (Jvm.Cond.selects "RingHouse$Trace" ({ cls := "RingHouse$Trace", name := "has", desc := "(I)Z" } : Jvm.MethodName) ({ cls := "RingHouse$Trace", name := "has", desc := "(I)Z" } : Jvm.MethodName)) ∈ lw_all := lw_g (lw_at lw_m11 144 rfl) rfl
theorem q2771 : (Jvm.Cond.code ({ cls := "RingHouse$Trace", name := "has", desc := "(I)Z" } : Jvm.MethodName) prog_66_method_4_code (2 : Nat) (Option.some Jvm.ClassFile.FieldType.boolean)) ∈ lw_all := lw_g (lw_at lw_m11 145 rfl) rfl
theorem in_X10 : ∀ w ∈ wsX100, w ∈ lw_all := lw_in wsX100 [829, 831, 833] (by decide +kernel) (by decide +kernel)
/-! RingHouse$Rights -/
def RX11 : String := "RingHouse$Rights"
def TX11 : u_T := fun k => match k with
  | 0 => ("RingHouse$Rights", "version", "I", false)
  | 1 => ("RingHouse$Rights", "modes", "I", false)
  | 2 => ("RingHouse$Rights", "isAbove", "Z", false)
  | _ => ("RingHouse$Rights", "isSame", "Z", false)
def tyX11 : Nat → FieldType := fun k => match k with
  | 0 => .int
  | 1 => .int
  | 2 => .boolean
  | _ => .boolean
abbrev wsX110 : List Cond := u_ws RX11 TX11 4
theorem nmX11 : ∀ a, a < 4 → ∀ b, b < 4 → a ≠ b → (TX11 a).2.1 ≠ (TX11 b).2.1 := by decide +kernel
theorem tyX11_ok : ∀ k, k < 4 → parseFieldDescriptor (TX11 k).2.2.1 = some (tyX11 k) := by decide +kernel
abbrev cX11_init : ByteArray := prog_46_method_1_code
def yX11_init : MethodName := ⟨RX11, "<init>", "()V"⟩
theorem q238 : (Jvm.Cond.initialized "RingHouse$Rights") ∈ lw_all := lw_g (lw_at lw_m1 12 rfl) rfl
theorem q836 : (Jvm.Cond.instantiable "RingHouse$Rights" (4 : Nat)) ∈ lw_all := lw_g (lw_at lw_m3 130 rfl) rfl
theorem q838 : (Jvm.Cond.instanceMethod ({ cls := "RingHouse$Rights", name := "<init>", desc := "()V" } : Jvm.MethodName)) ∈ lw_all := lw_g (lw_at lw_m3 132 rfl) rfl
theorem q839 : (Jvm.Cond.code ({ cls := "RingHouse$Rights", name := "<init>", desc := "()V" } : Jvm.MethodName) prog_46_method_1_code (1 : Nat) (Option.none : Option Jvm.ClassFile.FieldType)) ∈ lw_all := lw_g (lw_at lw_m3 133 rfl) rfl
theorem q840 : (Jvm.Cond.methodLink "RingHouse$Rights" (1 : Nat) ({ cls := "java/lang/Object", name := "<init>", desc := "()V" } : Jvm.MethodName)) ∈ lw_all := lw_g (lw_at lw_m3 134 rfl) rfl
theorem q845 : (Jvm.Cond.lays "RingHouse$Rights" "RingHouse$Rights" "version" "I") ∈ lw_all := lw_g (lw_at lw_m3 139 rfl) rfl
theorem q846 : (Jvm.Cond.soleField "RingHouse$Rights" "version") ∈ lw_all := lw_g (lw_at lw_m3 140 rfl) rfl
theorem q847 : (Jvm.Cond.lays "RingHouse$Rights" "RingHouse$Rights" "modes" "I") ∈ lw_all := lw_g (lw_at lw_m3 141 rfl) rfl
theorem q848 : (Jvm.Cond.soleField "RingHouse$Rights" "modes") ∈ lw_all := lw_g (lw_at lw_m3 142 rfl) rfl
theorem q849 : (Jvm.Cond.lays "RingHouse$Rights" "RingHouse$Rights" "isAbove" "Z") ∈ lw_all := lw_g (lw_at lw_m3 143 rfl) rfl
theorem q850 : (Jvm.Cond.soleField "RingHouse$Rights" "isAbove") ∈ lw_all := lw_g (lw_at lw_m3 144 rfl) rfl
theorem q851 : (Jvm.Cond.lays "RingHouse$Rights" "RingHouse$Rights" "isSame" "Z") ∈ lw_all := lw_g (lw_at lw_m3 145 rfl) rfl
theorem q852 : (Jvm.Cond.soleField "RingHouse$Rights" "isSame") ∈ lw_all := lw_g (lw_at lw_m3 146 rfl) rfl
theorem q853 : (Jvm.Cond.superclass "RingHouse$Rights" "java/lang/Object") ∈ lw_all := lw_g (lw_at lw_m3 147 rfl) rfl
theorem in_X11 : ∀ w ∈ wsX110, w ∈ lw_all := lw_in wsX110 [845, 847, 849, 851] (by decide +kernel) (by decide +kernel)
/-! RingHouse$Machine -/
def RX12 : String := "RingHouse$Machine"
def TX12 : u_T := fun k => match k with
  | 0 => ("RingHouse$Machine", "tree", "LRingHouse$Tree;", true)
  | 1 => ("RingHouse$Machine", "processes", "[LRingHouse$Process;", true)
  | 2 => ("RingHouse$Machine", "operations", "[LRingHouse$Operation;", true)
  | 3 => ("RingHouse$Machine", "services", "[LRingHouse$Service;", true)
  | 4 => ("RingHouse$Machine", "decoded", "[LRingHouse$Decoded;", true)
  | 5 => ("RingHouse$Machine", "audit", "LRingHouse$Audit;", true)
  | 6 => ("RingHouse$Machine", "asked", "LRingHouse$Node;", false)
  | 7 => ("RingHouse$Machine", "runs", "LRingHouse$Process;", false)
  | 8 => ("RingHouse$Machine", "atNumber", "I", false)
  | 9 => ("RingHouse$Machine", "atPlace", "I", false)
  | 10 => ("RingHouse$Machine", "atRing", "I", false)
  | 11 => ("RingHouse$Machine", "value", "J", false)
  | 12 => ("RingHouse$Machine", "toNumber", "I", false)
  | 13 => ("RingHouse$Machine", "toPlace", "I", false)
  | _ => ("RingHouse$Machine", "isAside", "Z", false)
def tyX12 : Nat → FieldType := fun k => match k with
  | 0 => .object "RingHouse$Tree"
  | 1 => .array (.object "RingHouse$Process")
  | 2 => .array (.object "RingHouse$Operation")
  | 3 => .array (.object "RingHouse$Service")
  | 4 => .array (.object "RingHouse$Decoded")
  | 5 => .object "RingHouse$Audit"
  | 6 => .object "RingHouse$Node"
  | 7 => .object "RingHouse$Process"
  | 8 => .int
  | 9 => .int
  | 10 => .int
  | 11 => .long
  | 12 => .int
  | 13 => .int
  | _ => .boolean
abbrev wsX120 : List Cond := u_ws RX12 TX12 15
theorem nmX12 : ∀ a, a < 15 → ∀ b, b < 15 → a ≠ b → (TX12 a).2.1 ≠ (TX12 b).2.1 := by decide +kernel
theorem tyX12_ok : ∀ k, k < 15 → parseFieldDescriptor (TX12 k).2.2.1 = some (tyX12 k) := by decide +kernel
abbrev cX12_init : ByteArray := prog_27_method_1_code
def yX12_init : MethodName := ⟨RX12, "<init>", "(LRingHouse$Tree;[LRingHouse$Process;)V"⟩
abbrev cX12_newDirectory : ByteArray := prog_27_method_25_code
def yX12_newDirectory : MethodName := ⟨RX12, "newDirectory", "(LRingHouse$Node;JII)I"⟩
abbrev cX12_newSegment : ByteArray := prog_27_method_24_code
def yX12_newSegment : MethodName := ⟨RX12, "newSegment", "(LRingHouse$Node;JI)I"⟩
abbrev cX12_newMailbox : ByteArray := prog_27_method_26_code
def yX12_newMailbox : MethodName := ⟨RX12, "newMailbox", "(LRingHouse$Node;J)I"⟩
abbrev cX12_newLength : ByteArray := prog_27_method_27_code
def yX12_newLength : MethodName := ⟨RX12, "newLength", "(LRingHouse$Node;I)Z"⟩
abbrev cX12_tickOf : ByteArray := prog_27_method_16_code
def yX12_tickOf : MethodName := ⟨RX12, "tickOf", "(LRingHouse$Process;)Z"⟩
abbrev cX12_step : ByteArray := prog_27_method_15_code
def yX12_step : MethodName := ⟨RX12, "step", "(LRingHouse$Process;)V"⟩
abbrev cX12_may : ByteArray := prog_27_method_5_code
def yX12_may : MethodName := ⟨RX12, "may", "(IIII)Z"⟩
abbrev cX12_isThere : ByteArray := prog_27_method_4_code
def yX12_isThere : MethodName := ⟨RX12, "isThere", "(III)Z"⟩
abbrev cX12_refuse : ByteArray := prog_27_method_2_code
def yX12_refuse : MethodName := ⟨RX12, "refuse", "(IIII)Z"⟩
abbrev cX12_deny : ByteArray := prog_27_method_6_code
def yX12_deny : MethodName := ⟨RX12, "deny", "(LRingHouse$Node;I)V"⟩
abbrev cX12_load : ByteArray := prog_27_method_7_code
def yX12_load : MethodName := ⟨RX12, "load", "(II)J"⟩
abbrev cX12_decode : ByteArray := prog_27_method_13_code
def yX12_decode : MethodName := ⟨RX12, "decode", "(J)LRingHouse$Decoded;"⟩
abbrev cX12_refuseHere : ByteArray := prog_27_method_3_code
def yX12_refuseHere : MethodName := ⟨RX12, "refuseHere", "(I)Z"⟩
abbrev cX12_address : ByteArray := prog_27_method_11_code
def yX12_address : MethodName := ⟨RX12, "address", "(LRingHouse$Decoded;)Z"⟩
abbrev cX12_at : ByteArray := prog_27_method_10_code
def yX12_at : MethodName := ⟨RX12, "at", "(III)V"⟩
abbrev cX12_link : ByteArray := prog_27_method_18_code
def yX12_link : MethodName := ⟨RX12, "link", "(I)Z"⟩
abbrev cX12_bind : ByteArray := prog_27_method_19_code
def yX12_bind : MethodName := ⟨RX12, "bind", "(II)Z"⟩
abbrev cX12_isObject : ByteArray := prog_27_method_17_code
def yX12_isObject : MethodName := ⟨RX12, "isObject", "(LRingHouse$Node;)Z"⟩
abbrev cX12_searched : ByteArray := prog_27_method_20_code
def yX12_searched : MethodName := ⟨RX12, "searched", "(J)LRingHouse$Node;"⟩
abbrev cX12_definition : ByteArray := prog_27_method_21_code
def yX12_definition : MethodName := ⟨RX12, "definition", "(LRingHouse$Node;J)I"⟩
abbrev cX12_indirect : ByteArray := prog_27_method_12_code
def yX12_indirect : MethodName := ⟨RX12, "indirect", "()Z"⟩
abbrev cX12_store : ByteArray := prog_27_method_8_code
def yX12_store : MethodName := ⟨RX12, "store", "(IIJ)V"⟩
abbrev cX12_value : ByteArray := prog_27_method_9_code
def yX12_value : MethodName := ⟨RX12, "value", "()Z"⟩
abbrev cX12_cross : ByteArray := prog_27_method_14_code
def yX12_cross : MethodName := ⟨RX12, "cross", "(I)V"⟩
abbrev cX12_serve : ByteArray := prog_27_method_22_code
def yX12_serve : MethodName := ⟨RX12, "serve", "(LRingHouse$Service;)Z"⟩
abbrev cX12_isKnown : ByteArray := prog_27_method_23_code
def yX12_isKnown : MethodName := ⟨RX12, "isKnown", "(LRingHouse$Process;J)Z"⟩
theorem q239 : (Jvm.Cond.initialized "RingHouse$Machine") ∈ lw_all := lw_g (lw_at lw_m1 13 rfl) rfl
theorem q374 : (Jvm.Cond.fieldLinkNest "RingHouse$Machine" (303 : Nat) "RingHouse$Node" "number" "I" "RingHouse") ∈ lw_tbl := lw_at lw_m1 148 rfl
theorem q395 : (Jvm.Cond.fieldLinkNest "RingHouse$Machine" (563 : Nat) "RingHouse$Node" "label" "I" "RingHouse") ∈ lw_tbl := lw_at lw_m1 169 rfl
theorem q400 : (Jvm.Cond.fieldLinkNest "RingHouse$Machine" (573 : Nat) "RingHouse$Node" "parent" "LRingHouse$Node;" "RingHouse") ∈ lw_tbl := lw_at lw_m1 174 rfl
theorem q414 : (Jvm.Cond.fieldLinkNest "RingHouse$Machine" (522 : Nat) "RingHouse$Node" "acl" "LRingHouse$Acl;" "RingHouse") ∈ lw_tbl := lw_at lw_m1 188 rfl
theorem q426 : (Jvm.Cond.fieldLinkNest "RingHouse$Machine" (393 : Nat) "RingHouse$Node" "r1" "I" "RingHouse") ∈ lw_tbl := lw_at lw_m1 200 rfl
theorem q439 : (Jvm.Cond.fieldLinkNest "RingHouse$Machine" (297 : Nat) "RingHouse$Node" "denials" "I" "RingHouse") ∈ lw_tbl := lw_at lw_m1 213 rfl
theorem q476 : (Jvm.Cond.fieldLinkNest "RingHouse$Machine" (280 : Nat) "RingHouse$Node" "length" "I" "RingHouse") ∈ lw_tbl := lw_at lw_m2 10 rfl
theorem q590 : (Jvm.Cond.fieldLinkNest "RingHouse$Machine" (510 : Nat) "RingHouse$Tree" "index" "LRingHouse$Index;" "RingHouse") ∈ lw_tbl := lw_at lw_m2 124 rfl
theorem q638 : (Jvm.Cond.fieldLinkNest "RingHouse$Machine" (409 : Nat) "RingHouse$Decoded" "word" "J" "RingHouse") ∈ lw_tbl := lw_at lw_m2 172 rfl
theorem q640 : (Jvm.Cond.fieldLinkNest "RingHouse$Machine" (433 : Nat) "RingHouse$Decoded" "operation" "LRingHouse$Operation;" "RingHouse") ∈ lw_tbl := lw_at lw_m2 174 rfl
theorem q643 : (Jvm.Cond.fieldLinkNest "RingHouse$Machine" (356 : Nat) "RingHouse$Decoded" "mode" "I" "RingHouse") ∈ lw_tbl := lw_at lw_m2 177 rfl
theorem q646 : (Jvm.Cond.fieldLinkNest "RingHouse$Machine" (366 : Nat) "RingHouse$Decoded" "p" "I" "RingHouse") ∈ lw_tbl := lw_at lw_m2 180 rfl
theorem q656 : (Jvm.Cond.fieldLinkNest "RingHouse$Machine" (345 : Nat) "RingHouse$Decoded" "index" "I" "RingHouse") ∈ lw_tbl := lw_at lw_m2 190 rfl
theorem q659 : (Jvm.Cond.fieldLinkNest "RingHouse$Machine" (348 : Nat) "RingHouse$Decoded" "offset" "I" "RingHouse") ∈ lw_tbl := lw_at lw_m2 193 rfl
theorem q709 : (Jvm.Cond.fieldLinkNest "RingHouse$Machine" (544 : Nat) "RingHouse$Registers" "a" "J" "RingHouse") ∈ lw_tbl := lw_at lw_m3 3 rfl
theorem q745 : (Jvm.Cond.fieldLinkNest "RingHouse$Machine" (351 : Nat) "RingHouse$Registers" "x" "[I" "RingHouse") ∈ lw_tbl := lw_at lw_m3 39 rfl
theorem q749 : (Jvm.Cond.fieldLinkNest "RingHouse$Machine" (363 : Nat) "RingHouse$Registers" "pNumber" "[I" "RingHouse") ∈ lw_tbl := lw_at lw_m3 43 rfl
theorem q752 : (Jvm.Cond.fieldLinkNest "RingHouse$Machine" (369 : Nat) "RingHouse$Registers" "pPlace" "[I" "RingHouse") ∈ lw_tbl := lw_at lw_m3 46 rfl
theorem q754 : (Jvm.Cond.fieldLinkNest "RingHouse$Machine" (372 : Nat) "RingHouse$Registers" "pRing" "[I" "RingHouse") ∈ lw_tbl := lw_at lw_m3 48 rfl
theorem q755 : (Jvm.Cond.fieldLinkNest "RingHouse$Machine" (260 : Nat) "RingHouse$Registers" "number" "I" "RingHouse") ∈ lw_tbl := lw_at lw_m3 49 rfl
theorem q760 : (Jvm.Cond.fieldLinkNest "RingHouse$Machine" (266 : Nat) "RingHouse$Registers" "place" "I" "RingHouse") ∈ lw_tbl := lw_at lw_m3 54 rfl
theorem q775 : (Jvm.Cond.fieldLinkNest "RingHouse$Machine" (269 : Nat) "RingHouse$Registers" "ring" "I" "RingHouse") ∈ lw_tbl := lw_at lw_m3 69 rfl
theorem q857 : (Jvm.Cond.fieldLinkNest "RingHouse$Machine" (300 : Nat) "RingHouse$Process" "itself" "I" "RingHouse") ∈ lw_tbl := lw_at lw_m3 151 rfl
theorem q860 : (Jvm.Cond.fieldLinkNest "RingHouse$Machine" (455 : Nat) "RingHouse$Process" "lives" "Z" "RingHouse") ∈ lw_tbl := lw_at lw_m3 154 rfl
theorem q864 : (Jvm.Cond.fieldLinkNest "RingHouse$Machine" (458 : Nat) "RingHouse$Process" "state" "I" "RingHouse") ∈ lw_tbl := lw_at lw_m3 158 rfl
theorem q870 : (Jvm.Cond.fieldLinkNest "RingHouse$Machine" (526 : Nat) "RingHouse$Process" "person" "I" "RingHouse") ∈ lw_tbl := lw_at lw_m3 164 rfl
theorem q876 : (Jvm.Cond.fieldLinkNest "RingHouse$Machine" (529 : Nat) "RingHouse$Process" "project" "I" "RingHouse") ∈ lw_tbl := lw_at lw_m3 170 rfl
theorem q888 : (Jvm.Cond.fieldLinkNest "RingHouse$Machine" (426 : Nat) "RingHouse$Process" "ticks" "I" "RingHouse") ∈ lw_tbl := lw_at lw_m3 182 rfl
theorem q891 : (Jvm.Cond.fieldLinkNest "RingHouse$Machine" (256 : Nat) "RingHouse$Process" "now" "LRingHouse$Registers;" "RingHouse") ∈ lw_tbl := lw_at lw_m3 185 rfl
theorem q908 : (Jvm.Cond.fieldLinkNest "RingHouse$Machine" (307 : Nat) "RingHouse$Process" "stacks" "[J" "RingHouse") ∈ lw_tbl := lw_at lw_m3 202 rfl
theorem q913 : (Jvm.Cond.fieldLinkNest "RingHouse$Machine" (276 : Nat) "RingHouse$Process" "known" "[LRingHouse$Node;" "RingHouse") ∈ lw_tbl := lw_at lw_m3 207 rfl
theorem q917 : (Jvm.Cond.fieldLinkNest "RingHouse$Machine" (474 : Nat) "RingHouse$Process" "linked" "[I" "RingHouse") ∈ lw_tbl := lw_at lw_m3 211 rfl
theorem q920 : (Jvm.Cond.fieldLinkNest "RingHouse$Machine" (481 : Nat) "RingHouse$Process" "linkPlace" "[I" "RingHouse") ∈ lw_tbl := lw_at lw_m3 214 rfl
theorem q934 : (Jvm.Cond.fieldLinkNest "RingHouse$Machine" (504 : Nat) "RingHouse$Process" "search" "[LRingHouse$Node;" "RingHouse") ∈ lw_tbl := lw_at lw_m3 228 rfl
theorem q940 : (Jvm.Cond.fieldLinkNest "RingHouse$Machine" (461 : Nat) "RingHouse$Process" "waiting" "I" "RingHouse") ∈ lw_tbl := lw_at lw_m3 234 rfl
theorem q998 : (Jvm.Cond.instantiable "RingHouse$Machine" (15 : Nat)) ∈ lw_all := lw_g (lw_at lw_m4 52 rfl) rfl
theorem q1000 : (Jvm.Cond.instanceMethod ({ cls := "RingHouse$Machine", name := "<init>", desc := "(LRingHouse$Tree;[LRingHouse$Process;)V" } : Jvm.MethodName)) ∈ lw_all := lw_g (lw_at lw_m4 54 rfl) rfl
theorem q1001 : (Jvm.Cond.code ({ cls := "RingHouse$Machine", name := "<init>", desc := "(LRingHouse$Tree;[LRingHouse$Process;)V" } : Jvm.MethodName) prog_27_method_1_code (4 : Nat) (Option.none : Option Jvm.ClassFile.FieldType)) ∈ lw_all := lw_g (lw_at lw_m4 55 rfl) rfl
theorem q1002 : (Jvm.Cond.methodLink "RingHouse$Machine" (3 : Nat) ({ cls := "java/lang/Object", name := "<init>", desc := "()V" } : Jvm.MethodName)) ∈ lw_all := lw_g (lw_at lw_m4 56 rfl) rfl
theorem q1003 : (Jvm.Cond.classLink "RingHouse$Machine" (9 : Nat) "RingHouse$Decoded") ∈ lw_all := lw_g (lw_at lw_m4 57 rfl) rfl
theorem q1005 : (Jvm.Cond.classLink "RingHouse$Machine" (17 : Nat) "RingHouse$Audit") ∈ lw_all := lw_g (lw_at lw_m4 59 rfl) rfl
theorem q1007 : (Jvm.Cond.methodLinkNest "RingHouse$Machine" (19 : Nat) ({ cls := "RingHouse$Audit", name := "<init>", desc := "()V" } : Jvm.MethodName) "RingHouse") ∈ lw_tbl := lw_at lw_m4 61 rfl
theorem q1020 : (Jvm.Cond.methodLinkNest "RingHouse$Machine" (32 : Nat) ({ cls := "RingHouse$Decoded", name := "<init>", desc := "()V" } : Jvm.MethodName) "RingHouse") ∈ lw_tbl := lw_at lw_m4 74 rfl
theorem q1021 : (Jvm.Cond.classLink "RingHouse$Machine" (33 : Nat) "RingHouse$Operation") ∈ lw_all := lw_g (lw_at lw_m4 75 rfl) rfl
theorem q1023 : (Jvm.Cond.classLink "RingHouse$Machine" (35 : Nat) "RingHouse$Nothing") ∈ lw_all := lw_g (lw_at lw_m4 77 rfl) rfl
theorem q1025 : (Jvm.Cond.stringRef "RingHouse$Machine" (37 : Nat) "hlt") ∈ lw_tbl := lw_at lw_m4 79 rfl
theorem q1026 : (Jvm.Cond.methodLink "RingHouse$Machine" (39 : Nat) ({ cls := "RingHouse$Nothing", name := "<init>", desc := "(Ljava/lang/String;Z)V" } : Jvm.MethodName)) ∈ lw_all := lw_g (lw_at lw_m4 80 rfl) rfl
theorem q1040 : (Jvm.Cond.fieldLinkNest "RingHouse$Machine" (440 : Nat) "RingHouse$Operation" "sort" "I" "RingHouse") ∈ lw_tbl := lw_at lw_m4 94 rfl
theorem q1056 : (Jvm.Cond.stringRef "RingHouse$Machine" (42 : Nat) "nop") ∈ lw_tbl := lw_at lw_m4 110 rfl
theorem q1057 : (Jvm.Cond.classLink "RingHouse$Machine" (44 : Nat) "RingHouse$Load") ∈ lw_all := lw_g (lw_at lw_m4 111 rfl) rfl
theorem q1059 : (Jvm.Cond.stringRef "RingHouse$Machine" (46 : Nat) "lda") ∈ lw_tbl := lw_at lw_m4 113 rfl
theorem q1060 : (Jvm.Cond.methodLink "RingHouse$Machine" (48 : Nat) ({ cls := "RingHouse$Load", name := "<init>", desc := "(Ljava/lang/String;Z)V" } : Jvm.MethodName)) ∈ lw_all := lw_g (lw_at lw_m4 114 rfl) rfl
theorem q1071 : (Jvm.Cond.stringRef "RingHouse$Machine" (49 : Nat) "ldq") ∈ lw_tbl := lw_at lw_m4 125 rfl
theorem q1072 : (Jvm.Cond.classLink "RingHouse$Machine" (51 : Nat) "RingHouse$Sum") ∈ lw_all := lw_g (lw_at lw_m4 126 rfl) rfl
theorem q1074 : (Jvm.Cond.stringRef "RingHouse$Machine" (53 : Nat) "ada") ∈ lw_tbl := lw_at lw_m4 128 rfl
theorem q1075 : (Jvm.Cond.methodLink "RingHouse$Machine" (55 : Nat) ({ cls := "RingHouse$Sum", name := "<init>", desc := "(Ljava/lang/String;I)V" } : Jvm.MethodName)) ∈ lw_all := lw_g (lw_at lw_m4 129 rfl) rfl
theorem q1089 : (Jvm.Cond.stringRef "RingHouse$Machine" (58 : Nat) "sba") ∈ lw_tbl := lw_at lw_m4 143 rfl
theorem q1090 : (Jvm.Cond.classLink "RingHouse$Machine" (60 : Nat) "RingHouse$Product") ∈ lw_all := lw_g (lw_at lw_m4 144 rfl) rfl
theorem q1092 : (Jvm.Cond.methodLink "RingHouse$Machine" (62 : Nat) ({ cls := "RingHouse$Product", name := "<init>", desc := "()V" } : Jvm.MethodName)) ∈ lw_all := lw_g (lw_at lw_m4 146 rfl) rfl
theorem q1101 : (Jvm.Cond.classLink "RingHouse$Machine" (63 : Nat) "RingHouse$Division") ∈ lw_all := lw_g (lw_at lw_m4 155 rfl) rfl
theorem q1103 : (Jvm.Cond.methodLink "RingHouse$Machine" (65 : Nat) ({ cls := "RingHouse$Division", name := "<init>", desc := "()V" } : Jvm.MethodName)) ∈ lw_all := lw_g (lw_at lw_m4 157 rfl) rfl
theorem q1112 : (Jvm.Cond.classLink "RingHouse$Machine" (66 : Nat) "RingHouse$Bits") ∈ lw_all := lw_g (lw_at lw_m4 166 rfl) rfl
theorem q1114 : (Jvm.Cond.stringRef "RingHouse$Machine" (68 : Nat) "ana") ∈ lw_tbl := lw_at lw_m4 168 rfl
theorem q1115 : (Jvm.Cond.methodLink "RingHouse$Machine" (70 : Nat) ({ cls := "RingHouse$Bits", name := "<init>", desc := "(Ljava/lang/String;I)V" } : Jvm.MethodName)) ∈ lw_all := lw_g (lw_at lw_m4 169 rfl) rfl
theorem q1126 : (Jvm.Cond.stringRef "RingHouse$Machine" (71 : Nat) "ora") ∈ lw_tbl := lw_at lw_m4 180 rfl
theorem q1127 : (Jvm.Cond.stringRef "RingHouse$Machine" (73 : Nat) "era") ∈ lw_tbl := lw_at lw_m4 181 rfl
theorem q1128 : (Jvm.Cond.classLink "RingHouse$Machine" (75 : Nat) "RingHouse$Compare") ∈ lw_all := lw_g (lw_at lw_m4 182 rfl) rfl
theorem q1130 : (Jvm.Cond.methodLink "RingHouse$Machine" (77 : Nat) ({ cls := "RingHouse$Compare", name := "<init>", desc := "()V" } : Jvm.MethodName)) ∈ lw_all := lw_g (lw_at lw_m4 184 rfl) rfl
theorem q1139 : (Jvm.Cond.classLink "RingHouse$Machine" (78 : Nat) "RingHouse$LoadHalf") ∈ lw_all := lw_g (lw_at lw_m4 193 rfl) rfl
theorem q1141 : (Jvm.Cond.stringRef "RingHouse$Machine" (80 : Nat) "ldx") ∈ lw_tbl := lw_at lw_m4 195 rfl
theorem q1142 : (Jvm.Cond.methodLink "RingHouse$Machine" (82 : Nat) ({ cls := "RingHouse$LoadHalf", name := "<init>", desc := "(Ljava/lang/String;Z)V" } : Jvm.MethodName)) ∈ lw_all := lw_g (lw_at lw_m4 196 rfl) rfl
theorem q1153 : (Jvm.Cond.stringRef "RingHouse$Machine" (83 : Nat) "adx") ∈ lw_tbl := lw_at lw_m4 207 rfl
theorem q1154 : (Jvm.Cond.classLink "RingHouse$Machine" (85 : Nat) "RingHouse$Keep") ∈ lw_all := lw_g (lw_at lw_m4 208 rfl) rfl
theorem q1156 : (Jvm.Cond.stringRef "RingHouse$Machine" (87 : Nat) "sta") ∈ lw_tbl := lw_at lw_m4 210 rfl
theorem q1157 : (Jvm.Cond.methodLink "RingHouse$Machine" (89 : Nat) ({ cls := "RingHouse$Keep", name := "<init>", desc := "(Ljava/lang/String;II)V" } : Jvm.MethodName)) ∈ lw_all := lw_g (lw_at lw_m4 211 rfl) rfl
theorem q1168 : (Jvm.Cond.stringRef "RingHouse$Machine" (92 : Nat) "stq") ∈ lw_tbl := lw_at lw_m4 222 rfl
theorem q1169 : (Jvm.Cond.stringRef "RingHouse$Machine" (94 : Nat) "stx") ∈ lw_tbl := lw_at lw_m4 223 rfl
theorem q1170 : (Jvm.Cond.stringRef "RingHouse$Machine" (96 : Nat) "spp") ∈ lw_tbl := lw_at lw_m4 224 rfl
theorem q1171 : (Jvm.Cond.classLink "RingHouse$Machine" (98 : Nat) "RingHouse$AddOne") ∈ lw_all := lw_g (lw_at lw_m4 225 rfl) rfl
theorem q1173 : (Jvm.Cond.methodLink "RingHouse$Machine" (100 : Nat) ({ cls := "RingHouse$AddOne", name := "<init>", desc := "()V" } : Jvm.MethodName)) ∈ lw_all := lw_g (lw_at lw_m4 227 rfl) rfl
theorem q1182 : (Jvm.Cond.classLink "RingHouse$Machine" (101 : Nat) "RingHouse$Swap") ∈ lw_all := lw_g (lw_at lw_m4 236 rfl) rfl
theorem q1184 : (Jvm.Cond.methodLink "RingHouse$Machine" (103 : Nat) ({ cls := "RingHouse$Swap", name := "<init>", desc := "()V" } : Jvm.MethodName)) ∈ lw_all := lw_g (lw_at lw_m4 238 rfl) rfl
theorem q1193 : (Jvm.Cond.classLink "RingHouse$Machine" (104 : Nat) "RingHouse$TakePlace") ∈ lw_all := lw_g (lw_at lw_m5 7 rfl) rfl
theorem q1195 : (Jvm.Cond.stringRef "RingHouse$Machine" (106 : Nat) "eax") ∈ lw_tbl := lw_at lw_m5 9 rfl
theorem q1196 : (Jvm.Cond.methodLink "RingHouse$Machine" (108 : Nat) ({ cls := "RingHouse$TakePlace", name := "<init>", desc := "(Ljava/lang/String;Z)V" } : Jvm.MethodName)) ∈ lw_all := lw_g (lw_at lw_m5 10 rfl) rfl
theorem q1207 : (Jvm.Cond.stringRef "RingHouse$Machine" (109 : Nat) "eaa") ∈ lw_tbl := lw_at lw_m5 21 rfl
theorem q1208 : (Jvm.Cond.classLink "RingHouse$Machine" (111 : Nat) "RingHouse$Shift") ∈ lw_all := lw_g (lw_at lw_m5 22 rfl) rfl
theorem q1210 : (Jvm.Cond.stringRef "RingHouse$Machine" (113 : Nat) "als") ∈ lw_tbl := lw_at lw_m5 24 rfl
theorem q1211 : (Jvm.Cond.methodLink "RingHouse$Machine" (115 : Nat) ({ cls := "RingHouse$Shift", name := "<init>", desc := "(Ljava/lang/String;I)V" } : Jvm.MethodName)) ∈ lw_all := lw_g (lw_at lw_m5 25 rfl) rfl
theorem q1222 : (Jvm.Cond.stringRef "RingHouse$Machine" (116 : Nat) "ars") ∈ lw_tbl := lw_at lw_m5 36 rfl
theorem q1223 : (Jvm.Cond.stringRef "RingHouse$Machine" (118 : Nat) "arl") ∈ lw_tbl := lw_at lw_m5 37 rfl
theorem q1224 : (Jvm.Cond.classLink "RingHouse$Machine" (120 : Nat) "RingHouse$Point") ∈ lw_all := lw_g (lw_at lw_m5 38 rfl) rfl
theorem q1226 : (Jvm.Cond.stringRef "RingHouse$Machine" (122 : Nat) "epp") ∈ lw_tbl := lw_at lw_m5 40 rfl
theorem q1227 : (Jvm.Cond.methodLink "RingHouse$Machine" (124 : Nat) ({ cls := "RingHouse$Point", name := "<init>", desc := "(Ljava/lang/String;Z)V" } : Jvm.MethodName)) ∈ lw_all := lw_g (lw_at lw_m5 41 rfl) rfl
theorem q1238 : (Jvm.Cond.stringRef "RingHouse$Machine" (125 : Nat) "epa") ∈ lw_tbl := lw_at lw_m5 52 rfl
theorem q1239 : (Jvm.Cond.classLink "RingHouse$Machine" (127 : Nat) "RingHouse$Go") ∈ lw_all := lw_g (lw_at lw_m5 53 rfl) rfl
theorem q1241 : (Jvm.Cond.stringRef "RingHouse$Machine" (129 : Nat) "tra") ∈ lw_tbl := lw_at lw_m5 55 rfl
theorem q1242 : (Jvm.Cond.methodLink "RingHouse$Machine" (131 : Nat) ({ cls := "RingHouse$Go", name := "<init>", desc := "(Ljava/lang/String;I)V" } : Jvm.MethodName)) ∈ lw_all := lw_g (lw_at lw_m5 56 rfl) rfl
theorem q1253 : (Jvm.Cond.stringRef "RingHouse$Machine" (132 : Nat) "tze") ∈ lw_tbl := lw_at lw_m5 67 rfl
theorem q1254 : (Jvm.Cond.stringRef "RingHouse$Machine" (134 : Nat) "tnz") ∈ lw_tbl := lw_at lw_m5 68 rfl
theorem q1255 : (Jvm.Cond.stringRef "RingHouse$Machine" (136 : Nat) "tmi") ∈ lw_tbl := lw_at lw_m5 69 rfl
theorem q1256 : (Jvm.Cond.stringRef "RingHouse$Machine" (138 : Nat) "tpl") ∈ lw_tbl := lw_at lw_m5 70 rfl
theorem q1257 : (Jvm.Cond.stringRef "RingHouse$Machine" (140 : Nat) "djx") ∈ lw_tbl := lw_at lw_m5 71 rfl
theorem q1258 : (Jvm.Cond.classLink "RingHouse$Machine" (142 : Nat) "RingHouse$Call") ∈ lw_all := lw_g (lw_at lw_m5 72 rfl) rfl
theorem q1260 : (Jvm.Cond.methodLink "RingHouse$Machine" (144 : Nat) ({ cls := "RingHouse$Call", name := "<init>", desc := "()V" } : Jvm.MethodName)) ∈ lw_all := lw_g (lw_at lw_m5 74 rfl) rfl
theorem q1269 : (Jvm.Cond.classLink "RingHouse$Machine" (145 : Nat) "RingHouse$Return") ∈ lw_all := lw_g (lw_at lw_m5 83 rfl) rfl
theorem q1271 : (Jvm.Cond.methodLink "RingHouse$Machine" (147 : Nat) ({ cls := "RingHouse$Return", name := "<init>", desc := "()V" } : Jvm.MethodName)) ∈ lw_all := lw_g (lw_at lw_m5 85 rfl) rfl
theorem q1280 : (Jvm.Cond.classLink "RingHouse$Machine" (148 : Nat) "RingHouse$Supervise") ∈ lw_all := lw_g (lw_at lw_m5 94 rfl) rfl
theorem q1282 : (Jvm.Cond.methodLink "RingHouse$Machine" (150 : Nat) ({ cls := "RingHouse$Supervise", name := "<init>", desc := "()V" } : Jvm.MethodName)) ∈ lw_all := lw_g (lw_at lw_m5 96 rfl) rfl
theorem q1291 : (Jvm.Cond.classLink "RingHouse$Machine" (151 : Nat) "RingHouse$Exchange") ∈ lw_all := lw_g (lw_at lw_m5 105 rfl) rfl
theorem q1293 : (Jvm.Cond.methodLink "RingHouse$Machine" (153 : Nat) ({ cls := "RingHouse$Exchange", name := "<init>", desc := "()V" } : Jvm.MethodName)) ∈ lw_all := lw_g (lw_at lw_m5 107 rfl) rfl
theorem q1302 : (Jvm.Cond.classLink "RingHouse$Machine" (154 : Nat) "RingHouse$Negate") ∈ lw_all := lw_g (lw_at lw_m5 116 rfl) rfl
theorem q1304 : (Jvm.Cond.methodLink "RingHouse$Machine" (156 : Nat) ({ cls := "RingHouse$Negate", name := "<init>", desc := "()V" } : Jvm.MethodName)) ∈ lw_all := lw_g (lw_at lw_m5 118 rfl) rfl
theorem q1313 : (Jvm.Cond.classLink "RingHouse$Machine" (161 : Nat) "RingHouse$Service") ∈ lw_all := lw_g (lw_at lw_m5 127 rfl) rfl
theorem q1315 : (Jvm.Cond.classLink "RingHouse$Machine" (163 : Nat) "RingHouse$Print") ∈ lw_all := lw_g (lw_at lw_m5 129 rfl) rfl
theorem q1317 : (Jvm.Cond.methodLinkNest "RingHouse$Machine" (165 : Nat) ({ cls := "RingHouse$Print", name := "<init>", desc := "()V" } : Jvm.MethodName) "RingHouse") ∈ lw_tbl := lw_at lw_m5 131 rfl
theorem q1325 : (Jvm.Cond.classLink "RingHouse$Machine" (166 : Nat) "RingHouse$Enter") ∈ lw_all := lw_g (lw_at lw_m5 139 rfl) rfl
theorem q1327 : (Jvm.Cond.methodLink "RingHouse$Machine" (168 : Nat) ({ cls := "RingHouse$Enter", name := "<init>", desc := "()V" } : Jvm.MethodName)) ∈ lw_all := lw_g (lw_at lw_m5 141 rfl) rfl
theorem q1338 : (Jvm.Cond.classLink "RingHouse$Machine" (169 : Nat) "RingHouse$Leave") ∈ lw_all := lw_g (lw_at lw_m5 152 rfl) rfl
theorem q1340 : (Jvm.Cond.methodLink "RingHouse$Machine" (171 : Nat) ({ cls := "RingHouse$Leave", name := "<init>", desc := "(Z)V" } : Jvm.MethodName)) ∈ lw_all := lw_g (lw_at lw_m5 154 rfl) rfl
theorem q1348 : (Jvm.Cond.classLink "RingHouse$Machine" (174 : Nat) "RingHouse$Know") ∈ lw_all := lw_g (lw_at lw_m5 162 rfl) rfl
theorem q1350 : (Jvm.Cond.methodLink "RingHouse$Machine" (176 : Nat) ({ cls := "RingHouse$Know", name := "<init>", desc := "()V" } : Jvm.MethodName)) ∈ lw_all := lw_g (lw_at lw_m5 164 rfl) rfl
theorem q1356 : (Jvm.Cond.classLink "RingHouse$Machine" (177 : Nat) "RingHouse$Forget") ∈ lw_all := lw_g (lw_at lw_m5 170 rfl) rfl
theorem q1358 : (Jvm.Cond.methodLinkNest "RingHouse$Machine" (179 : Nat) ({ cls := "RingHouse$Forget", name := "<init>", desc := "()V" } : Jvm.MethodName) "RingHouse") ∈ lw_tbl := lw_at lw_m5 172 rfl
theorem q1363 : (Jvm.Cond.classLink "RingHouse$Machine" (180 : Nat) "RingHouse$NameOf") ∈ lw_all := lw_g (lw_at lw_m5 177 rfl) rfl
theorem q1365 : (Jvm.Cond.methodLinkNest "RingHouse$Machine" (182 : Nat) ({ cls := "RingHouse$NameOf", name := "<init>", desc := "()V" } : Jvm.MethodName) "RingHouse") ∈ lw_tbl := lw_at lw_m5 179 rfl
theorem q1370 : (Jvm.Cond.classLink "RingHouse$Machine" (183 : Nat) "RingHouse$Tell") ∈ lw_all := lw_g (lw_at lw_m5 184 rfl) rfl
theorem q1372 : (Jvm.Cond.methodLink "RingHouse$Machine" (185 : Nat) ({ cls := "RingHouse$Tell", name := "<init>", desc := "()V" } : Jvm.MethodName)) ∈ lw_all := lw_g (lw_at lw_m5 186 rfl) rfl
theorem q1378 : (Jvm.Cond.classLink "RingHouse$Machine" (186 : Nat) "RingHouse$Create") ∈ lw_all := lw_g (lw_at lw_m5 192 rfl) rfl
theorem q1380 : (Jvm.Cond.methodLink "RingHouse$Machine" (188 : Nat) ({ cls := "RingHouse$Create", name := "<init>", desc := "(I)V" } : Jvm.MethodName)) ∈ lw_all := lw_g (lw_at lw_m5 194 rfl) rfl
theorem q1388 : (Jvm.Cond.classLink "RingHouse$Machine" (191 : Nat) "RingHouse$Delete") ∈ lw_all := lw_g (lw_at lw_m5 202 rfl) rfl
theorem q1390 : (Jvm.Cond.methodLink "RingHouse$Machine" (193 : Nat) ({ cls := "RingHouse$Delete", name := "<init>", desc := "()V" } : Jvm.MethodName)) ∈ lw_all := lw_g (lw_at lw_m5 204 rfl) rfl
theorem q1396 : (Jvm.Cond.classLink "RingHouse$Machine" (194 : Nat) "RingHouse$Rename") ∈ lw_all := lw_g (lw_at lw_m5 210 rfl) rfl
theorem q1398 : (Jvm.Cond.methodLink "RingHouse$Machine" (196 : Nat) ({ cls := "RingHouse$Rename", name := "<init>", desc := "()V" } : Jvm.MethodName)) ∈ lw_all := lw_g (lw_at lw_m5 212 rfl) rfl
theorem q1404 : (Jvm.Cond.classLink "RingHouse$Machine" (197 : Nat) "RingHouse$SetItem") ∈ lw_all := lw_g (lw_at lw_m5 218 rfl) rfl
theorem q1406 : (Jvm.Cond.methodLink "RingHouse$Machine" (199 : Nat) ({ cls := "RingHouse$SetItem", name := "<init>", desc := "()V" } : Jvm.MethodName)) ∈ lw_all := lw_g (lw_at lw_m5 220 rfl) rfl
theorem q1412 : (Jvm.Cond.classLink "RingHouse$Machine" (200 : Nat) "RingHouse$SetBrackets") ∈ lw_all := lw_g (lw_at lw_m5 226 rfl) rfl
theorem q1414 : (Jvm.Cond.methodLink "RingHouse$Machine" (202 : Nat) ({ cls := "RingHouse$SetBrackets", name := "<init>", desc := "()V" } : Jvm.MethodName)) ∈ lw_all := lw_g (lw_at lw_m5 228 rfl) rfl
theorem q1420 : (Jvm.Cond.classLink "RingHouse$Machine" (203 : Nat) "RingHouse$SetLength") ∈ lw_all := lw_g (lw_at lw_m5 234 rfl) rfl
theorem q1422 : (Jvm.Cond.methodLinkNest "RingHouse$Machine" (205 : Nat) ({ cls := "RingHouse$SetLength", name := "<init>", desc := "()V" } : Jvm.MethodName) "RingHouse") ∈ lw_tbl := lw_at lw_m5 236 rfl
theorem q1427 : (Jvm.Cond.classLink "RingHouse$Machine" (206 : Nat) "RingHouse$SetLimit") ∈ lw_all := lw_g (lw_at lw_m6 1 rfl) rfl
theorem q1429 : (Jvm.Cond.methodLink "RingHouse$Machine" (208 : Nat) ({ cls := "RingHouse$SetLimit", name := "<init>", desc := "()V" } : Jvm.MethodName)) ∈ lw_all := lw_g (lw_at lw_m6 3 rfl) rfl
theorem q1435 : (Jvm.Cond.classLink "RingHouse$Machine" (209 : Nat) "RingHouse$Search") ∈ lw_all := lw_g (lw_at lw_m6 9 rfl) rfl
theorem q1437 : (Jvm.Cond.methodLinkNest "RingHouse$Machine" (211 : Nat) ({ cls := "RingHouse$Search", name := "<init>", desc := "()V" } : Jvm.MethodName) "RingHouse") ∈ lw_tbl := lw_at lw_m6 11 rfl
theorem q1442 : (Jvm.Cond.classLink "RingHouse$Machine" (212 : Nat) "RingHouse$Handle") ∈ lw_all := lw_g (lw_at lw_m6 16 rfl) rfl
theorem q1444 : (Jvm.Cond.methodLinkNest "RingHouse$Machine" (214 : Nat) ({ cls := "RingHouse$Handle", name := "<init>", desc := "()V" } : Jvm.MethodName) "RingHouse") ∈ lw_tbl := lw_at lw_m6 18 rfl
theorem q1449 : (Jvm.Cond.classLink "RingHouse$Machine" (215 : Nat) "RingHouse$Resume") ∈ lw_all := lw_g (lw_at lw_m6 23 rfl) rfl
theorem q1451 : (Jvm.Cond.methodLinkNest "RingHouse$Machine" (217 : Nat) ({ cls := "RingHouse$Resume", name := "<init>", desc := "()V" } : Jvm.MethodName) "RingHouse") ∈ lw_tbl := lw_at lw_m6 25 rfl
theorem q1456 : (Jvm.Cond.classLink "RingHouse$Machine" (218 : Nat) "RingHouse$SendTo") ∈ lw_all := lw_g (lw_at lw_m6 30 rfl) rfl
theorem q1458 : (Jvm.Cond.methodLinkNest "RingHouse$Machine" (220 : Nat) ({ cls := "RingHouse$SendTo", name := "<init>", desc := "()V" } : Jvm.MethodName) "RingHouse") ∈ lw_tbl := lw_at lw_m6 32 rfl
theorem q1463 : (Jvm.Cond.classLink "RingHouse$Machine" (221 : Nat) "RingHouse$Receive") ∈ lw_all := lw_g (lw_at lw_m6 37 rfl) rfl
theorem q1465 : (Jvm.Cond.methodLinkNest "RingHouse$Machine" (223 : Nat) ({ cls := "RingHouse$Receive", name := "<init>", desc := "()V" } : Jvm.MethodName) "RingHouse") ∈ lw_tbl := lw_at lw_m6 39 rfl
theorem q1470 : (Jvm.Cond.classLink "RingHouse$Machine" (224 : Nat) "RingHouse$Self") ∈ lw_all := lw_g (lw_at lw_m6 44 rfl) rfl
theorem q1472 : (Jvm.Cond.methodLink "RingHouse$Machine" (226 : Nat) ({ cls := "RingHouse$Self", name := "<init>", desc := "(Z)V" } : Jvm.MethodName)) ∈ lw_all := lw_g (lw_at lw_m6 46 rfl) rfl
theorem q1480 : (Jvm.Cond.classLink "RingHouse$Machine" (227 : Nat) "RingHouse$Modes") ∈ lw_all := lw_g (lw_at lw_m6 54 rfl) rfl
theorem q1482 : (Jvm.Cond.methodLinkNest "RingHouse$Machine" (229 : Nat) ({ cls := "RingHouse$Modes", name := "<init>", desc := "()V" } : Jvm.MethodName) "RingHouse") ∈ lw_tbl := lw_at lw_m6 56 rfl
theorem q1487 : (Jvm.Cond.classLink "RingHouse$Machine" (230 : Nat) "RingHouse$SetInitial") ∈ lw_all := lw_g (lw_at lw_m6 61 rfl) rfl
theorem q1489 : (Jvm.Cond.methodLinkNest "RingHouse$Machine" (232 : Nat) ({ cls := "RingHouse$SetInitial", name := "<init>", desc := "()V" } : Jvm.MethodName) "RingHouse") ∈ lw_tbl := lw_at lw_m6 63 rfl
theorem q1494 : (Jvm.Cond.classLink "RingHouse$Machine" (233 : Nat) "RingHouse$Post") ∈ lw_all := lw_g (lw_at lw_m6 68 rfl) rfl
theorem q1496 : (Jvm.Cond.methodLink "RingHouse$Machine" (235 : Nat) ({ cls := "RingHouse$Post", name := "<init>", desc := "()V" } : Jvm.MethodName)) ∈ lw_all := lw_g (lw_at lw_m6 70 rfl) rfl
theorem q1508 : (Jvm.Cond.classLink "RingHouse$Machine" (236 : Nat) "RingHouse$Take") ∈ lw_all := lw_g (lw_at lw_m6 82 rfl) rfl
theorem q1510 : (Jvm.Cond.methodLink "RingHouse$Machine" (238 : Nat) ({ cls := "RingHouse$Take", name := "<init>", desc := "()V" } : Jvm.MethodName)) ∈ lw_all := lw_g (lw_at lw_m6 84 rfl) rfl
theorem q1517 : (Jvm.Cond.classLink "RingHouse$Machine" (239 : Nat) "RingHouse$See") ∈ lw_all := lw_g (lw_at lw_m6 91 rfl) rfl
theorem q1519 : (Jvm.Cond.methodLink "RingHouse$Machine" (241 : Nat) ({ cls := "RingHouse$See", name := "<init>", desc := "()V" } : Jvm.MethodName)) ∈ lw_all := lw_g (lw_at lw_m6 93 rfl) rfl
theorem q1526 : (Jvm.Cond.fieldLink "RingHouse$Machine" (24 : Nat) "RingHouse$Machine" "tree" "LRingHouse$Tree;") ∈ lw_all := lw_g (lw_at lw_m6 100 rfl) rfl
theorem q1534 : (Jvm.Cond.fieldLink "RingHouse$Machine" (28 : Nat) "RingHouse$Machine" "processes" "[LRingHouse$Process;") ∈ lw_all := lw_g (lw_at lw_m6 108 rfl) rfl
theorem q1536 : (Jvm.Cond.fieldLink "RingHouse$Machine" (157 : Nat) "RingHouse$Machine" "operations" "[LRingHouse$Operation;") ∈ lw_all := lw_g (lw_at lw_m6 110 rfl) rfl
theorem q1538 : (Jvm.Cond.fieldLink "RingHouse$Machine" (242 : Nat) "RingHouse$Machine" "services" "[LRingHouse$Service;") ∈ lw_all := lw_g (lw_at lw_m6 112 rfl) rfl
theorem q1540 : (Jvm.Cond.fieldLink "RingHouse$Machine" (11 : Nat) "RingHouse$Machine" "decoded" "[LRingHouse$Decoded;") ∈ lw_all := lw_g (lw_at lw_m6 114 rfl) rfl
theorem q1541 : (Jvm.Cond.fieldLink "RingHouse$Machine" (20 : Nat) "RingHouse$Machine" "audit" "LRingHouse$Audit;") ∈ lw_all := lw_g (lw_at lw_m6 115 rfl) rfl
theorem q1549 : (Jvm.Cond.fieldLink "RingHouse$Machine" (537 : Nat) "RingHouse$Machine" "asked" "LRingHouse$Node;") ∈ lw_all := lw_g (lw_at lw_m6 123 rfl) rfl
theorem q1550 : (Jvm.Cond.fieldLink "RingHouse$Machine" (246 : Nat) "RingHouse$Machine" "runs" "LRingHouse$Process;") ∈ lw_all := lw_g (lw_at lw_m6 124 rfl) rfl
theorem q1559 : (Jvm.Cond.fieldLink "RingHouse$Machine" (321 : Nat) "RingHouse$Machine" "atNumber" "I") ∈ lw_all := lw_g (lw_at lw_m6 133 rfl) rfl
theorem q1569 : (Jvm.Cond.fieldLink "RingHouse$Machine" (324 : Nat) "RingHouse$Machine" "atPlace" "I") ∈ lw_all := lw_g (lw_at lw_m6 143 rfl) rfl
theorem q1576 : (Jvm.Cond.fieldLink "RingHouse$Machine" (335 : Nat) "RingHouse$Machine" "atRing" "I") ∈ lw_all := lw_g (lw_at lw_m6 150 rfl) rfl
theorem q1582 : (Jvm.Cond.fieldLink "RingHouse$Machine" (331 : Nat) "RingHouse$Machine" "value" "J") ∈ lw_all := lw_g (lw_at lw_m6 156 rfl) rfl
theorem q1584 : (Jvm.Cond.fieldLink "RingHouse$Machine" (416 : Nat) "RingHouse$Machine" "toNumber" "I") ∈ lw_all := lw_g (lw_at lw_m6 158 rfl) rfl
theorem q1586 : (Jvm.Cond.fieldLink "RingHouse$Machine" (419 : Nat) "RingHouse$Machine" "toPlace" "I") ∈ lw_all := lw_g (lw_at lw_m6 160 rfl) rfl
theorem q1589 : (Jvm.Cond.fieldLink "RingHouse$Machine" (447 : Nat) "RingHouse$Machine" "isAside" "Z") ∈ lw_all := lw_g (lw_at lw_m6 163 rfl) rfl
theorem q1590 : (Jvm.Cond.laysFinal "RingHouse$Machine" "RingHouse$Machine" "tree" "LRingHouse$Tree;") ∈ lw_all := lw_g (lw_at lw_m6 164 rfl) rfl
theorem q1591 : (Jvm.Cond.soleField "RingHouse$Machine" "tree") ∈ lw_all := lw_g (lw_at lw_m6 165 rfl) rfl
theorem q1592 : (Jvm.Cond.laysFinal "RingHouse$Machine" "RingHouse$Machine" "processes" "[LRingHouse$Process;") ∈ lw_all := lw_g (lw_at lw_m6 166 rfl) rfl
theorem q1593 : (Jvm.Cond.soleField "RingHouse$Machine" "processes") ∈ lw_all := lw_g (lw_at lw_m6 167 rfl) rfl
theorem q1594 : (Jvm.Cond.laysFinal "RingHouse$Machine" "RingHouse$Machine" "operations" "[LRingHouse$Operation;") ∈ lw_all := lw_g (lw_at lw_m6 168 rfl) rfl
theorem q1595 : (Jvm.Cond.soleField "RingHouse$Machine" "operations") ∈ lw_all := lw_g (lw_at lw_m6 169 rfl) rfl
theorem q1596 : (Jvm.Cond.laysFinal "RingHouse$Machine" "RingHouse$Machine" "services" "[LRingHouse$Service;") ∈ lw_all := lw_g (lw_at lw_m6 170 rfl) rfl
theorem q1597 : (Jvm.Cond.soleField "RingHouse$Machine" "services") ∈ lw_all := lw_g (lw_at lw_m6 171 rfl) rfl
theorem q1598 : (Jvm.Cond.laysFinal "RingHouse$Machine" "RingHouse$Machine" "decoded" "[LRingHouse$Decoded;") ∈ lw_all := lw_g (lw_at lw_m6 172 rfl) rfl
theorem q1599 : (Jvm.Cond.soleField "RingHouse$Machine" "decoded") ∈ lw_all := lw_g (lw_at lw_m6 173 rfl) rfl
theorem q1600 : (Jvm.Cond.laysFinal "RingHouse$Machine" "RingHouse$Machine" "audit" "LRingHouse$Audit;") ∈ lw_all := lw_g (lw_at lw_m6 174 rfl) rfl
theorem q1601 : (Jvm.Cond.soleField "RingHouse$Machine" "audit") ∈ lw_all := lw_g (lw_at lw_m6 175 rfl) rfl
theorem q1602 : (Jvm.Cond.lays "RingHouse$Machine" "RingHouse$Machine" "asked" "LRingHouse$Node;") ∈ lw_all := lw_g (lw_at lw_m6 176 rfl) rfl
theorem q1603 : (Jvm.Cond.soleField "RingHouse$Machine" "asked") ∈ lw_all := lw_g (lw_at lw_m6 177 rfl) rfl
theorem q1604 : (Jvm.Cond.lays "RingHouse$Machine" "RingHouse$Machine" "runs" "LRingHouse$Process;") ∈ lw_all := lw_g (lw_at lw_m6 178 rfl) rfl
theorem q1605 : (Jvm.Cond.soleField "RingHouse$Machine" "runs") ∈ lw_all := lw_g (lw_at lw_m6 179 rfl) rfl
theorem q1606 : (Jvm.Cond.lays "RingHouse$Machine" "RingHouse$Machine" "atNumber" "I") ∈ lw_all := lw_g (lw_at lw_m6 180 rfl) rfl
theorem q1607 : (Jvm.Cond.soleField "RingHouse$Machine" "atNumber") ∈ lw_all := lw_g (lw_at lw_m6 181 rfl) rfl
theorem q1608 : (Jvm.Cond.lays "RingHouse$Machine" "RingHouse$Machine" "atPlace" "I") ∈ lw_all := lw_g (lw_at lw_m6 182 rfl) rfl
theorem q1609 : (Jvm.Cond.soleField "RingHouse$Machine" "atPlace") ∈ lw_all := lw_g (lw_at lw_m6 183 rfl) rfl
theorem q1610 : (Jvm.Cond.lays "RingHouse$Machine" "RingHouse$Machine" "atRing" "I") ∈ lw_all := lw_g (lw_at lw_m6 184 rfl) rfl
theorem q1611 : (Jvm.Cond.soleField "RingHouse$Machine" "atRing") ∈ lw_all := lw_g (lw_at lw_m6 185 rfl) rfl
theorem q1612 : (Jvm.Cond.lays "RingHouse$Machine" "RingHouse$Machine" "value" "J") ∈ lw_all := lw_g (lw_at lw_m6 186 rfl) rfl
theorem q1613 : (Jvm.Cond.soleField "RingHouse$Machine" "value") ∈ lw_all := lw_g (lw_at lw_m6 187 rfl) rfl
theorem q1614 : (Jvm.Cond.lays "RingHouse$Machine" "RingHouse$Machine" "toNumber" "I") ∈ lw_all := lw_g (lw_at lw_m6 188 rfl) rfl
theorem q1615 : (Jvm.Cond.soleField "RingHouse$Machine" "toNumber") ∈ lw_all := lw_g (lw_at lw_m6 189 rfl) rfl
theorem q1616 : (Jvm.Cond.lays "RingHouse$Machine" "RingHouse$Machine" "toPlace" "I") ∈ lw_all := lw_g (lw_at lw_m6 190 rfl) rfl
theorem q1617 : (Jvm.Cond.soleField "RingHouse$Machine" "toPlace") ∈ lw_all := lw_g (lw_at lw_m6 191 rfl) rfl
theorem q1618 : (Jvm.Cond.lays "RingHouse$Machine" "RingHouse$Machine" "isAside" "Z") ∈ lw_all := lw_g (lw_at lw_m6 192 rfl) rfl
theorem q1619 : (Jvm.Cond.soleField "RingHouse$Machine" "isAside") ∈ lw_all := lw_g (lw_at lw_m6 193 rfl) rfl
theorem q1620 : (Jvm.Cond.superclass "RingHouse$Machine" "java/lang/Object") ∈ lw_all := lw_g (lw_at lw_m6 194 rfl) rfl
theorem q1862 : (Jvm.Cond.privateMethod ({ cls := "RingHouse$Machine", name := "newDirectory", desc := "(LRingHouse$Node;JII)I" } : Jvm.MethodName)) ∈ lw_tbl := lw_at lw_m7 196 rfl
theorem q1863 : (Jvm.Cond.instanceMethod ({ cls := "RingHouse$Machine", name := "newDirectory", desc := "(LRingHouse$Node;JII)I" } : Jvm.MethodName)) ∈ lw_all := lw_g (lw_at lw_m7 197 rfl) rfl
theorem q1864 : (Jvm.Cond.code ({ cls := "RingHouse$Machine", name := "newDirectory", desc := "(LRingHouse$Node;JII)I" } : Jvm.MethodName) prog_27_method_25_code (6 : Nat) (Option.some Jvm.ClassFile.FieldType.int)) ∈ lw_all := lw_g (lw_at lw_m7 198 rfl) rfl
theorem q1865 : (Jvm.Cond.methodLink "RingHouse$Machine" (513 : Nat) ({ cls := "RingHouse$Index", name := "find", desc := "(LRingHouse$Node;J)LRingHouse$Node;" } : Jvm.MethodName)) ∈ lw_all := lw_g (lw_at lw_m7 199 rfl) rfl
theorem q1875 : (Jvm.Cond.methodLink "RingHouse$Machine" (559 : Nat) ({ cls := "RingHouse$Tree", name := "bears", desc := "(LRingHouse$Node;I)Z" } : Jvm.MethodName)) ∈ lw_all := lw_g (lw_at lw_m7 209 rfl) rfl
theorem q1883 : (Jvm.Cond.methodLink "RingHouse$Machine" (566 : Nat) ({ cls := "RingHouse$Tree", name := "make", desc := "(LRingHouse$Node;IJII)LRingHouse$Node;" } : Jvm.MethodName)) ∈ lw_all := lw_g (lw_at lw_m7 217 rfl) rfl
theorem q1941 : (Jvm.Cond.privateMethod ({ cls := "RingHouse$Machine", name := "newSegment", desc := "(LRingHouse$Node;JI)I" } : Jvm.MethodName)) ∈ lw_tbl := lw_at lw_m8 35 rfl
theorem q1942 : (Jvm.Cond.instanceMethod ({ cls := "RingHouse$Machine", name := "newSegment", desc := "(LRingHouse$Node;JI)I" } : Jvm.MethodName)) ∈ lw_all := lw_g (lw_at lw_m8 36 rfl) rfl
theorem q1943 : (Jvm.Cond.code ({ cls := "RingHouse$Machine", name := "newSegment", desc := "(LRingHouse$Node;JI)I" } : Jvm.MethodName) prog_27_method_24_code (6 : Nat) (Option.some Jvm.ClassFile.FieldType.int)) ∈ lw_all := lw_g (lw_at lw_m8 37 rfl) rfl
theorem q1944 : (Jvm.Cond.methodLinkNest "RingHouse$Machine" (555 : Nat) ({ cls := "RingHouse", name := "records", desc := "(I)I" } : Jvm.MethodName) "RingHouse") ∈ lw_tbl := lw_at lw_m8 38 rfl
theorem q1945 : (Jvm.Cond.methodLink "RingHouse$Machine" (570 : Nat) ({ cls := "RingHouse$Tree", name := "resize", desc := "(LRingHouse$Node;I)V" } : Jvm.MethodName)) ∈ lw_all := lw_g (lw_at lw_m8 39 rfl) rfl
theorem q1968 : (Jvm.Cond.privateMethod ({ cls := "RingHouse$Machine", name := "newMailbox", desc := "(LRingHouse$Node;J)I" } : Jvm.MethodName)) ∈ lw_tbl := lw_at lw_m8 62 rfl
theorem q1969 : (Jvm.Cond.instanceMethod ({ cls := "RingHouse$Machine", name := "newMailbox", desc := "(LRingHouse$Node;J)I" } : Jvm.MethodName)) ∈ lw_all := lw_g (lw_at lw_m8 63 rfl) rfl
theorem q1970 : (Jvm.Cond.code ({ cls := "RingHouse$Machine", name := "newMailbox", desc := "(LRingHouse$Node;J)I" } : Jvm.MethodName) prog_27_method_26_code (4 : Nat) (Option.some Jvm.ClassFile.FieldType.int)) ∈ lw_all := lw_g (lw_at lw_m8 64 rfl) rfl
theorem q2004 : (Jvm.Cond.privateMethod ({ cls := "RingHouse$Machine", name := "newLength", desc := "(LRingHouse$Node;I)Z" } : Jvm.MethodName)) ∈ lw_tbl := lw_at lw_m8 98 rfl
theorem q2005 : (Jvm.Cond.instanceMethod ({ cls := "RingHouse$Machine", name := "newLength", desc := "(LRingHouse$Node;I)Z" } : Jvm.MethodName)) ∈ lw_all := lw_g (lw_at lw_m8 99 rfl) rfl
theorem q2006 : (Jvm.Cond.code ({ cls := "RingHouse$Machine", name := "newLength", desc := "(LRingHouse$Node;I)Z" } : Jvm.MethodName) prog_27_method_27_code (3 : Nat) (Option.some Jvm.ClassFile.FieldType.boolean)) ∈ lw_all := lw_g (lw_at lw_m8 100 rfl) rfl
theorem q2181 : (Jvm.Cond.privateMethod ({ cls := "RingHouse$Machine", name := "tickOf", desc := "(LRingHouse$Process;)Z" } : Jvm.MethodName)) ∈ lw_tbl := lw_at lw_m9 35 rfl
theorem q2182 : (Jvm.Cond.instanceMethod ({ cls := "RingHouse$Machine", name := "tickOf", desc := "(LRingHouse$Process;)Z" } : Jvm.MethodName)) ∈ lw_all := lw_g (lw_at lw_m9 36 rfl) rfl
theorem q2183 : (Jvm.Cond.code ({ cls := "RingHouse$Machine", name := "tickOf", desc := "(LRingHouse$Process;)Z" } : Jvm.MethodName) prog_27_method_16_code (2 : Nat) (Option.some Jvm.ClassFile.FieldType.boolean)) ∈ lw_all := lw_g (lw_at lw_m9 37 rfl) rfl
theorem q2184 : (Jvm.Cond.methodLink "RingHouse$Machine" (464 : Nat) ({ cls := "RingHouse$Process", name := "oldest", desc := "()J" } : Jvm.MethodName)) ∈ lw_all := lw_g (lw_at lw_m9 38 rfl) rfl
theorem q2188 : (Jvm.Cond.methodLink "RingHouse$Machine" (422 : Nat) ({ cls := "RingHouse$Process", name := "event", desc := "(IJJJ)V" } : Jvm.MethodName)) ∈ lw_all := lw_g (lw_at lw_m9 42 rfl) rfl
theorem q2197 : (Jvm.Cond.methodLink "RingHouse$Machine" (468 : Nat) ({ cls := "RingHouse$Machine", name := "step", desc := "(LRingHouse$Process;)V" } : Jvm.MethodName)) ∈ lw_all := lw_g (lw_at lw_m9 51 rfl) rfl
theorem q2198 : (Jvm.Cond.privateMethod ({ cls := "RingHouse$Machine", name := "step", desc := "(LRingHouse$Process;)V" } : Jvm.MethodName)) ∈ lw_tbl := lw_at lw_m9 52 rfl
theorem q2199 : (Jvm.Cond.instanceMethod ({ cls := "RingHouse$Machine", name := "step", desc := "(LRingHouse$Process;)V" } : Jvm.MethodName)) ∈ lw_all := lw_g (lw_at lw_m9 53 rfl) rfl
theorem q2200 : (Jvm.Cond.code ({ cls := "RingHouse$Machine", name := "step", desc := "(LRingHouse$Process;)V" } : Jvm.MethodName) prog_27_method_15_code (5 : Nat) (Option.none : Option Jvm.ClassFile.FieldType)) ∈ lw_all := lw_g (lw_at lw_m9 54 rfl) rfl
theorem q2201 : (Jvm.Cond.methodLink "RingHouse$Machine" (338 : Nat) ({ cls := "RingHouse$Machine", name := "may", desc := "(IIII)Z" } : Jvm.MethodName)) ∈ lw_all := lw_g (lw_at lw_m9 55 rfl) rfl
theorem q2202 : (Jvm.Cond.privateMethod ({ cls := "RingHouse$Machine", name := "may", desc := "(IIII)Z" } : Jvm.MethodName)) ∈ lw_tbl := lw_at lw_m9 56 rfl
theorem q2203 : (Jvm.Cond.instanceMethod ({ cls := "RingHouse$Machine", name := "may", desc := "(IIII)Z" } : Jvm.MethodName)) ∈ lw_all := lw_g (lw_at lw_m9 57 rfl) rfl
theorem q2204 : (Jvm.Cond.code ({ cls := "RingHouse$Machine", name := "may", desc := "(IIII)Z" } : Jvm.MethodName) prog_27_method_5_code (6 : Nat) (Option.some Jvm.ClassFile.FieldType.boolean)) ∈ lw_all := lw_g (lw_at lw_m9 58 rfl) rfl
theorem q2205 : (Jvm.Cond.methodLink "RingHouse$Machine" (285 : Nat) ({ cls := "RingHouse$Machine", name := "isThere", desc := "(III)Z" } : Jvm.MethodName)) ∈ lw_all := lw_g (lw_at lw_m9 59 rfl) rfl
theorem q2206 : (Jvm.Cond.privateMethod ({ cls := "RingHouse$Machine", name := "isThere", desc := "(III)Z" } : Jvm.MethodName)) ∈ lw_tbl := lw_at lw_m9 60 rfl
theorem q2207 : (Jvm.Cond.instanceMethod ({ cls := "RingHouse$Machine", name := "isThere", desc := "(III)Z" } : Jvm.MethodName)) ∈ lw_all := lw_g (lw_at lw_m9 61 rfl) rfl
theorem q2208 : (Jvm.Cond.code ({ cls := "RingHouse$Machine", name := "isThere", desc := "(III)Z" } : Jvm.MethodName) prog_27_method_4_code (5 : Nat) (Option.some Jvm.ClassFile.FieldType.boolean)) ∈ lw_all := lw_g (lw_at lw_m9 62 rfl) rfl
theorem q2209 : (Jvm.Cond.methodLink "RingHouse$Machine" (272 : Nat) ({ cls := "RingHouse$Machine", name := "refuse", desc := "(IIII)Z" } : Jvm.MethodName)) ∈ lw_all := lw_g (lw_at lw_m9 63 rfl) rfl
theorem q2210 : (Jvm.Cond.privateMethod ({ cls := "RingHouse$Machine", name := "refuse", desc := "(IIII)Z" } : Jvm.MethodName)) ∈ lw_tbl := lw_at lw_m9 64 rfl
theorem q2211 : (Jvm.Cond.instanceMethod ({ cls := "RingHouse$Machine", name := "refuse", desc := "(IIII)Z" } : Jvm.MethodName)) ∈ lw_all := lw_g (lw_at lw_m9 65 rfl) rfl
theorem q2212 : (Jvm.Cond.code ({ cls := "RingHouse$Machine", name := "refuse", desc := "(IIII)Z" } : Jvm.MethodName) prog_27_method_2_code (5 : Nat) (Option.some Jvm.ClassFile.FieldType.boolean)) ∈ lw_all := lw_g (lw_at lw_m9 66 rfl) rfl
theorem q2213 : (Jvm.Cond.methodLink "RingHouse$Machine" (250 : Nat) ({ cls := "RingHouse$Process", name := "fault", desc := "(IIII)V" } : Jvm.MethodName)) ∈ lw_all := lw_g (lw_at lw_m9 67 rfl) rfl
theorem q2226 : (Jvm.Cond.methodLink "RingHouse$Machine" (289 : Nat) ({ cls := "RingHouse$Process", name := "refusal", desc := "(III)I" } : Jvm.MethodName)) ∈ lw_all := lw_g (lw_at lw_m9 80 rfl) rfl
theorem q2236 : (Jvm.Cond.methodLink "RingHouse$Machine" (293 : Nat) ({ cls := "RingHouse$Machine", name := "deny", desc := "(LRingHouse$Node;I)V" } : Jvm.MethodName)) ∈ lw_all := lw_g (lw_at lw_m9 90 rfl) rfl
theorem q2237 : (Jvm.Cond.privateMethod ({ cls := "RingHouse$Machine", name := "deny", desc := "(LRingHouse$Node;I)V" } : Jvm.MethodName)) ∈ lw_tbl := lw_at lw_m9 91 rfl
theorem q2238 : (Jvm.Cond.instanceMethod ({ cls := "RingHouse$Machine", name := "deny", desc := "(LRingHouse$Node;I)V" } : Jvm.MethodName)) ∈ lw_all := lw_g (lw_at lw_m9 92 rfl) rfl
theorem q2239 : (Jvm.Cond.code ({ cls := "RingHouse$Machine", name := "deny", desc := "(LRingHouse$Node;I)V" } : Jvm.MethodName) prog_27_method_6_code (3 : Nat) (Option.none : Option Jvm.ClassFile.FieldType)) ∈ lw_all := lw_g (lw_at lw_m9 93 rfl) rfl
theorem q2240 : (Jvm.Cond.methodLink "RingHouse$Machine" (304 : Nat) ({ cls := "RingHouse$Audit", name := "add", desc := "(IIII)V" } : Jvm.MethodName)) ∈ lw_all := lw_g (lw_at lw_m9 94 rfl) rfl
theorem q2244 : (Jvm.Cond.methodLink "RingHouse$Machine" (341 : Nat) ({ cls := "RingHouse$Machine", name := "load", desc := "(II)J" } : Jvm.MethodName)) ∈ lw_all := lw_g (lw_at lw_m9 98 rfl) rfl
theorem q2245 : (Jvm.Cond.privateMethod ({ cls := "RingHouse$Machine", name := "load", desc := "(II)J" } : Jvm.MethodName)) ∈ lw_tbl := lw_at lw_m9 99 rfl
theorem q2246 : (Jvm.Cond.instanceMethod ({ cls := "RingHouse$Machine", name := "load", desc := "(II)J" } : Jvm.MethodName)) ∈ lw_all := lw_g (lw_at lw_m9 100 rfl) rfl
theorem q2247 : (Jvm.Cond.code ({ cls := "RingHouse$Machine", name := "load", desc := "(II)J" } : Jvm.MethodName) prog_27_method_7_code (3 : Nat) (Option.some Jvm.ClassFile.FieldType.long)) ∈ lw_all := lw_g (lw_at lw_m9 101 rfl) rfl
theorem q2248 : (Jvm.Cond.methodLink "RingHouse$Machine" (311 : Nat) ({ cls := "RingHouse$Tree", name := "get", desc := "(LRingHouse$Node;I)J" } : Jvm.MethodName)) ∈ lw_all := lw_g (lw_at lw_m9 102 rfl) rfl
theorem q2249 : (Jvm.Cond.methodLink "RingHouse$Machine" (429 : Nat) ({ cls := "RingHouse$Machine", name := "decode", desc := "(J)LRingHouse$Decoded;" } : Jvm.MethodName)) ∈ lw_all := lw_g (lw_at lw_m9 103 rfl) rfl
theorem q2250 : (Jvm.Cond.privateMethod ({ cls := "RingHouse$Machine", name := "decode", desc := "(J)LRingHouse$Decoded;" } : Jvm.MethodName)) ∈ lw_tbl := lw_at lw_m9 104 rfl
theorem q2251 : (Jvm.Cond.instanceMethod ({ cls := "RingHouse$Machine", name := "decode", desc := "(J)LRingHouse$Decoded;" } : Jvm.MethodName)) ∈ lw_all := lw_g (lw_at lw_m9 105 rfl) rfl
theorem q2252 : (Jvm.Cond.code ({ cls := "RingHouse$Machine", name := "decode", desc := "(J)LRingHouse$Decoded;" } : Jvm.MethodName) prog_27_method_13_code (4 : Nat) (Option.some (Jvm.ClassFile.FieldType.object "RingHouse$Decoded"))) ∈ lw_all := lw_g (lw_at lw_m9 106 rfl) rfl
theorem q2253 : (Jvm.Cond.methodLink "RingHouse$Machine" (412 : Nat) ({ cls := "RingHouse$Decoded", name := "take", desc := "(J[LRingHouse$Operation;)V" } : Jvm.MethodName)) ∈ lw_all := lw_g (lw_at lw_m9 107 rfl) rfl
theorem q2283 : (Jvm.Cond.methodLink "RingHouse$Machine" (437 : Nat) ({ cls := "RingHouse$Machine", name := "refuseHere", desc := "(I)Z" } : Jvm.MethodName)) ∈ lw_all := lw_g (lw_at lw_m9 137 rfl) rfl
theorem q2284 : (Jvm.Cond.privateMethod ({ cls := "RingHouse$Machine", name := "refuseHere", desc := "(I)Z" } : Jvm.MethodName)) ∈ lw_tbl := lw_at lw_m9 138 rfl
theorem q2285 : (Jvm.Cond.instanceMethod ({ cls := "RingHouse$Machine", name := "refuseHere", desc := "(I)Z" } : Jvm.MethodName)) ∈ lw_all := lw_g (lw_at lw_m9 139 rfl) rfl
theorem q2286 : (Jvm.Cond.code ({ cls := "RingHouse$Machine", name := "refuseHere", desc := "(I)Z" } : Jvm.MethodName) prog_27_method_3_code (3 : Nat) (Option.some Jvm.ClassFile.FieldType.boolean)) ∈ lw_all := lw_g (lw_at lw_m9 140 rfl) rfl
theorem q2287 : (Jvm.Cond.methodLink "RingHouse$Machine" (443 : Nat) ({ cls := "RingHouse$Machine", name := "address", desc := "(LRingHouse$Decoded;)Z" } : Jvm.MethodName)) ∈ lw_all := lw_g (lw_at lw_m9 141 rfl) rfl
theorem q2288 : (Jvm.Cond.privateMethod ({ cls := "RingHouse$Machine", name := "address", desc := "(LRingHouse$Decoded;)Z" } : Jvm.MethodName)) ∈ lw_tbl := lw_at lw_m9 142 rfl
theorem q2289 : (Jvm.Cond.instanceMethod ({ cls := "RingHouse$Machine", name := "address", desc := "(LRingHouse$Decoded;)Z" } : Jvm.MethodName)) ∈ lw_all := lw_g (lw_at lw_m9 143 rfl) rfl
theorem q2290 : (Jvm.Cond.code ({ cls := "RingHouse$Machine", name := "address", desc := "(LRingHouse$Decoded;)Z" } : Jvm.MethodName) prog_27_method_11_code (4 : Nat) (Option.some Jvm.ClassFile.FieldType.boolean)) ∈ lw_all := lw_g (lw_at lw_m9 144 rfl) rfl
theorem q2291 : (Jvm.Cond.constant "RingHouse$Machine" (355 : Nat) (262143 : Int32)) ∈ lw_all := lw_g (lw_at lw_m9 145 rfl) rfl
theorem q2292 : (Jvm.Cond.methodLink "RingHouse$Machine" (359 : Nat) ({ cls := "RingHouse$Machine", name := "at", desc := "(III)V" } : Jvm.MethodName)) ∈ lw_all := lw_g (lw_at lw_m9 146 rfl) rfl
theorem q2293 : (Jvm.Cond.privateMethod ({ cls := "RingHouse$Machine", name := "at", desc := "(III)V" } : Jvm.MethodName)) ∈ lw_tbl := lw_at lw_m9 147 rfl
theorem q2294 : (Jvm.Cond.instanceMethod ({ cls := "RingHouse$Machine", name := "at", desc := "(III)V" } : Jvm.MethodName)) ∈ lw_all := lw_g (lw_at lw_m9 148 rfl) rfl
theorem q2295 : (Jvm.Cond.code ({ cls := "RingHouse$Machine", name := "at", desc := "(III)V" } : Jvm.MethodName) prog_27_method_10_code (4 : Nat) (Option.none : Option Jvm.ClassFile.FieldType)) ∈ lw_all := lw_g (lw_at lw_m9 149 rfl) rfl
theorem q2296 : (Jvm.Cond.methodLink "RingHouse$Machine" (375 : Nat) ({ cls := "java/lang/Math", name := "max", desc := "(II)I" } : Jvm.MethodName)) ∈ lw_all := lw_g (lw_at lw_m9 150 rfl) rfl
theorem q2299 : (Jvm.Cond.methodLink "RingHouse$Machine" (381 : Nat) ({ cls := "RingHouse$Machine", name := "link", desc := "(I)Z" } : Jvm.MethodName)) ∈ lw_all := lw_g (lw_at lw_m9 153 rfl) rfl
theorem q2300 : (Jvm.Cond.privateMethod ({ cls := "RingHouse$Machine", name := "link", desc := "(I)Z" } : Jvm.MethodName)) ∈ lw_tbl := lw_at lw_m9 154 rfl
theorem q2301 : (Jvm.Cond.instanceMethod ({ cls := "RingHouse$Machine", name := "link", desc := "(I)Z" } : Jvm.MethodName)) ∈ lw_all := lw_g (lw_at lw_m9 155 rfl) rfl
theorem q2302 : (Jvm.Cond.code ({ cls := "RingHouse$Machine", name := "link", desc := "(I)Z" } : Jvm.MethodName) prog_27_method_18_code (4 : Nat) (Option.some Jvm.ClassFile.FieldType.boolean)) ∈ lw_all := lw_g (lw_at lw_m9 156 rfl) rfl
theorem q2303 : (Jvm.Cond.methodLink "RingHouse$Machine" (477 : Nat) ({ cls := "RingHouse$Machine", name := "bind", desc := "(II)Z" } : Jvm.MethodName)) ∈ lw_all := lw_g (lw_at lw_m9 157 rfl) rfl
theorem q2304 : (Jvm.Cond.privateMethod ({ cls := "RingHouse$Machine", name := "bind", desc := "(II)Z" } : Jvm.MethodName)) ∈ lw_tbl := lw_at lw_m9 158 rfl
theorem q2305 : (Jvm.Cond.instanceMethod ({ cls := "RingHouse$Machine", name := "bind", desc := "(II)Z" } : Jvm.MethodName)) ∈ lw_all := lw_g (lw_at lw_m9 159 rfl) rfl
theorem q2306 : (Jvm.Cond.code ({ cls := "RingHouse$Machine", name := "bind", desc := "(II)Z" } : Jvm.MethodName) prog_27_method_19_code (8 : Nat) (Option.some Jvm.ClassFile.FieldType.boolean)) ∈ lw_all := lw_g (lw_at lw_m9 160 rfl) rfl
theorem q2307 : (Jvm.Cond.methodLink "RingHouse$Machine" (484 : Nat) ({ cls := "RingHouse$Machine", name := "isObject", desc := "(LRingHouse$Node;)Z" } : Jvm.MethodName)) ∈ lw_all := lw_g (lw_at lw_m9 161 rfl) rfl
theorem q2308 : (Jvm.Cond.privateMethod ({ cls := "RingHouse$Machine", name := "isObject", desc := "(LRingHouse$Node;)Z" } : Jvm.MethodName)) ∈ lw_tbl := lw_at lw_m9 162 rfl
theorem q2309 : (Jvm.Cond.instanceMethod ({ cls := "RingHouse$Machine", name := "isObject", desc := "(LRingHouse$Node;)Z" } : Jvm.MethodName)) ∈ lw_all := lw_g (lw_at lw_m9 163 rfl) rfl
theorem q2310 : (Jvm.Cond.code ({ cls := "RingHouse$Machine", name := "isObject", desc := "(LRingHouse$Node;)Z" } : Jvm.MethodName) prog_27_method_17_code (2 : Nat) (Option.some Jvm.ClassFile.FieldType.boolean)) ∈ lw_all := lw_g (lw_at lw_m9 164 rfl) rfl
theorem q2311 : (Jvm.Cond.constantLong "RingHouse$Machine" (472 : Nat) (365 : Int64)) ∈ lw_all := lw_g (lw_at lw_m9 165 rfl) rfl
theorem q2312 : (Jvm.Cond.constantLong "RingHouse$Machine" (488 : Nat) (511 : Int64)) ∈ lw_all := lw_g (lw_at lw_m9 166 rfl) rfl
theorem q2313 : (Jvm.Cond.constantLong "RingHouse$Machine" (490 : Nat) (262143 : Int64)) ∈ lw_all := lw_g (lw_at lw_m9 167 rfl) rfl
theorem q2314 : (Jvm.Cond.methodLink "RingHouse$Machine" (492 : Nat) ({ cls := "RingHouse$Machine", name := "searched", desc := "(J)LRingHouse$Node;" } : Jvm.MethodName)) ∈ lw_all := lw_g (lw_at lw_m9 168 rfl) rfl
theorem q2315 : (Jvm.Cond.privateMethod ({ cls := "RingHouse$Machine", name := "searched", desc := "(J)LRingHouse$Node;" } : Jvm.MethodName)) ∈ lw_tbl := lw_at lw_m9 169 rfl
theorem q2316 : (Jvm.Cond.instanceMethod ({ cls := "RingHouse$Machine", name := "searched", desc := "(J)LRingHouse$Node;" } : Jvm.MethodName)) ∈ lw_all := lw_g (lw_at lw_m9 170 rfl) rfl
theorem q2317 : (Jvm.Cond.code ({ cls := "RingHouse$Machine", name := "searched", desc := "(J)LRingHouse$Node;" } : Jvm.MethodName) prog_27_method_20_code (6 : Nat) (Option.some (Jvm.ClassFile.FieldType.object "RingHouse$Node"))) ∈ lw_all := lw_g (lw_at lw_m9 171 rfl) rfl
theorem q2318 : (Jvm.Cond.methodLink "RingHouse$Machine" (507 : Nat) ({ cls := "RingHouse$Process", name := "refusal", desc := "(LRingHouse$Node;I)I" } : Jvm.MethodName)) ∈ lw_all := lw_g (lw_at lw_m9 172 rfl) rfl
theorem q2322 : (Jvm.Cond.methodLink "RingHouse$Machine" (519 : Nat) ({ cls := "RingHouse$Node", name := "isSegment", desc := "()Z" } : Jvm.MethodName)) ∈ lw_all := lw_g (lw_at lw_m9 176 rfl) rfl
theorem q2323 : (Jvm.Cond.methodLink "RingHouse$Machine" (532 : Nat) ({ cls := "RingHouse$Acl", name := "of", desc := "(II)I" } : Jvm.MethodName)) ∈ lw_all := lw_g (lw_at lw_m9 177 rfl) rfl
theorem q2324 : (Jvm.Cond.methodLink "RingHouse$Machine" (496 : Nat) ({ cls := "RingHouse$Process", name := "numberFor", desc := "(LRingHouse$Node;)I" } : Jvm.MethodName)) ∈ lw_all := lw_g (lw_at lw_m9 178 rfl) rfl
theorem q2328 : (Jvm.Cond.methodLink "RingHouse$Machine" (500 : Nat) ({ cls := "RingHouse$Machine", name := "definition", desc := "(LRingHouse$Node;J)I" } : Jvm.MethodName)) ∈ lw_all := lw_g (lw_at lw_m9 182 rfl) rfl
theorem q2329 : (Jvm.Cond.privateMethod ({ cls := "RingHouse$Machine", name := "definition", desc := "(LRingHouse$Node;J)I" } : Jvm.MethodName)) ∈ lw_tbl := lw_at lw_m9 183 rfl
theorem q2330 : (Jvm.Cond.instanceMethod ({ cls := "RingHouse$Machine", name := "definition", desc := "(LRingHouse$Node;J)I" } : Jvm.MethodName)) ∈ lw_all := lw_g (lw_at lw_m9 184 rfl) rfl
theorem q2331 : (Jvm.Cond.code ({ cls := "RingHouse$Machine", name := "definition", desc := "(LRingHouse$Node;J)I" } : Jvm.MethodName) prog_27_method_21_code (8 : Nat) (Option.some Jvm.ClassFile.FieldType.int)) ∈ lw_all := lw_g (lw_at lw_m9 185 rfl) rfl
theorem q2332 : (Jvm.Cond.methodLink "RingHouse$Machine" (385 : Nat) ({ cls := "RingHouse$Machine", name := "indirect", desc := "()Z" } : Jvm.MethodName)) ∈ lw_all := lw_g (lw_at lw_m9 186 rfl) rfl
theorem q2333 : (Jvm.Cond.privateMethod ({ cls := "RingHouse$Machine", name := "indirect", desc := "()Z" } : Jvm.MethodName)) ∈ lw_tbl := lw_at lw_m9 187 rfl
theorem q2334 : (Jvm.Cond.instanceMethod ({ cls := "RingHouse$Machine", name := "indirect", desc := "()Z" } : Jvm.MethodName)) ∈ lw_all := lw_g (lw_at lw_m9 188 rfl) rfl
theorem q2335 : (Jvm.Cond.code ({ cls := "RingHouse$Machine", name := "indirect", desc := "()Z" } : Jvm.MethodName) prog_27_method_12_code (5 : Nat) (Option.some Jvm.ClassFile.FieldType.boolean)) ∈ lw_all := lw_g (lw_at lw_m9 189 rfl) rfl
theorem q2336 : (Jvm.Cond.methodLinkNest "RingHouse$Machine" (389 : Nat) ({ cls := "RingHouse", name := "isPointer", desc := "(J)Z" } : Jvm.MethodName) "RingHouse") ∈ lw_tbl := lw_at lw_m9 190 rfl
theorem q2340 : (Jvm.Cond.methodLinkNest "RingHouse$Machine" (396 : Nat) ({ cls := "RingHouse", name := "numberOf", desc := "(J)I" } : Jvm.MethodName) "RingHouse") ∈ lw_tbl := lw_at lw_m9 194 rfl
theorem q2343 : (Jvm.Cond.methodLinkNest "RingHouse$Machine" (400 : Nat) ({ cls := "RingHouse", name := "placeOf", desc := "(J)I" } : Jvm.MethodName) "RingHouse") ∈ lw_tbl := lw_at lw_m9 197 rfl
theorem q2346 : (Jvm.Cond.methodLinkNest "RingHouse$Machine" (403 : Nat) ({ cls := "RingHouse", name := "ringOf", desc := "(J)I" } : Jvm.MethodName) "RingHouse") ∈ lw_tbl := lw_at lw_m9 200 rfl
theorem q2349 : (Jvm.Cond.methodLinkNest "RingHouse$Machine" (406 : Nat) ({ cls := "RingHouse", name := "isChained", desc := "(J)Z" } : Jvm.MethodName) "RingHouse") ∈ lw_tbl := lw_at lw_m9 203 rfl
theorem q2352 : (Jvm.Cond.methodLink "RingHouse$Machine" (451 : Nat) ({ cls := "RingHouse$Operation", name := "run", desc := "(LRingHouse$Machine;LRingHouse$Decoded;LRingHouse$Registers;)Z" } : Jvm.MethodName)) ∈ lw_all := lw_g (lw_at lw_m9 206 rfl) rfl
theorem q2362 : (Jvm.Cond.privateMethod ({ cls := "RingHouse$Machine", name := "store", desc := "(IIJ)V" } : Jvm.MethodName)) ∈ lw_tbl := lw_at lw_m9 216 rfl
theorem q2363 : (Jvm.Cond.instanceMethod ({ cls := "RingHouse$Machine", name := "store", desc := "(IIJ)V" } : Jvm.MethodName)) ∈ lw_all := lw_g (lw_at lw_m9 217 rfl) rfl
theorem q2364 : (Jvm.Cond.code ({ cls := "RingHouse$Machine", name := "store", desc := "(IIJ)V" } : Jvm.MethodName) prog_27_method_8_code (5 : Nat) (Option.none : Option Jvm.ClassFile.FieldType)) ∈ lw_all := lw_g (lw_at lw_m9 218 rfl) rfl
theorem q2365 : (Jvm.Cond.methodLink "RingHouse$Machine" (317 : Nat) ({ cls := "RingHouse$Tree", name := "put", desc := "(LRingHouse$Node;IJ)V" } : Jvm.MethodName)) ∈ lw_all := lw_g (lw_at lw_m9 219 rfl) rfl
theorem q2374 : (Jvm.Cond.privateMethod ({ cls := "RingHouse$Machine", name := "value", desc := "()Z" } : Jvm.MethodName)) ∈ lw_tbl := lw_at lw_m9 228 rfl
theorem q2375 : (Jvm.Cond.instanceMethod ({ cls := "RingHouse$Machine", name := "value", desc := "()Z" } : Jvm.MethodName)) ∈ lw_all := lw_g (lw_at lw_m9 229 rfl) rfl
theorem q2376 : (Jvm.Cond.code ({ cls := "RingHouse$Machine", name := "value", desc := "()Z" } : Jvm.MethodName) prog_27_method_9_code (1 : Nat) (Option.some Jvm.ClassFile.FieldType.boolean)) ∈ lw_all := lw_g (lw_at lw_m9 230 rfl) rfl
theorem q2377 : (Jvm.Cond.constantLong "RingHouse$Machine" (327 : Nat) (262144 : Int64)) ∈ lw_all := lw_g (lw_at lw_m9 231 rfl) rfl
theorem q2378 : (Jvm.Cond.constantLong "RingHouse$Machine" (329 : Nat) (68719476735 : Int64)) ∈ lw_all := lw_g (lw_at lw_m9 232 rfl) rfl
theorem q2412 : (Jvm.Cond.privateMethod ({ cls := "RingHouse$Machine", name := "cross", desc := "(I)V" } : Jvm.MethodName)) ∈ lw_tbl := lw_at lw_m10 26 rfl
theorem q2413 : (Jvm.Cond.instanceMethod ({ cls := "RingHouse$Machine", name := "cross", desc := "(I)V" } : Jvm.MethodName)) ∈ lw_all := lw_g (lw_at lw_m10 27 rfl) rfl
theorem q2414 : (Jvm.Cond.code ({ cls := "RingHouse$Machine", name := "cross", desc := "(I)V" } : Jvm.MethodName) prog_27_method_14_code (3 : Nat) (Option.none : Option Jvm.ClassFile.FieldType)) ∈ lw_all := lw_g (lw_at lw_m10 28 rfl) rfl
theorem q2502 : (Jvm.Cond.privateMethod ({ cls := "RingHouse$Machine", name := "serve", desc := "(LRingHouse$Service;)Z" } : Jvm.MethodName)) ∈ lw_tbl := lw_at lw_m10 116 rfl
theorem q2503 : (Jvm.Cond.instanceMethod ({ cls := "RingHouse$Machine", name := "serve", desc := "(LRingHouse$Service;)Z" } : Jvm.MethodName)) ∈ lw_all := lw_g (lw_at lw_m10 117 rfl) rfl
theorem q2504 : (Jvm.Cond.code ({ cls := "RingHouse$Machine", name := "serve", desc := "(LRingHouse$Service;)Z" } : Jvm.MethodName) prog_27_method_22_code (4 : Nat) (Option.some Jvm.ClassFile.FieldType.boolean)) ∈ lw_all := lw_g (lw_at lw_m10 118 rfl) rfl
theorem q2505 : (Jvm.Cond.methodLink "RingHouse$Machine" (541 : Nat) ({ cls := "RingHouse$Service", name := "run", desc := "(LRingHouse$Machine;LRingHouse$Process;LRingHouse$Registers;)I" } : Jvm.MethodName)) ∈ lw_all := lw_g (lw_at lw_m10 119 rfl) rfl
theorem q2637 : (Jvm.Cond.static ({ cls := "RingHouse$Machine", name := "isKnown", desc := "(LRingHouse$Process;J)Z" } : Jvm.MethodName)) ∈ lw_all := lw_g (lw_at lw_m11 11 rfl) rfl
theorem q2638 : (Jvm.Cond.code ({ cls := "RingHouse$Machine", name := "isKnown", desc := "(LRingHouse$Process;J)Z" } : Jvm.MethodName) prog_27_method_23_code (3 : Nat) (Option.some Jvm.ClassFile.FieldType.boolean)) ∈ lw_all := lw_g (lw_at lw_m11 12 rfl) rfl
theorem q2639 : (Jvm.Cond.constantLong "RingHouse$Machine" (547 : Nat) (8 : Int64)) ∈ lw_all := lw_g (lw_at lw_m11 13 rfl) rfl
theorem q2640 : (Jvm.Cond.constantLong "RingHouse$Machine" (549 : Nat) (31 : Int64)) ∈ lw_all := lw_g (lw_at lw_m11 14 rfl) rfl
theorem q2641 : (Jvm.Cond.methodLinkNest "RingHouse$Machine" (551 : Nat) ({ cls := "RingHouse", name := "isIn", desc := "(JJJ)Z" } : Jvm.MethodName) "RingHouse") ∈ lw_tbl := lw_at lw_m11 15 rfl
theorem in_X12 : ∀ w ∈ wsX120, w ∈ lw_all := lw_in wsX120 [1590, 1592, 1594, 1596, 1598, 1600, 1602, 1604, 1606, 1608, 1610, 1612, 1614, 1616, 1618] (by decide +kernel) (by decide +kernel)
/-! RingHouse$Audit -/
def RX13 : String := "RingHouse$Audit"
def TX13 : u_T := fun k => match k with
  | 0 => ("RingHouse$Audit", "rows", "[I", true)
  | _ => ("RingHouse$Audit", "many", "I", false)
def tyX13 : Nat → FieldType := fun k => match k with
  | 0 => .array .int
  | _ => .int
abbrev wsX130 : List Cond := u_ws RX13 TX13 2
theorem nmX13 : ∀ a, a < 2 → ∀ b, b < 2 → a ≠ b → (TX13 a).2.1 ≠ (TX13 b).2.1 := by decide +kernel
theorem tyX13_ok : ∀ k, k < 2 → parseFieldDescriptor (TX13 k).2.2.1 = some (tyX13 k) := by decide +kernel
abbrev cX13_init : ByteArray := prog_5_method_1_code
def yX13_init : MethodName := ⟨RX13, "<init>", "()V"⟩
abbrev cX13_has : ByteArray := prog_5_method_3_code
def yX13_has : MethodName := ⟨RX13, "has", "(I)Z"⟩
abbrev cX13_add : ByteArray := prog_5_method_2_code
def yX13_add : MethodName := ⟨RX13, "add", "(IIII)V"⟩
theorem q240 : (Jvm.Cond.initialized "RingHouse$Audit") ∈ lw_all := lw_g (lw_at lw_m1 14 rfl) rfl
theorem q1006 : (Jvm.Cond.instantiable "RingHouse$Audit" (2 : Nat)) ∈ lw_all := lw_g (lw_at lw_m4 60 rfl) rfl
theorem q1008 : (Jvm.Cond.instanceMethod ({ cls := "RingHouse$Audit", name := "<init>", desc := "()V" } : Jvm.MethodName)) ∈ lw_all := lw_g (lw_at lw_m4 62 rfl) rfl
theorem q1009 : (Jvm.Cond.code ({ cls := "RingHouse$Audit", name := "<init>", desc := "()V" } : Jvm.MethodName) prog_5_method_1_code (1 : Nat) (Option.none : Option Jvm.ClassFile.FieldType)) ∈ lw_all := lw_g (lw_at lw_m4 63 rfl) rfl
theorem q1010 : (Jvm.Cond.methodLink "RingHouse$Audit" (3 : Nat) ({ cls := "java/lang/Object", name := "<init>", desc := "()V" } : Jvm.MethodName)) ∈ lw_all := lw_g (lw_at lw_m4 64 rfl) rfl
theorem q1011 : (Jvm.Cond.fieldLink "RingHouse$Audit" (9 : Nat) "RingHouse$Audit" "rows" "[I") ∈ lw_all := lw_g (lw_at lw_m4 65 rfl) rfl
theorem q1013 : (Jvm.Cond.fieldLink "RingHouse$Audit" (15 : Nat) "RingHouse$Audit" "many" "I") ∈ lw_all := lw_g (lw_at lw_m4 67 rfl) rfl
theorem q1015 : (Jvm.Cond.laysFinal "RingHouse$Audit" "RingHouse$Audit" "rows" "[I") ∈ lw_all := lw_g (lw_at lw_m4 69 rfl) rfl
theorem q1016 : (Jvm.Cond.soleField "RingHouse$Audit" "rows") ∈ lw_all := lw_g (lw_at lw_m4 70 rfl) rfl
theorem q1017 : (Jvm.Cond.lays "RingHouse$Audit" "RingHouse$Audit" "many" "I") ∈ lw_all := lw_g (lw_at lw_m4 71 rfl) rfl
theorem q1018 : (Jvm.Cond.soleField "RingHouse$Audit" "many") ∈ lw_all := lw_g (lw_at lw_m4 72 rfl) rfl
theorem q1019 : (Jvm.Cond.superclass "RingHouse$Audit" "java/lang/Object") ∈ lw_all := lw_g (lw_at lw_m4 73 rfl) rfl
theorem q2118 : (Jvm.Cond.instanceMethod ({ cls := "RingHouse$Audit", name := "has", desc := "(I)Z" } : Jvm.MethodName)) ∈ lw_all := lw_g (lw_at lw_m8 212 rfl) rfl
theorem q2119 : (Jvm.Cond.selects "RingHouse$Audit" ({ cls := "RingHouse$Audit", name := "has", desc := "(I)Z" } : Jvm.MethodName) ({ cls := "RingHouse$Audit", name := "has", desc := "(I)Z" } : Jvm.MethodName)) ∈ lw_all := lw_g (lw_at lw_m8 213 rfl) rfl
theorem q2120 : (Jvm.Cond.code ({ cls := "RingHouse$Audit", name := "has", desc := "(I)Z" } : Jvm.MethodName) prog_5_method_3_code (2 : Nat) (Option.some Jvm.ClassFile.FieldType.boolean)) ∈ lw_all := lw_g (lw_at lw_m8 214 rfl) rfl
theorem q2241 : (Jvm.Cond.instanceMethod ({ cls := "RingHouse$Audit", name := "add", desc := "(IIII)V" } : Jvm.MethodName)) ∈ lw_all := lw_g (lw_at lw_m9 95 rfl) rfl
theorem q2242 : (Jvm.Cond.selects "RingHouse$Audit" ({ cls := "RingHouse$Audit", name := "add", desc := "(IIII)V" } : Jvm.MethodName) ({ cls := "RingHouse$Audit", name := "add", desc := "(IIII)V" } : Jvm.MethodName)) ∈ lw_all := lw_g (lw_at lw_m9 96 rfl) rfl
theorem q2243 : (Jvm.Cond.code ({ cls := "RingHouse$Audit", name := "add", desc := "(IIII)V" } : Jvm.MethodName) prog_5_method_2_code (6 : Nat) (Option.none : Option Jvm.ClassFile.FieldType)) ∈ lw_all := lw_g (lw_at lw_m9 97 rfl) rfl
theorem in_X13 : ∀ w ∈ wsX130, w ∈ lw_all := lw_in wsX130 [1015, 1017] (by decide +kernel) (by decide +kernel)
/-! RingHouse$Operation -/
def RX14 : String := "RingHouse$Operation"
abbrev cX14_init : ByteArray := prog_34_method_1_code
def yX14_init : MethodName := ⟨RX14, "<init>", "(Ljava/lang/String;II)V"⟩
abbrev cX14_takesMode : ByteArray := prog_34_method_2_code
def yX14_takesMode : MethodName := ⟨RX14, "takesMode", "(I)Z"⟩
theorem q241 : (Jvm.Cond.initialized "RingHouse$Operation") ∈ lw_all := lw_g (lw_at lw_m1 15 rfl) rfl
theorem q1030 : (Jvm.Cond.instanceMethod ({ cls := "RingHouse$Operation", name := "<init>", desc := "(Ljava/lang/String;II)V" } : Jvm.MethodName)) ∈ lw_all := lw_g (lw_at lw_m4 84 rfl) rfl
theorem q1031 : (Jvm.Cond.code ({ cls := "RingHouse$Operation", name := "<init>", desc := "(Ljava/lang/String;II)V" } : Jvm.MethodName) prog_34_method_1_code (4 : Nat) (Option.none : Option Jvm.ClassFile.FieldType)) ∈ lw_all := lw_g (lw_at lw_m4 85 rfl) rfl
theorem q1032 : (Jvm.Cond.methodLink "RingHouse$Operation" (3 : Nat) ({ cls := "java/lang/Object", name := "<init>", desc := "()V" } : Jvm.MethodName)) ∈ lw_all := lw_g (lw_at lw_m4 86 rfl) rfl
theorem q1034 : (Jvm.Cond.fieldLink "RingHouse$Operation" (9 : Nat) "RingHouse$Operation" "name" "Ljava/lang/String;") ∈ lw_all := lw_g (lw_at lw_m4 88 rfl) rfl
theorem q1037 : (Jvm.Cond.fieldLink "RingHouse$Operation" (15 : Nat) "RingHouse$Operation" "sort" "I") ∈ lw_all := lw_g (lw_at lw_m4 91 rfl) rfl
theorem q1042 : (Jvm.Cond.fieldLink "RingHouse$Operation" (19 : Nat) "RingHouse$Operation" "registers" "I") ∈ lw_all := lw_g (lw_at lw_m4 96 rfl) rfl
theorem q1049 : (Jvm.Cond.soleField "RingHouse$Operation" "name") ∈ lw_all := lw_g (lw_at lw_m4 103 rfl) rfl
theorem q1051 : (Jvm.Cond.soleField "RingHouse$Operation" "sort") ∈ lw_all := lw_g (lw_at lw_m4 105 rfl) rfl
theorem q1053 : (Jvm.Cond.soleField "RingHouse$Operation" "registers") ∈ lw_all := lw_g (lw_at lw_m4 107 rfl) rfl
theorem q2260 : (Jvm.Cond.instanceMethod ({ cls := "RingHouse$Operation", name := "takesMode", desc := "(I)Z" } : Jvm.MethodName)) ∈ lw_all := lw_g (lw_at lw_m9 114 rfl) rfl
theorem q2261 : (Jvm.Cond.sameMethod "RingHouse$Operation" "RingHouse$Operation" "takesMode" "(I)Z") ∈ lw_all := lw_g (lw_at lw_m9 115 rfl) rfl
theorem q2282 : (Jvm.Cond.code ({ cls := "RingHouse$Operation", name := "takesMode", desc := "(I)Z" } : Jvm.MethodName) prog_34_method_2_code (2 : Nat) (Option.some Jvm.ClassFile.FieldType.boolean)) ∈ lw_all := lw_g (lw_at lw_m9 136 rfl) rfl
theorem q2353 : (Jvm.Cond.declares ({ cls := "RingHouse$Operation", name := "run", desc := "(LRingHouse$Machine;LRingHouse$Decoded;LRingHouse$Registers;)Z" } : Jvm.MethodName)) ∈ lw_tbl := lw_at lw_m9 207 rfl
theorem q2354 : (Jvm.Cond.sameMethod "RingHouse$Operation" "RingHouse$Operation" "run" "(LRingHouse$Machine;LRingHouse$Decoded;LRingHouse$Registers;)Z") ∈ lw_all := lw_g (lw_at lw_m9 208 rfl) rfl
/-! RingHouse$Nothing -/
def RX15 : String := "RingHouse$Nothing"
def TX15 : u_T := fun k => match k with
  | 0 => ("RingHouse$Operation", "name", "Ljava/lang/String;", true)
  | 1 => ("RingHouse$Operation", "sort", "I", true)
  | 2 => ("RingHouse$Operation", "registers", "I", true)
  | _ => ("RingHouse$Nothing", "ends", "Z", true)
def tyX15 : Nat → FieldType := fun k => match k with
  | 0 => .object "java/lang/String"
  | 1 => .int
  | 2 => .int
  | _ => .boolean
abbrev wsX150 : List Cond := u_ws RX15 TX15 4
theorem nmX15 : ∀ a, a < 4 → ∀ b, b < 4 → a ≠ b → (TX15 a).2.1 ≠ (TX15 b).2.1 := by decide +kernel
theorem tyX15_ok : ∀ k, k < 4 → parseFieldDescriptor (TX15 k).2.2.1 = some (tyX15 k) := by decide +kernel
abbrev cX15_init : ByteArray := prog_33_method_1_code
def yX15_init : MethodName := ⟨RX15, "<init>", "(Ljava/lang/String;Z)V"⟩
abbrev cX15_run : ByteArray := prog_33_method_2_code
def yX15_run : MethodName := ⟨RX15, "run", "(LRingHouse$Machine;LRingHouse$Decoded;LRingHouse$Registers;)Z"⟩
theorem q242 : (Jvm.Cond.initialized "RingHouse$Nothing") ∈ lw_all := lw_g (lw_at lw_m1 16 rfl) rfl
theorem q1024 : (Jvm.Cond.instantiable "RingHouse$Nothing" (4 : Nat)) ∈ lw_all := lw_g (lw_at lw_m4 78 rfl) rfl
theorem q1027 : (Jvm.Cond.instanceMethod ({ cls := "RingHouse$Nothing", name := "<init>", desc := "(Ljava/lang/String;Z)V" } : Jvm.MethodName)) ∈ lw_all := lw_g (lw_at lw_m4 81 rfl) rfl
theorem q1028 : (Jvm.Cond.code ({ cls := "RingHouse$Nothing", name := "<init>", desc := "(Ljava/lang/String;Z)V" } : Jvm.MethodName) prog_33_method_1_code (3 : Nat) (Option.none : Option Jvm.ClassFile.FieldType)) ∈ lw_all := lw_g (lw_at lw_m4 82 rfl) rfl
theorem q1029 : (Jvm.Cond.methodLink "RingHouse$Nothing" (3 : Nat) ({ cls := "RingHouse$Operation", name := "<init>", desc := "(Ljava/lang/String;II)V" } : Jvm.MethodName)) ∈ lw_all := lw_g (lw_at lw_m4 83 rfl) rfl
theorem q1033 : (Jvm.Cond.fieldLink "RingHouse$Nothing" (9 : Nat) "RingHouse$Nothing" "ends" "Z") ∈ lw_all := lw_g (lw_at lw_m4 87 rfl) rfl
theorem q1046 : (Jvm.Cond.laysFinal "RingHouse$Nothing" "RingHouse$Nothing" "ends" "Z") ∈ lw_all := lw_g (lw_at lw_m4 100 rfl) rfl
theorem q1047 : (Jvm.Cond.soleField "RingHouse$Nothing" "ends") ∈ lw_all := lw_g (lw_at lw_m4 101 rfl) rfl
theorem q1048 : (Jvm.Cond.laysFinal "RingHouse$Nothing" "RingHouse$Operation" "name" "Ljava/lang/String;") ∈ lw_all := lw_g (lw_at lw_m4 102 rfl) rfl
theorem q1050 : (Jvm.Cond.laysFinal "RingHouse$Nothing" "RingHouse$Operation" "sort" "I") ∈ lw_all := lw_g (lw_at lw_m4 104 rfl) rfl
theorem q1052 : (Jvm.Cond.laysFinal "RingHouse$Nothing" "RingHouse$Operation" "registers" "I") ∈ lw_all := lw_g (lw_at lw_m4 106 rfl) rfl
theorem q1054 : (Jvm.Cond.superclass "RingHouse$Nothing" "RingHouse$Operation") ∈ lw_all := lw_g (lw_at lw_m4 108 rfl) rfl
theorem q1551 : (Jvm.Cond.fieldLinkNest "RingHouse$Nothing" (15 : Nat) "RingHouse$Machine" "runs" "LRingHouse$Process;" "RingHouse") ∈ lw_tbl := lw_at lw_m6 125 rfl
theorem q2273 : (Jvm.Cond.selects "RingHouse$Nothing" ({ cls := "RingHouse$Operation", name := "takesMode", desc := "(I)Z" } : Jvm.MethodName) ({ cls := "RingHouse$Operation", name := "takesMode", desc := "(I)Z" } : Jvm.MethodName)) ∈ lw_all := lw_g (lw_at lw_m9 127 rfl) rfl
theorem q2473 : (Jvm.Cond.selects "RingHouse$Nothing" ({ cls := "RingHouse$Operation", name := "run", desc := "(LRingHouse$Machine;LRingHouse$Decoded;LRingHouse$Registers;)Z" } : Jvm.MethodName) ({ cls := "RingHouse$Nothing", name := "run", desc := "(LRingHouse$Machine;LRingHouse$Decoded;LRingHouse$Registers;)Z" } : Jvm.MethodName)) ∈ lw_all := lw_g (lw_at lw_m10 87 rfl) rfl
theorem q2474 : (Jvm.Cond.instanceMethod ({ cls := "RingHouse$Nothing", name := "run", desc := "(LRingHouse$Machine;LRingHouse$Decoded;LRingHouse$Registers;)Z" } : Jvm.MethodName)) ∈ lw_all := lw_g (lw_at lw_m10 88 rfl) rfl
theorem q2475 : (Jvm.Cond.code ({ cls := "RingHouse$Nothing", name := "run", desc := "(LRingHouse$Machine;LRingHouse$Decoded;LRingHouse$Registers;)Z" } : Jvm.MethodName) prog_33_method_2_code (4 : Nat) (Option.some Jvm.ClassFile.FieldType.boolean)) ∈ lw_all := lw_g (lw_at lw_m10 89 rfl) rfl
theorem q2476 : (Jvm.Cond.methodLink "RingHouse$Nothing" (21 : Nat) ({ cls := "RingHouse$Process", name := "end", desc := "()V" } : Jvm.MethodName)) ∈ lw_all := lw_g (lw_at lw_m10 90 rfl) rfl
theorem q4431 : (Jvm.Cond.castable "RingHouse$Nothing" "RingHouse$Operation") ∈ lw_tbl := lw_at lw_m18 125 rfl
theorem in_X15 : ∀ w ∈ wsX150, w ∈ lw_all := lw_in wsX150 [1048, 1050, 1052, 1046] (by decide +kernel) (by decide +kernel)
/-! RingHouse$Load -/
def RX16 : String := "RingHouse$Load"
def TX16 : u_T := fun k => match k with
  | 0 => ("RingHouse$Operation", "name", "Ljava/lang/String;", true)
  | 1 => ("RingHouse$Operation", "sort", "I", true)
  | 2 => ("RingHouse$Operation", "registers", "I", true)
  | _ => ("RingHouse$Load", "isQ", "Z", true)
def tyX16 : Nat → FieldType := fun k => match k with
  | 0 => .object "java/lang/String"
  | 1 => .int
  | 2 => .int
  | _ => .boolean
abbrev wsX160 : List Cond := u_ws RX16 TX16 4
theorem nmX16 : ∀ a, a < 4 → ∀ b, b < 4 → a ≠ b → (TX16 a).2.1 ≠ (TX16 b).2.1 := by decide +kernel
theorem tyX16_ok : ∀ k, k < 4 → parseFieldDescriptor (TX16 k).2.2.1 = some (tyX16 k) := by decide +kernel
abbrev cX16_init : ByteArray := prog_25_method_1_code
def yX16_init : MethodName := ⟨RX16, "<init>", "(Ljava/lang/String;Z)V"⟩
abbrev cX16_run : ByteArray := prog_25_method_2_code
def yX16_run : MethodName := ⟨RX16, "run", "(LRingHouse$Machine;LRingHouse$Decoded;LRingHouse$Registers;)Z"⟩
theorem q243 : (Jvm.Cond.initialized "RingHouse$Load") ∈ lw_all := lw_g (lw_at lw_m1 17 rfl) rfl
theorem q702 : (Jvm.Cond.fieldLinkNest "RingHouse$Load" (29 : Nat) "RingHouse$Registers" "a" "J" "RingHouse") ∈ lw_tbl := lw_at lw_m2 236 rfl
theorem q716 : (Jvm.Cond.fieldLinkNest "RingHouse$Load" (24 : Nat) "RingHouse$Registers" "q" "J" "RingHouse") ∈ lw_tbl := lw_at lw_m3 10 rfl
theorem q1058 : (Jvm.Cond.instantiable "RingHouse$Load" (4 : Nat)) ∈ lw_all := lw_g (lw_at lw_m4 112 rfl) rfl
theorem q1061 : (Jvm.Cond.instanceMethod ({ cls := "RingHouse$Load", name := "<init>", desc := "(Ljava/lang/String;Z)V" } : Jvm.MethodName)) ∈ lw_all := lw_g (lw_at lw_m4 115 rfl) rfl
theorem q1062 : (Jvm.Cond.code ({ cls := "RingHouse$Load", name := "<init>", desc := "(Ljava/lang/String;Z)V" } : Jvm.MethodName) prog_25_method_1_code (3 : Nat) (Option.none : Option Jvm.ClassFile.FieldType)) ∈ lw_all := lw_g (lw_at lw_m4 116 rfl) rfl
theorem q1063 : (Jvm.Cond.methodLink "RingHouse$Load" (3 : Nat) ({ cls := "RingHouse$Operation", name := "<init>", desc := "(Ljava/lang/String;II)V" } : Jvm.MethodName)) ∈ lw_all := lw_g (lw_at lw_m4 117 rfl) rfl
theorem q1064 : (Jvm.Cond.fieldLink "RingHouse$Load" (9 : Nat) "RingHouse$Load" "isQ" "Z") ∈ lw_all := lw_g (lw_at lw_m4 118 rfl) rfl
theorem q1065 : (Jvm.Cond.laysFinal "RingHouse$Load" "RingHouse$Load" "isQ" "Z") ∈ lw_all := lw_g (lw_at lw_m4 119 rfl) rfl
theorem q1066 : (Jvm.Cond.soleField "RingHouse$Load" "isQ") ∈ lw_all := lw_g (lw_at lw_m4 120 rfl) rfl
theorem q1067 : (Jvm.Cond.laysFinal "RingHouse$Load" "RingHouse$Operation" "name" "Ljava/lang/String;") ∈ lw_all := lw_g (lw_at lw_m4 121 rfl) rfl
theorem q1068 : (Jvm.Cond.laysFinal "RingHouse$Load" "RingHouse$Operation" "sort" "I") ∈ lw_all := lw_g (lw_at lw_m4 122 rfl) rfl
theorem q1069 : (Jvm.Cond.laysFinal "RingHouse$Load" "RingHouse$Operation" "registers" "I") ∈ lw_all := lw_g (lw_at lw_m4 123 rfl) rfl
theorem q1070 : (Jvm.Cond.superclass "RingHouse$Load" "RingHouse$Operation") ∈ lw_all := lw_g (lw_at lw_m4 124 rfl) rfl
theorem q1579 : (Jvm.Cond.fieldLinkNest "RingHouse$Load" (21 : Nat) "RingHouse$Machine" "value" "J" "RingHouse") ∈ lw_tbl := lw_at lw_m6 153 rfl
theorem q2270 : (Jvm.Cond.selects "RingHouse$Load" ({ cls := "RingHouse$Operation", name := "takesMode", desc := "(I)Z" } : Jvm.MethodName) ({ cls := "RingHouse$Operation", name := "takesMode", desc := "(I)Z" } : Jvm.MethodName)) ∈ lw_all := lw_g (lw_at lw_m9 124 rfl) rfl
theorem q2456 : (Jvm.Cond.selects "RingHouse$Load" ({ cls := "RingHouse$Operation", name := "run", desc := "(LRingHouse$Machine;LRingHouse$Decoded;LRingHouse$Registers;)Z" } : Jvm.MethodName) ({ cls := "RingHouse$Load", name := "run", desc := "(LRingHouse$Machine;LRingHouse$Decoded;LRingHouse$Registers;)Z" } : Jvm.MethodName)) ∈ lw_all := lw_g (lw_at lw_m10 70 rfl) rfl
theorem q2457 : (Jvm.Cond.instanceMethod ({ cls := "RingHouse$Load", name := "run", desc := "(LRingHouse$Machine;LRingHouse$Decoded;LRingHouse$Registers;)Z" } : Jvm.MethodName)) ∈ lw_all := lw_g (lw_at lw_m10 71 rfl) rfl
theorem q2458 : (Jvm.Cond.code ({ cls := "RingHouse$Load", name := "run", desc := "(LRingHouse$Machine;LRingHouse$Decoded;LRingHouse$Registers;)Z" } : Jvm.MethodName) prog_25_method_2_code (4 : Nat) (Option.some Jvm.ClassFile.FieldType.boolean)) ∈ lw_all := lw_g (lw_at lw_m10 72 rfl) rfl
theorem q2459 : (Jvm.Cond.methodLinkNest "RingHouse$Load" (15 : Nat) ({ cls := "RingHouse$Machine", name := "value", desc := "()Z" } : Jvm.MethodName) "RingHouse") ∈ lw_tbl := lw_at lw_m10 73 rfl
theorem q2460 : (Jvm.Cond.methodLink "RingHouse$Load" (32 : Nat) ({ cls := "RingHouse$Registers", name := "tell", desc := "(J)V" } : Jvm.MethodName)) ∈ lw_all := lw_g (lw_at lw_m10 74 rfl) rfl
theorem q4428 : (Jvm.Cond.castable "RingHouse$Load" "RingHouse$Operation") ∈ lw_tbl := lw_at lw_m18 122 rfl
theorem in_X16 : ∀ w ∈ wsX160, w ∈ lw_all := lw_in wsX160 [1067, 1068, 1069, 1065] (by decide +kernel) (by decide +kernel)
/-! RingHouse$Reckoning -/
def RX17 : String := "RingHouse$Reckoning"
abbrev cX17_init : ByteArray := prog_41_method_1_code
def yX17_init : MethodName := ⟨RX17, "<init>", "(Ljava/lang/String;)V"⟩
abbrev cX17_run : ByteArray := prog_41_method_3_code
def yX17_run : MethodName := ⟨RX17, "run", "(LRingHouse$Machine;LRingHouse$Decoded;LRingHouse$Registers;)Z"⟩
theorem q244 : (Jvm.Cond.initialized "RingHouse$Reckoning") ∈ lw_all := lw_g (lw_at lw_m1 18 rfl) rfl
theorem q707 : (Jvm.Cond.fieldLinkNest "RingHouse$Reckoning" (15 : Nat) "RingHouse$Registers" "a" "J" "RingHouse") ∈ lw_tbl := lw_at lw_m3 1 rfl
theorem q1079 : (Jvm.Cond.instanceMethod ({ cls := "RingHouse$Reckoning", name := "<init>", desc := "(Ljava/lang/String;)V" } : Jvm.MethodName)) ∈ lw_all := lw_g (lw_at lw_m4 133 rfl) rfl
theorem q1080 : (Jvm.Cond.code ({ cls := "RingHouse$Reckoning", name := "<init>", desc := "(Ljava/lang/String;)V" } : Jvm.MethodName) prog_41_method_1_code (2 : Nat) (Option.none : Option Jvm.ClassFile.FieldType)) ∈ lw_all := lw_g (lw_at lw_m4 134 rfl) rfl
theorem q1081 : (Jvm.Cond.methodLink "RingHouse$Reckoning" (3 : Nat) ({ cls := "RingHouse$Operation", name := "<init>", desc := "(Ljava/lang/String;II)V" } : Jvm.MethodName)) ∈ lw_all := lw_g (lw_at lw_m4 135 rfl) rfl
theorem q1581 : (Jvm.Cond.fieldLinkNest "RingHouse$Reckoning" (21 : Nat) "RingHouse$Machine" "value" "J" "RingHouse") ∈ lw_tbl := lw_at lw_m6 155 rfl
theorem q2371 : (Jvm.Cond.instanceMethod ({ cls := "RingHouse$Reckoning", name := "run", desc := "(LRingHouse$Machine;LRingHouse$Decoded;LRingHouse$Registers;)Z" } : Jvm.MethodName)) ∈ lw_all := lw_g (lw_at lw_m9 225 rfl) rfl
theorem q2372 : (Jvm.Cond.code ({ cls := "RingHouse$Reckoning", name := "run", desc := "(LRingHouse$Machine;LRingHouse$Decoded;LRingHouse$Registers;)Z" } : Jvm.MethodName) prog_41_method_3_code (4 : Nat) (Option.some Jvm.ClassFile.FieldType.boolean)) ∈ lw_all := lw_g (lw_at lw_m9 226 rfl) rfl
theorem q2373 : (Jvm.Cond.methodLinkNest "RingHouse$Reckoning" (9 : Nat) ({ cls := "RingHouse$Machine", name := "value", desc := "()Z" } : Jvm.MethodName) "RingHouse") ∈ lw_tbl := lw_at lw_m9 227 rfl
theorem q2379 : (Jvm.Cond.methodLink "RingHouse$Reckoning" (23 : Nat) ({ cls := "RingHouse$Reckoning", name := "reckon", desc := "(JJ)J" } : Jvm.MethodName)) ∈ lw_all := lw_g (lw_at lw_m9 233 rfl) rfl
theorem q2380 : (Jvm.Cond.declares ({ cls := "RingHouse$Reckoning", name := "reckon", desc := "(JJ)J" } : Jvm.MethodName)) ∈ lw_tbl := lw_at lw_m9 234 rfl
theorem q2381 : (Jvm.Cond.sameMethod "RingHouse$Reckoning" "RingHouse$Reckoning" "reckon" "(JJ)J") ∈ lw_all := lw_g (lw_at lw_m9 235 rfl) rfl
theorem q2391 : (Jvm.Cond.constantLong "RingHouse$Reckoning" (29 : Nat) (68719476735 : Int64)) ∈ lw_all := lw_g (lw_at lw_m10 5 rfl) rfl
theorem q2392 : (Jvm.Cond.methodLink "RingHouse$Reckoning" (31 : Nat) ({ cls := "RingHouse$Registers", name := "tell", desc := "(J)V" } : Jvm.MethodName)) ∈ lw_all := lw_g (lw_at lw_m10 6 rfl) rfl
/-! RingHouse$Sum -/
def RX18 : String := "RingHouse$Sum"
def TX18 : u_T := fun k => match k with
  | 0 => ("RingHouse$Operation", "name", "Ljava/lang/String;", true)
  | 1 => ("RingHouse$Operation", "sort", "I", true)
  | 2 => ("RingHouse$Operation", "registers", "I", true)
  | _ => ("RingHouse$Sum", "factor", "I", true)
def tyX18 : Nat → FieldType := fun k => match k with
  | 0 => .object "java/lang/String"
  | 1 => .int
  | 2 => .int
  | _ => .int
abbrev wsX180 : List Cond := u_ws RX18 TX18 4
theorem nmX18 : ∀ a, a < 4 → ∀ b, b < 4 → a ≠ b → (TX18 a).2.1 ≠ (TX18 b).2.1 := by decide +kernel
theorem tyX18_ok : ∀ k, k < 4 → parseFieldDescriptor (TX18 k).2.2.1 = some (tyX18 k) := by decide +kernel
abbrev cX18_init : ByteArray := prog_59_method_1_code
def yX18_init : MethodName := ⟨RX18, "<init>", "(Ljava/lang/String;I)V"⟩
abbrev cX18_reckon : ByteArray := prog_59_method_2_code
def yX18_reckon : MethodName := ⟨RX18, "reckon", "(JJ)J"⟩
theorem q245 : (Jvm.Cond.initialized "RingHouse$Sum") ∈ lw_all := lw_g (lw_at lw_m1 19 rfl) rfl
theorem q1073 : (Jvm.Cond.instantiable "RingHouse$Sum" (4 : Nat)) ∈ lw_all := lw_g (lw_at lw_m4 127 rfl) rfl
theorem q1076 : (Jvm.Cond.instanceMethod ({ cls := "RingHouse$Sum", name := "<init>", desc := "(Ljava/lang/String;I)V" } : Jvm.MethodName)) ∈ lw_all := lw_g (lw_at lw_m4 130 rfl) rfl
theorem q1077 : (Jvm.Cond.code ({ cls := "RingHouse$Sum", name := "<init>", desc := "(Ljava/lang/String;I)V" } : Jvm.MethodName) prog_59_method_1_code (3 : Nat) (Option.none : Option Jvm.ClassFile.FieldType)) ∈ lw_all := lw_g (lw_at lw_m4 131 rfl) rfl
theorem q1078 : (Jvm.Cond.methodLink "RingHouse$Sum" (1 : Nat) ({ cls := "RingHouse$Reckoning", name := "<init>", desc := "(Ljava/lang/String;)V" } : Jvm.MethodName)) ∈ lw_all := lw_g (lw_at lw_m4 132 rfl) rfl
theorem q1082 : (Jvm.Cond.fieldLink "RingHouse$Sum" (7 : Nat) "RingHouse$Sum" "factor" "I") ∈ lw_all := lw_g (lw_at lw_m4 136 rfl) rfl
theorem q1083 : (Jvm.Cond.laysFinal "RingHouse$Sum" "RingHouse$Sum" "factor" "I") ∈ lw_all := lw_g (lw_at lw_m4 137 rfl) rfl
theorem q1084 : (Jvm.Cond.soleField "RingHouse$Sum" "factor") ∈ lw_all := lw_g (lw_at lw_m4 138 rfl) rfl
theorem q1085 : (Jvm.Cond.laysFinal "RingHouse$Sum" "RingHouse$Operation" "name" "Ljava/lang/String;") ∈ lw_all := lw_g (lw_at lw_m4 139 rfl) rfl
theorem q1086 : (Jvm.Cond.laysFinal "RingHouse$Sum" "RingHouse$Operation" "sort" "I") ∈ lw_all := lw_g (lw_at lw_m4 140 rfl) rfl
theorem q1087 : (Jvm.Cond.laysFinal "RingHouse$Sum" "RingHouse$Operation" "registers" "I") ∈ lw_all := lw_g (lw_at lw_m4 141 rfl) rfl
theorem q1088 : (Jvm.Cond.superclass "RingHouse$Sum" "RingHouse$Reckoning") ∈ lw_all := lw_g (lw_at lw_m4 142 rfl) rfl
theorem q2278 : (Jvm.Cond.selects "RingHouse$Sum" ({ cls := "RingHouse$Operation", name := "takesMode", desc := "(I)Z" } : Jvm.MethodName) ({ cls := "RingHouse$Operation", name := "takesMode", desc := "(I)Z" } : Jvm.MethodName)) ∈ lw_all := lw_g (lw_at lw_m9 132 rfl) rfl
theorem q2388 : (Jvm.Cond.selects "RingHouse$Sum" ({ cls := "RingHouse$Reckoning", name := "reckon", desc := "(JJ)J" } : Jvm.MethodName) ({ cls := "RingHouse$Sum", name := "reckon", desc := "(JJ)J" } : Jvm.MethodName)) ∈ lw_all := lw_g (lw_at lw_m10 2 rfl) rfl
theorem q2389 : (Jvm.Cond.instanceMethod ({ cls := "RingHouse$Sum", name := "reckon", desc := "(JJ)J" } : Jvm.MethodName)) ∈ lw_all := lw_g (lw_at lw_m10 3 rfl) rfl
theorem q2390 : (Jvm.Cond.code ({ cls := "RingHouse$Sum", name := "reckon", desc := "(JJ)J" } : Jvm.MethodName) prog_59_method_2_code (5 : Nat) (Option.some Jvm.ClassFile.FieldType.long)) ∈ lw_all := lw_g (lw_at lw_m10 4 rfl) rfl
theorem q2496 : (Jvm.Cond.selects "RingHouse$Sum" ({ cls := "RingHouse$Operation", name := "run", desc := "(LRingHouse$Machine;LRingHouse$Decoded;LRingHouse$Registers;)Z" } : Jvm.MethodName) ({ cls := "RingHouse$Reckoning", name := "run", desc := "(LRingHouse$Machine;LRingHouse$Decoded;LRingHouse$Registers;)Z" } : Jvm.MethodName)) ∈ lw_all := lw_g (lw_at lw_m10 110 rfl) rfl
theorem q4436 : (Jvm.Cond.castable "RingHouse$Sum" "RingHouse$Operation") ∈ lw_tbl := lw_at lw_m18 130 rfl
theorem in_X18 : ∀ w ∈ wsX180, w ∈ lw_all := lw_in wsX180 [1085, 1086, 1087, 1083] (by decide +kernel) (by decide +kernel)
/-! RingHouse$Product -/
def RX19 : String := "RingHouse$Product"
def TX19 : u_T := fun k => match k with
  | 0 => ("RingHouse$Operation", "name", "Ljava/lang/String;", true)
  | 1 => ("RingHouse$Operation", "sort", "I", true)
  | _ => ("RingHouse$Operation", "registers", "I", true)
def tyX19 : Nat → FieldType := fun k => match k with
  | 0 => .object "java/lang/String"
  | 1 => .int
  | _ => .int
abbrev wsX190 : List Cond := u_ws RX19 TX19 3
theorem nmX19 : ∀ a, a < 3 → ∀ b, b < 3 → a ≠ b → (TX19 a).2.1 ≠ (TX19 b).2.1 := by decide +kernel
theorem tyX19_ok : ∀ k, k < 3 → parseFieldDescriptor (TX19 k).2.2.1 = some (tyX19 k) := by decide +kernel
abbrev cX19_init : ByteArray := prog_39_method_1_code
def yX19_init : MethodName := ⟨RX19, "<init>", "()V"⟩
abbrev cX19_reckon : ByteArray := prog_39_method_2_code
def yX19_reckon : MethodName := ⟨RX19, "reckon", "(JJ)J"⟩
theorem q246 : (Jvm.Cond.initialized "RingHouse$Product") ∈ lw_all := lw_g (lw_at lw_m1 20 rfl) rfl
theorem q1091 : (Jvm.Cond.instantiable "RingHouse$Product" (3 : Nat)) ∈ lw_all := lw_g (lw_at lw_m4 145 rfl) rfl
theorem q1093 : (Jvm.Cond.instanceMethod ({ cls := "RingHouse$Product", name := "<init>", desc := "()V" } : Jvm.MethodName)) ∈ lw_all := lw_g (lw_at lw_m4 147 rfl) rfl
theorem q1094 : (Jvm.Cond.code ({ cls := "RingHouse$Product", name := "<init>", desc := "()V" } : Jvm.MethodName) prog_39_method_1_code (1 : Nat) (Option.none : Option Jvm.ClassFile.FieldType)) ∈ lw_all := lw_g (lw_at lw_m4 148 rfl) rfl
theorem q1095 : (Jvm.Cond.stringRef "RingHouse$Product" (1 : Nat) "mpa") ∈ lw_tbl := lw_at lw_m4 149 rfl
theorem q1096 : (Jvm.Cond.methodLink "RingHouse$Product" (3 : Nat) ({ cls := "RingHouse$Reckoning", name := "<init>", desc := "(Ljava/lang/String;)V" } : Jvm.MethodName)) ∈ lw_all := lw_g (lw_at lw_m4 150 rfl) rfl
theorem q1097 : (Jvm.Cond.laysFinal "RingHouse$Product" "RingHouse$Operation" "name" "Ljava/lang/String;") ∈ lw_all := lw_g (lw_at lw_m4 151 rfl) rfl
theorem q1098 : (Jvm.Cond.laysFinal "RingHouse$Product" "RingHouse$Operation" "sort" "I") ∈ lw_all := lw_g (lw_at lw_m4 152 rfl) rfl
theorem q1099 : (Jvm.Cond.laysFinal "RingHouse$Product" "RingHouse$Operation" "registers" "I") ∈ lw_all := lw_g (lw_at lw_m4 153 rfl) rfl
theorem q1100 : (Jvm.Cond.superclass "RingHouse$Product" "RingHouse$Reckoning") ∈ lw_all := lw_g (lw_at lw_m4 154 rfl) rfl
theorem q2275 : (Jvm.Cond.selects "RingHouse$Product" ({ cls := "RingHouse$Operation", name := "takesMode", desc := "(I)Z" } : Jvm.MethodName) ({ cls := "RingHouse$Operation", name := "takesMode", desc := "(I)Z" } : Jvm.MethodName)) ∈ lw_all := lw_g (lw_at lw_m9 129 rfl) rfl
theorem q2385 : (Jvm.Cond.selects "RingHouse$Product" ({ cls := "RingHouse$Reckoning", name := "reckon", desc := "(JJ)J" } : Jvm.MethodName) ({ cls := "RingHouse$Product", name := "reckon", desc := "(JJ)J" } : Jvm.MethodName)) ∈ lw_all := lw_g (lw_at lw_m9 239 rfl) rfl
theorem q2386 : (Jvm.Cond.instanceMethod ({ cls := "RingHouse$Product", name := "reckon", desc := "(JJ)J" } : Jvm.MethodName)) ∈ lw_all := lw_g (lw_at lw_m10 0 rfl) rfl
theorem q2387 : (Jvm.Cond.code ({ cls := "RingHouse$Product", name := "reckon", desc := "(JJ)J" } : Jvm.MethodName) prog_39_method_2_code (5 : Nat) (Option.some Jvm.ClassFile.FieldType.long)) ∈ lw_all := lw_g (lw_at lw_m10 1 rfl) rfl
theorem q2485 : (Jvm.Cond.selects "RingHouse$Product" ({ cls := "RingHouse$Operation", name := "run", desc := "(LRingHouse$Machine;LRingHouse$Decoded;LRingHouse$Registers;)Z" } : Jvm.MethodName) ({ cls := "RingHouse$Reckoning", name := "run", desc := "(LRingHouse$Machine;LRingHouse$Decoded;LRingHouse$Registers;)Z" } : Jvm.MethodName)) ∈ lw_all := lw_g (lw_at lw_m10 99 rfl) rfl
theorem q4433 : (Jvm.Cond.castable "RingHouse$Product" "RingHouse$Operation") ∈ lw_tbl := lw_at lw_m18 127 rfl
theorem in_X19 : ∀ w ∈ wsX190, w ∈ lw_all := lw_in wsX190 [1097, 1098, 1099] (by decide +kernel) (by decide +kernel)
/-! RingHouse$Division -/
def RX20 : String := "RingHouse$Division"
def TX20 : u_T := fun k => match k with
  | 0 => ("RingHouse$Operation", "name", "Ljava/lang/String;", true)
  | 1 => ("RingHouse$Operation", "sort", "I", true)
  | _ => ("RingHouse$Operation", "registers", "I", true)
def tyX20 : Nat → FieldType := fun k => match k with
  | 0 => .object "java/lang/String"
  | 1 => .int
  | _ => .int
abbrev wsX200 : List Cond := u_ws RX20 TX20 3
theorem nmX20 : ∀ a, a < 3 → ∀ b, b < 3 → a ≠ b → (TX20 a).2.1 ≠ (TX20 b).2.1 := by decide +kernel
theorem tyX20_ok : ∀ k, k < 3 → parseFieldDescriptor (TX20 k).2.2.1 = some (tyX20 k) := by decide +kernel
abbrev cX20_init : ByteArray := prog_13_method_1_code
def yX20_init : MethodName := ⟨RX20, "<init>", "()V"⟩
abbrev cX20_run : ByteArray := prog_13_method_2_code
def yX20_run : MethodName := ⟨RX20, "run", "(LRingHouse$Machine;LRingHouse$Decoded;LRingHouse$Registers;)Z"⟩
theorem q247 : (Jvm.Cond.initialized "RingHouse$Division") ∈ lw_all := lw_g (lw_at lw_m1 21 rfl) rfl
theorem q698 : (Jvm.Cond.fieldLinkNest "RingHouse$Division" (24 : Nat) "RingHouse$Registers" "a" "J" "RingHouse") ∈ lw_tbl := lw_at lw_m2 232 rfl
theorem q728 : (Jvm.Cond.fieldLinkNest "RingHouse$Division" (35 : Nat) "RingHouse$Registers" "q" "J" "RingHouse") ∈ lw_tbl := lw_at lw_m3 22 rfl
theorem q1102 : (Jvm.Cond.instantiable "RingHouse$Division" (3 : Nat)) ∈ lw_all := lw_g (lw_at lw_m4 156 rfl) rfl
theorem q1104 : (Jvm.Cond.instanceMethod ({ cls := "RingHouse$Division", name := "<init>", desc := "()V" } : Jvm.MethodName)) ∈ lw_all := lw_g (lw_at lw_m4 158 rfl) rfl
theorem q1105 : (Jvm.Cond.code ({ cls := "RingHouse$Division", name := "<init>", desc := "()V" } : Jvm.MethodName) prog_13_method_1_code (1 : Nat) (Option.none : Option Jvm.ClassFile.FieldType)) ∈ lw_all := lw_g (lw_at lw_m4 159 rfl) rfl
theorem q1106 : (Jvm.Cond.stringRef "RingHouse$Division" (3 : Nat) "dva") ∈ lw_tbl := lw_at lw_m4 160 rfl
theorem q1107 : (Jvm.Cond.methodLink "RingHouse$Division" (5 : Nat) ({ cls := "RingHouse$Operation", name := "<init>", desc := "(Ljava/lang/String;II)V" } : Jvm.MethodName)) ∈ lw_all := lw_g (lw_at lw_m4 161 rfl) rfl
theorem q1108 : (Jvm.Cond.laysFinal "RingHouse$Division" "RingHouse$Operation" "name" "Ljava/lang/String;") ∈ lw_all := lw_g (lw_at lw_m4 162 rfl) rfl
theorem q1109 : (Jvm.Cond.laysFinal "RingHouse$Division" "RingHouse$Operation" "sort" "I") ∈ lw_all := lw_g (lw_at lw_m4 163 rfl) rfl
theorem q1110 : (Jvm.Cond.laysFinal "RingHouse$Division" "RingHouse$Operation" "registers" "I") ∈ lw_all := lw_g (lw_at lw_m4 164 rfl) rfl
theorem q1111 : (Jvm.Cond.superclass "RingHouse$Division" "RingHouse$Operation") ∈ lw_all := lw_g (lw_at lw_m4 165 rfl) rfl
theorem q1577 : (Jvm.Cond.fieldLinkNest "RingHouse$Division" (17 : Nat) "RingHouse$Machine" "value" "J" "RingHouse") ∈ lw_tbl := lw_at lw_m6 151 rfl
theorem q2266 : (Jvm.Cond.selects "RingHouse$Division" ({ cls := "RingHouse$Operation", name := "takesMode", desc := "(I)Z" } : Jvm.MethodName) ({ cls := "RingHouse$Operation", name := "takesMode", desc := "(I)Z" } : Jvm.MethodName)) ∈ lw_all := lw_g (lw_at lw_m9 120 rfl) rfl
theorem q2423 : (Jvm.Cond.selects "RingHouse$Division" ({ cls := "RingHouse$Operation", name := "run", desc := "(LRingHouse$Machine;LRingHouse$Decoded;LRingHouse$Registers;)Z" } : Jvm.MethodName) ({ cls := "RingHouse$Division", name := "run", desc := "(LRingHouse$Machine;LRingHouse$Decoded;LRingHouse$Registers;)Z" } : Jvm.MethodName)) ∈ lw_all := lw_g (lw_at lw_m10 37 rfl) rfl
theorem q2424 : (Jvm.Cond.instanceMethod ({ cls := "RingHouse$Division", name := "run", desc := "(LRingHouse$Machine;LRingHouse$Decoded;LRingHouse$Registers;)Z" } : Jvm.MethodName)) ∈ lw_all := lw_g (lw_at lw_m10 38 rfl) rfl
theorem q2425 : (Jvm.Cond.code ({ cls := "RingHouse$Division", name := "run", desc := "(LRingHouse$Machine;LRingHouse$Decoded;LRingHouse$Registers;)Z" } : Jvm.MethodName) prog_13_method_2_code (8 : Nat) (Option.some Jvm.ClassFile.FieldType.boolean)) ∈ lw_all := lw_g (lw_at lw_m10 39 rfl) rfl
theorem q2426 : (Jvm.Cond.methodLinkNest "RingHouse$Division" (11 : Nat) ({ cls := "RingHouse$Machine", name := "value", desc := "()Z" } : Jvm.MethodName) "RingHouse") ∈ lw_tbl := lw_at lw_m10 40 rfl
theorem q2427 : (Jvm.Cond.methodLinkNest "RingHouse$Division" (20 : Nat) ({ cls := "RingHouse$Machine", name := "refuseHere", desc := "(I)Z" } : Jvm.MethodName) "RingHouse") ∈ lw_tbl := lw_at lw_m10 41 rfl
theorem q2428 : (Jvm.Cond.methodLinkNest "RingHouse$Division" (29 : Nat) ({ cls := "RingHouse", name := "signed", desc := "(J)J" } : Jvm.MethodName) "RingHouse") ∈ lw_tbl := lw_at lw_m10 42 rfl
theorem q2429 : (Jvm.Cond.constantLong "RingHouse$Division" (33 : Nat) (68719476735 : Int64)) ∈ lw_all := lw_g (lw_at lw_m10 43 rfl) rfl
theorem q2430 : (Jvm.Cond.methodLink "RingHouse$Division" (38 : Nat) ({ cls := "RingHouse$Registers", name := "tell", desc := "(J)V" } : Jvm.MethodName)) ∈ lw_all := lw_g (lw_at lw_m10 44 rfl) rfl
theorem q4424 : (Jvm.Cond.castable "RingHouse$Division" "RingHouse$Operation") ∈ lw_tbl := lw_at lw_m18 118 rfl
theorem in_X20 : ∀ w ∈ wsX200, w ∈ lw_all := lw_in wsX200 [1108, 1109, 1110] (by decide +kernel) (by decide +kernel)
/-! RingHouse$Bits -/
def RX21 : String := "RingHouse$Bits"
def TX21 : u_T := fun k => match k with
  | 0 => ("RingHouse$Operation", "name", "Ljava/lang/String;", true)
  | 1 => ("RingHouse$Operation", "sort", "I", true)
  | 2 => ("RingHouse$Operation", "registers", "I", true)
  | _ => ("RingHouse$Bits", "how", "I", true)
def tyX21 : Nat → FieldType := fun k => match k with
  | 0 => .object "java/lang/String"
  | 1 => .int
  | 2 => .int
  | _ => .int
abbrev wsX210 : List Cond := u_ws RX21 TX21 4
theorem nmX21 : ∀ a, a < 4 → ∀ b, b < 4 → a ≠ b → (TX21 a).2.1 ≠ (TX21 b).2.1 := by decide +kernel
theorem tyX21_ok : ∀ k, k < 4 → parseFieldDescriptor (TX21 k).2.2.1 = some (tyX21 k) := by decide +kernel
abbrev cX21_init : ByteArray := prog_6_method_1_code
def yX21_init : MethodName := ⟨RX21, "<init>", "(Ljava/lang/String;I)V"⟩
abbrev cX21_reckon : ByteArray := prog_6_method_2_code
def yX21_reckon : MethodName := ⟨RX21, "reckon", "(JJ)J"⟩
theorem q248 : (Jvm.Cond.initialized "RingHouse$Bits") ∈ lw_all := lw_g (lw_at lw_m1 22 rfl) rfl
theorem q1113 : (Jvm.Cond.instantiable "RingHouse$Bits" (4 : Nat)) ∈ lw_all := lw_g (lw_at lw_m4 167 rfl) rfl
theorem q1116 : (Jvm.Cond.instanceMethod ({ cls := "RingHouse$Bits", name := "<init>", desc := "(Ljava/lang/String;I)V" } : Jvm.MethodName)) ∈ lw_all := lw_g (lw_at lw_m4 170 rfl) rfl
theorem q1117 : (Jvm.Cond.code ({ cls := "RingHouse$Bits", name := "<init>", desc := "(Ljava/lang/String;I)V" } : Jvm.MethodName) prog_6_method_1_code (3 : Nat) (Option.none : Option Jvm.ClassFile.FieldType)) ∈ lw_all := lw_g (lw_at lw_m4 171 rfl) rfl
theorem q1118 : (Jvm.Cond.methodLink "RingHouse$Bits" (1 : Nat) ({ cls := "RingHouse$Reckoning", name := "<init>", desc := "(Ljava/lang/String;)V" } : Jvm.MethodName)) ∈ lw_all := lw_g (lw_at lw_m4 172 rfl) rfl
theorem q1119 : (Jvm.Cond.fieldLink "RingHouse$Bits" (7 : Nat) "RingHouse$Bits" "how" "I") ∈ lw_all := lw_g (lw_at lw_m4 173 rfl) rfl
theorem q1120 : (Jvm.Cond.laysFinal "RingHouse$Bits" "RingHouse$Bits" "how" "I") ∈ lw_all := lw_g (lw_at lw_m4 174 rfl) rfl
theorem q1121 : (Jvm.Cond.soleField "RingHouse$Bits" "how") ∈ lw_all := lw_g (lw_at lw_m4 175 rfl) rfl
theorem q1122 : (Jvm.Cond.laysFinal "RingHouse$Bits" "RingHouse$Operation" "name" "Ljava/lang/String;") ∈ lw_all := lw_g (lw_at lw_m4 176 rfl) rfl
theorem q1123 : (Jvm.Cond.laysFinal "RingHouse$Bits" "RingHouse$Operation" "sort" "I") ∈ lw_all := lw_g (lw_at lw_m4 177 rfl) rfl
theorem q1124 : (Jvm.Cond.laysFinal "RingHouse$Bits" "RingHouse$Operation" "registers" "I") ∈ lw_all := lw_g (lw_at lw_m4 178 rfl) rfl
theorem q1125 : (Jvm.Cond.superclass "RingHouse$Bits" "RingHouse$Reckoning") ∈ lw_all := lw_g (lw_at lw_m4 179 rfl) rfl
theorem q2263 : (Jvm.Cond.selects "RingHouse$Bits" ({ cls := "RingHouse$Operation", name := "takesMode", desc := "(I)Z" } : Jvm.MethodName) ({ cls := "RingHouse$Operation", name := "takesMode", desc := "(I)Z" } : Jvm.MethodName)) ∈ lw_all := lw_g (lw_at lw_m9 117 rfl) rfl
theorem q2370 : (Jvm.Cond.selects "RingHouse$Bits" ({ cls := "RingHouse$Operation", name := "run", desc := "(LRingHouse$Machine;LRingHouse$Decoded;LRingHouse$Registers;)Z" } : Jvm.MethodName) ({ cls := "RingHouse$Reckoning", name := "run", desc := "(LRingHouse$Machine;LRingHouse$Decoded;LRingHouse$Registers;)Z" } : Jvm.MethodName)) ∈ lw_all := lw_g (lw_at lw_m9 224 rfl) rfl
theorem q2382 : (Jvm.Cond.selects "RingHouse$Bits" ({ cls := "RingHouse$Reckoning", name := "reckon", desc := "(JJ)J" } : Jvm.MethodName) ({ cls := "RingHouse$Bits", name := "reckon", desc := "(JJ)J" } : Jvm.MethodName)) ∈ lw_all := lw_g (lw_at lw_m9 236 rfl) rfl
theorem q2383 : (Jvm.Cond.instanceMethod ({ cls := "RingHouse$Bits", name := "reckon", desc := "(JJ)J" } : Jvm.MethodName)) ∈ lw_all := lw_g (lw_at lw_m9 237 rfl) rfl
theorem q2384 : (Jvm.Cond.code ({ cls := "RingHouse$Bits", name := "reckon", desc := "(JJ)J" } : Jvm.MethodName) prog_6_method_2_code (5 : Nat) (Option.some Jvm.ClassFile.FieldType.long)) ∈ lw_all := lw_g (lw_at lw_m9 238 rfl) rfl
theorem q4421 : (Jvm.Cond.castable "RingHouse$Bits" "RingHouse$Operation") ∈ lw_tbl := lw_at lw_m18 115 rfl
theorem in_X21 : ∀ w ∈ wsX210, w ∈ lw_all := lw_in wsX210 [1122, 1123, 1124, 1120] (by decide +kernel) (by decide +kernel)
/-! RingHouse$Compare -/
def RX22 : String := "RingHouse$Compare"
def TX22 : u_T := fun k => match k with
  | 0 => ("RingHouse$Operation", "name", "Ljava/lang/String;", true)
  | 1 => ("RingHouse$Operation", "sort", "I", true)
  | _ => ("RingHouse$Operation", "registers", "I", true)
def tyX22 : Nat → FieldType := fun k => match k with
  | 0 => .object "java/lang/String"
  | 1 => .int
  | _ => .int
abbrev wsX220 : List Cond := u_ws RX22 TX22 3
theorem nmX22 : ∀ a, a < 3 → ∀ b, b < 3 → a ≠ b → (TX22 a).2.1 ≠ (TX22 b).2.1 := by decide +kernel
theorem tyX22_ok : ∀ k, k < 3 → parseFieldDescriptor (TX22 k).2.2.1 = some (tyX22 k) := by decide +kernel
abbrev cX22_init : ByteArray := prog_9_method_1_code
def yX22_init : MethodName := ⟨RX22, "<init>", "()V"⟩
abbrev cX22_run : ByteArray := prog_9_method_2_code
def yX22_run : MethodName := ⟨RX22, "run", "(LRingHouse$Machine;LRingHouse$Decoded;LRingHouse$Registers;)Z"⟩
theorem q249 : (Jvm.Cond.initialized "RingHouse$Compare") ∈ lw_all := lw_g (lw_at lw_m1 23 rfl) rfl
theorem q695 : (Jvm.Cond.fieldLinkNest "RingHouse$Compare" (17 : Nat) "RingHouse$Registers" "a" "J" "RingHouse") ∈ lw_tbl := lw_at lw_m2 229 rfl
theorem q782 : (Jvm.Cond.fieldLinkNest "RingHouse$Compare" (29 : Nat) "RingHouse$Registers" "zero" "Z" "RingHouse") ∈ lw_tbl := lw_at lw_m3 76 rfl
theorem q786 : (Jvm.Cond.fieldLinkNest "RingHouse$Compare" (33 : Nat) "RingHouse$Registers" "minus" "Z" "RingHouse") ∈ lw_tbl := lw_at lw_m3 80 rfl
theorem q1129 : (Jvm.Cond.instantiable "RingHouse$Compare" (3 : Nat)) ∈ lw_all := lw_g (lw_at lw_m4 183 rfl) rfl
theorem q1131 : (Jvm.Cond.instanceMethod ({ cls := "RingHouse$Compare", name := "<init>", desc := "()V" } : Jvm.MethodName)) ∈ lw_all := lw_g (lw_at lw_m4 185 rfl) rfl
theorem q1132 : (Jvm.Cond.code ({ cls := "RingHouse$Compare", name := "<init>", desc := "()V" } : Jvm.MethodName) prog_9_method_1_code (1 : Nat) (Option.none : Option Jvm.ClassFile.FieldType)) ∈ lw_all := lw_g (lw_at lw_m4 186 rfl) rfl
theorem q1133 : (Jvm.Cond.stringRef "RingHouse$Compare" (3 : Nat) "cma") ∈ lw_tbl := lw_at lw_m4 187 rfl
theorem q1134 : (Jvm.Cond.methodLink "RingHouse$Compare" (5 : Nat) ({ cls := "RingHouse$Operation", name := "<init>", desc := "(Ljava/lang/String;II)V" } : Jvm.MethodName)) ∈ lw_all := lw_g (lw_at lw_m4 188 rfl) rfl
theorem q1135 : (Jvm.Cond.laysFinal "RingHouse$Compare" "RingHouse$Operation" "name" "Ljava/lang/String;") ∈ lw_all := lw_g (lw_at lw_m4 189 rfl) rfl
theorem q1136 : (Jvm.Cond.laysFinal "RingHouse$Compare" "RingHouse$Operation" "sort" "I") ∈ lw_all := lw_g (lw_at lw_m4 190 rfl) rfl
theorem q1137 : (Jvm.Cond.laysFinal "RingHouse$Compare" "RingHouse$Operation" "registers" "I") ∈ lw_all := lw_g (lw_at lw_m4 191 rfl) rfl
theorem q1138 : (Jvm.Cond.superclass "RingHouse$Compare" "RingHouse$Operation") ∈ lw_all := lw_g (lw_at lw_m4 192 rfl) rfl
theorem q1580 : (Jvm.Cond.fieldLinkNest "RingHouse$Compare" (27 : Nat) "RingHouse$Machine" "value" "J" "RingHouse") ∈ lw_tbl := lw_at lw_m6 154 rfl
theorem q2265 : (Jvm.Cond.selects "RingHouse$Compare" ({ cls := "RingHouse$Operation", name := "takesMode", desc := "(I)Z" } : Jvm.MethodName) ({ cls := "RingHouse$Operation", name := "takesMode", desc := "(I)Z" } : Jvm.MethodName)) ∈ lw_all := lw_g (lw_at lw_m9 119 rfl) rfl
theorem q2415 : (Jvm.Cond.selects "RingHouse$Compare" ({ cls := "RingHouse$Operation", name := "run", desc := "(LRingHouse$Machine;LRingHouse$Decoded;LRingHouse$Registers;)Z" } : Jvm.MethodName) ({ cls := "RingHouse$Compare", name := "run", desc := "(LRingHouse$Machine;LRingHouse$Decoded;LRingHouse$Registers;)Z" } : Jvm.MethodName)) ∈ lw_all := lw_g (lw_at lw_m10 29 rfl) rfl
theorem q2416 : (Jvm.Cond.instanceMethod ({ cls := "RingHouse$Compare", name := "run", desc := "(LRingHouse$Machine;LRingHouse$Decoded;LRingHouse$Registers;)Z" } : Jvm.MethodName)) ∈ lw_all := lw_g (lw_at lw_m10 30 rfl) rfl
theorem q2417 : (Jvm.Cond.code ({ cls := "RingHouse$Compare", name := "run", desc := "(LRingHouse$Machine;LRingHouse$Decoded;LRingHouse$Registers;)Z" } : Jvm.MethodName) prog_9_method_2_code (8 : Nat) (Option.some Jvm.ClassFile.FieldType.boolean)) ∈ lw_all := lw_g (lw_at lw_m10 31 rfl) rfl
theorem q2418 : (Jvm.Cond.methodLinkNest "RingHouse$Compare" (11 : Nat) ({ cls := "RingHouse$Machine", name := "value", desc := "()Z" } : Jvm.MethodName) "RingHouse") ∈ lw_tbl := lw_at lw_m10 32 rfl
theorem q2419 : (Jvm.Cond.methodLinkNest "RingHouse$Compare" (23 : Nat) ({ cls := "RingHouse", name := "signed", desc := "(J)J" } : Jvm.MethodName) "RingHouse") ∈ lw_tbl := lw_at lw_m10 33 rfl
theorem q4423 : (Jvm.Cond.castable "RingHouse$Compare" "RingHouse$Operation") ∈ lw_tbl := lw_at lw_m18 117 rfl
theorem in_X22 : ∀ w ∈ wsX220, w ∈ lw_all := lw_in wsX220 [1135, 1136, 1137] (by decide +kernel) (by decide +kernel)
/-! RingHouse$LoadHalf -/
def RX23 : String := "RingHouse$LoadHalf"
def TX23 : u_T := fun k => match k with
  | 0 => ("RingHouse$Operation", "name", "Ljava/lang/String;", true)
  | 1 => ("RingHouse$Operation", "sort", "I", true)
  | 2 => ("RingHouse$Operation", "registers", "I", true)
  | _ => ("RingHouse$LoadHalf", "adds", "Z", true)
def tyX23 : Nat → FieldType := fun k => match k with
  | 0 => .object "java/lang/String"
  | 1 => .int
  | 2 => .int
  | _ => .boolean
abbrev wsX230 : List Cond := u_ws RX23 TX23 4
theorem nmX23 : ∀ a, a < 4 → ∀ b, b < 4 → a ≠ b → (TX23 a).2.1 ≠ (TX23 b).2.1 := by decide +kernel
theorem tyX23_ok : ∀ k, k < 4 → parseFieldDescriptor (TX23 k).2.2.1 = some (tyX23 k) := by decide +kernel
abbrev cX23_init : ByteArray := prog_26_method_1_code
def yX23_init : MethodName := ⟨RX23, "<init>", "(Ljava/lang/String;Z)V"⟩
abbrev cX23_run : ByteArray := prog_26_method_2_code
def yX23_run : MethodName := ⟨RX23, "run", "(LRingHouse$Machine;LRingHouse$Decoded;LRingHouse$Registers;)Z"⟩
theorem q250 : (Jvm.Cond.initialized "RingHouse$LoadHalf") ∈ lw_all := lw_g (lw_at lw_m1 24 rfl) rfl
theorem q648 : (Jvm.Cond.fieldLinkNest "RingHouse$LoadHalf" (32 : Nat) "RingHouse$Decoded" "n" "I" "RingHouse") ∈ lw_tbl := lw_at lw_m2 182 rfl
theorem q739 : (Jvm.Cond.fieldLinkNest "RingHouse$LoadHalf" (26 : Nat) "RingHouse$Registers" "x" "[I" "RingHouse") ∈ lw_tbl := lw_at lw_m3 33 rfl
theorem q1140 : (Jvm.Cond.instantiable "RingHouse$LoadHalf" (4 : Nat)) ∈ lw_all := lw_g (lw_at lw_m4 194 rfl) rfl
theorem q1143 : (Jvm.Cond.instanceMethod ({ cls := "RingHouse$LoadHalf", name := "<init>", desc := "(Ljava/lang/String;Z)V" } : Jvm.MethodName)) ∈ lw_all := lw_g (lw_at lw_m4 197 rfl) rfl
theorem q1144 : (Jvm.Cond.code ({ cls := "RingHouse$LoadHalf", name := "<init>", desc := "(Ljava/lang/String;Z)V" } : Jvm.MethodName) prog_26_method_1_code (3 : Nat) (Option.none : Option Jvm.ClassFile.FieldType)) ∈ lw_all := lw_g (lw_at lw_m4 198 rfl) rfl
theorem q1145 : (Jvm.Cond.methodLink "RingHouse$LoadHalf" (3 : Nat) ({ cls := "RingHouse$Operation", name := "<init>", desc := "(Ljava/lang/String;II)V" } : Jvm.MethodName)) ∈ lw_all := lw_g (lw_at lw_m4 199 rfl) rfl
theorem q1146 : (Jvm.Cond.fieldLink "RingHouse$LoadHalf" (9 : Nat) "RingHouse$LoadHalf" "adds" "Z") ∈ lw_all := lw_g (lw_at lw_m4 200 rfl) rfl
theorem q1147 : (Jvm.Cond.laysFinal "RingHouse$LoadHalf" "RingHouse$LoadHalf" "adds" "Z") ∈ lw_all := lw_g (lw_at lw_m4 201 rfl) rfl
theorem q1148 : (Jvm.Cond.soleField "RingHouse$LoadHalf" "adds") ∈ lw_all := lw_g (lw_at lw_m4 202 rfl) rfl
theorem q1149 : (Jvm.Cond.laysFinal "RingHouse$LoadHalf" "RingHouse$Operation" "name" "Ljava/lang/String;") ∈ lw_all := lw_g (lw_at lw_m4 203 rfl) rfl
theorem q1150 : (Jvm.Cond.laysFinal "RingHouse$LoadHalf" "RingHouse$Operation" "sort" "I") ∈ lw_all := lw_g (lw_at lw_m4 204 rfl) rfl
theorem q1151 : (Jvm.Cond.laysFinal "RingHouse$LoadHalf" "RingHouse$Operation" "registers" "I") ∈ lw_all := lw_g (lw_at lw_m4 205 rfl) rfl
theorem q1152 : (Jvm.Cond.superclass "RingHouse$LoadHalf" "RingHouse$Operation") ∈ lw_all := lw_g (lw_at lw_m4 206 rfl) rfl
theorem q1578 : (Jvm.Cond.fieldLinkNest "RingHouse$LoadHalf" (21 : Nat) "RingHouse$Machine" "value" "J" "RingHouse") ∈ lw_tbl := lw_at lw_m6 152 rfl
theorem q2271 : (Jvm.Cond.selects "RingHouse$LoadHalf" ({ cls := "RingHouse$Operation", name := "takesMode", desc := "(I)Z" } : Jvm.MethodName) ({ cls := "RingHouse$Operation", name := "takesMode", desc := "(I)Z" } : Jvm.MethodName)) ∈ lw_all := lw_g (lw_at lw_m9 125 rfl) rfl
theorem q2461 : (Jvm.Cond.selects "RingHouse$LoadHalf" ({ cls := "RingHouse$Operation", name := "run", desc := "(LRingHouse$Machine;LRingHouse$Decoded;LRingHouse$Registers;)Z" } : Jvm.MethodName) ({ cls := "RingHouse$LoadHalf", name := "run", desc := "(LRingHouse$Machine;LRingHouse$Decoded;LRingHouse$Registers;)Z" } : Jvm.MethodName)) ∈ lw_all := lw_g (lw_at lw_m10 75 rfl) rfl
theorem q2462 : (Jvm.Cond.instanceMethod ({ cls := "RingHouse$LoadHalf", name := "run", desc := "(LRingHouse$Machine;LRingHouse$Decoded;LRingHouse$Registers;)Z" } : Jvm.MethodName)) ∈ lw_all := lw_g (lw_at lw_m10 76 rfl) rfl
theorem q2463 : (Jvm.Cond.code ({ cls := "RingHouse$LoadHalf", name := "run", desc := "(LRingHouse$Machine;LRingHouse$Decoded;LRingHouse$Registers;)Z" } : Jvm.MethodName) prog_26_method_2_code (5 : Nat) (Option.some Jvm.ClassFile.FieldType.boolean)) ∈ lw_all := lw_g (lw_at lw_m10 77 rfl) rfl
theorem q2464 : (Jvm.Cond.methodLinkNest "RingHouse$LoadHalf" (15 : Nat) ({ cls := "RingHouse$Machine", name := "value", desc := "()Z" } : Jvm.MethodName) "RingHouse") ∈ lw_tbl := lw_at lw_m10 78 rfl
theorem q2465 : (Jvm.Cond.constantLong "RingHouse$LoadHalf" (24 : Nat) (262143 : Int64)) ∈ lw_all := lw_g (lw_at lw_m10 79 rfl) rfl
theorem q2466 : (Jvm.Cond.constant "RingHouse$LoadHalf" (38 : Nat) (262143 : Int32)) ∈ lw_all := lw_g (lw_at lw_m10 80 rfl) rfl
theorem q2467 : (Jvm.Cond.methodLink "RingHouse$LoadHalf" (39 : Nat) ({ cls := "RingHouse$Registers", name := "tellHalf", desc := "(I)V" } : Jvm.MethodName)) ∈ lw_all := lw_g (lw_at lw_m10 81 rfl) rfl
theorem q4429 : (Jvm.Cond.castable "RingHouse$LoadHalf" "RingHouse$Operation") ∈ lw_tbl := lw_at lw_m18 123 rfl
theorem in_X23 : ∀ w ∈ wsX230, w ∈ lw_all := lw_in wsX230 [1149, 1150, 1151, 1147] (by decide +kernel) (by decide +kernel)
/-! RingHouse$Keep -/
def RX24 : String := "RingHouse$Keep"
def TX24 : u_T := fun k => match k with
  | 0 => ("RingHouse$Operation", "name", "Ljava/lang/String;", true)
  | 1 => ("RingHouse$Operation", "sort", "I", true)
  | 2 => ("RingHouse$Operation", "registers", "I", true)
  | _ => ("RingHouse$Keep", "what", "I", true)
def tyX24 : Nat → FieldType := fun k => match k with
  | 0 => .object "java/lang/String"
  | 1 => .int
  | 2 => .int
  | _ => .int
abbrev wsX240 : List Cond := u_ws RX24 TX24 4
theorem nmX24 : ∀ a, a < 4 → ∀ b, b < 4 → a ≠ b → (TX24 a).2.1 ≠ (TX24 b).2.1 := by decide +kernel
theorem tyX24_ok : ∀ k, k < 4 → parseFieldDescriptor (TX24 k).2.2.1 = some (tyX24 k) := by decide +kernel
abbrev cX24_init : ByteArray := prog_21_method_1_code
def yX24_init : MethodName := ⟨RX24, "<init>", "(Ljava/lang/String;II)V"⟩
abbrev cX24_run : ByteArray := prog_21_method_2_code
def yX24_run : MethodName := ⟨RX24, "run", "(LRingHouse$Machine;LRingHouse$Decoded;LRingHouse$Registers;)Z"⟩
theorem q251 : (Jvm.Cond.initialized "RingHouse$Keep") ∈ lw_all := lw_g (lw_at lw_m1 25 rfl) rfl
theorem q651 : (Jvm.Cond.fieldLinkNest "RingHouse$Keep" (43 : Nat) "RingHouse$Decoded" "n" "I" "RingHouse") ∈ lw_tbl := lw_at lw_m2 185 rfl
theorem q705 : (Jvm.Cond.fieldLinkNest "RingHouse$Keep" (30 : Nat) "RingHouse$Registers" "a" "J" "RingHouse") ∈ lw_tbl := lw_at lw_m2 239 rfl
theorem q725 : (Jvm.Cond.fieldLinkNest "RingHouse$Keep" (36 : Nat) "RingHouse$Registers" "q" "J" "RingHouse") ∈ lw_tbl := lw_at lw_m3 19 rfl
theorem q743 : (Jvm.Cond.fieldLinkNest "RingHouse$Keep" (39 : Nat) "RingHouse$Registers" "x" "[I" "RingHouse") ∈ lw_tbl := lw_at lw_m3 37 rfl
theorem q1155 : (Jvm.Cond.instantiable "RingHouse$Keep" (4 : Nat)) ∈ lw_all := lw_g (lw_at lw_m4 209 rfl) rfl
theorem q1158 : (Jvm.Cond.instanceMethod ({ cls := "RingHouse$Keep", name := "<init>", desc := "(Ljava/lang/String;II)V" } : Jvm.MethodName)) ∈ lw_all := lw_g (lw_at lw_m4 212 rfl) rfl
theorem q1159 : (Jvm.Cond.code ({ cls := "RingHouse$Keep", name := "<init>", desc := "(Ljava/lang/String;II)V" } : Jvm.MethodName) prog_21_method_1_code (4 : Nat) (Option.none : Option Jvm.ClassFile.FieldType)) ∈ lw_all := lw_g (lw_at lw_m4 213 rfl) rfl
theorem q1160 : (Jvm.Cond.methodLink "RingHouse$Keep" (3 : Nat) ({ cls := "RingHouse$Operation", name := "<init>", desc := "(Ljava/lang/String;II)V" } : Jvm.MethodName)) ∈ lw_all := lw_g (lw_at lw_m4 214 rfl) rfl
theorem q1161 : (Jvm.Cond.fieldLink "RingHouse$Keep" (9 : Nat) "RingHouse$Keep" "what" "I") ∈ lw_all := lw_g (lw_at lw_m4 215 rfl) rfl
theorem q1162 : (Jvm.Cond.laysFinal "RingHouse$Keep" "RingHouse$Keep" "what" "I") ∈ lw_all := lw_g (lw_at lw_m4 216 rfl) rfl
theorem q1163 : (Jvm.Cond.soleField "RingHouse$Keep" "what") ∈ lw_all := lw_g (lw_at lw_m4 217 rfl) rfl
theorem q1164 : (Jvm.Cond.laysFinal "RingHouse$Keep" "RingHouse$Operation" "name" "Ljava/lang/String;") ∈ lw_all := lw_g (lw_at lw_m4 218 rfl) rfl
theorem q1165 : (Jvm.Cond.laysFinal "RingHouse$Keep" "RingHouse$Operation" "sort" "I") ∈ lw_all := lw_g (lw_at lw_m4 219 rfl) rfl
theorem q1166 : (Jvm.Cond.laysFinal "RingHouse$Keep" "RingHouse$Operation" "registers" "I") ∈ lw_all := lw_g (lw_at lw_m4 220 rfl) rfl
theorem q1167 : (Jvm.Cond.superclass "RingHouse$Keep" "RingHouse$Operation") ∈ lw_all := lw_g (lw_at lw_m4 221 rfl) rfl
theorem q1555 : (Jvm.Cond.fieldLinkNest "RingHouse$Keep" (15 : Nat) "RingHouse$Machine" "atNumber" "I" "RingHouse") ∈ lw_tbl := lw_at lw_m6 129 rfl
theorem q1563 : (Jvm.Cond.fieldLinkNest "RingHouse$Keep" (20 : Nat) "RingHouse$Machine" "atPlace" "I" "RingHouse") ∈ lw_tbl := lw_at lw_m6 137 rfl
theorem q1573 : (Jvm.Cond.fieldLinkNest "RingHouse$Keep" (23 : Nat) "RingHouse$Machine" "atRing" "I" "RingHouse") ∈ lw_tbl := lw_at lw_m6 147 rfl
theorem q2269 : (Jvm.Cond.selects "RingHouse$Keep" ({ cls := "RingHouse$Operation", name := "takesMode", desc := "(I)Z" } : Jvm.MethodName) ({ cls := "RingHouse$Operation", name := "takesMode", desc := "(I)Z" } : Jvm.MethodName)) ∈ lw_all := lw_g (lw_at lw_m9 123 rfl) rfl
theorem q2446 : (Jvm.Cond.selects "RingHouse$Keep" ({ cls := "RingHouse$Operation", name := "run", desc := "(LRingHouse$Machine;LRingHouse$Decoded;LRingHouse$Registers;)Z" } : Jvm.MethodName) ({ cls := "RingHouse$Keep", name := "run", desc := "(LRingHouse$Machine;LRingHouse$Decoded;LRingHouse$Registers;)Z" } : Jvm.MethodName)) ∈ lw_all := lw_g (lw_at lw_m10 60 rfl) rfl
theorem q2447 : (Jvm.Cond.instanceMethod ({ cls := "RingHouse$Keep", name := "run", desc := "(LRingHouse$Machine;LRingHouse$Decoded;LRingHouse$Registers;)Z" } : Jvm.MethodName)) ∈ lw_all := lw_g (lw_at lw_m10 61 rfl) rfl
theorem q2448 : (Jvm.Cond.code ({ cls := "RingHouse$Keep", name := "run", desc := "(LRingHouse$Machine;LRingHouse$Decoded;LRingHouse$Registers;)Z" } : Jvm.MethodName) prog_21_method_2_code (4 : Nat) (Option.some Jvm.ClassFile.FieldType.boolean)) ∈ lw_all := lw_g (lw_at lw_m10 62 rfl) rfl
theorem q2449 : (Jvm.Cond.methodLinkNest "RingHouse$Keep" (26 : Nat) ({ cls := "RingHouse$Machine", name := "may", desc := "(IIII)Z" } : Jvm.MethodName) "RingHouse") ∈ lw_tbl := lw_at lw_m10 63 rfl
theorem q2450 : (Jvm.Cond.methodLink "RingHouse$Keep" (48 : Nat) ({ cls := "RingHouse$Registers", name := "pointer", desc := "(I)J" } : Jvm.MethodName)) ∈ lw_all := lw_g (lw_at lw_m10 64 rfl) rfl
theorem q2455 : (Jvm.Cond.methodLinkNest "RingHouse$Keep" (52 : Nat) ({ cls := "RingHouse$Machine", name := "store", desc := "(IIJ)V" } : Jvm.MethodName) "RingHouse") ∈ lw_tbl := lw_at lw_m10 69 rfl
theorem q4427 : (Jvm.Cond.castable "RingHouse$Keep" "RingHouse$Operation") ∈ lw_tbl := lw_at lw_m18 121 rfl
theorem in_X24 : ∀ w ∈ wsX240, w ∈ lw_all := lw_in wsX240 [1164, 1165, 1166, 1162] (by decide +kernel) (by decide +kernel)
/-! RingHouse$AddOne -/
def RX25 : String := "RingHouse$AddOne"
def TX25 : u_T := fun k => match k with
  | 0 => ("RingHouse$Operation", "name", "Ljava/lang/String;", true)
  | 1 => ("RingHouse$Operation", "sort", "I", true)
  | _ => ("RingHouse$Operation", "registers", "I", true)
def tyX25 : Nat → FieldType := fun k => match k with
  | 0 => .object "java/lang/String"
  | 1 => .int
  | _ => .int
abbrev wsX250 : List Cond := u_ws RX25 TX25 3
theorem nmX25 : ∀ a, a < 3 → ∀ b, b < 3 → a ≠ b → (TX25 a).2.1 ≠ (TX25 b).2.1 := by decide +kernel
theorem tyX25_ok : ∀ k, k < 3 → parseFieldDescriptor (TX25 k).2.2.1 = some (tyX25 k) := by decide +kernel
abbrev cX25_init : ByteArray := prog_3_method_1_code
def yX25_init : MethodName := ⟨RX25, "<init>", "()V"⟩
abbrev cX25_run : ByteArray := prog_3_method_2_code
def yX25_run : MethodName := ⟨RX25, "run", "(LRingHouse$Machine;LRingHouse$Decoded;LRingHouse$Registers;)Z"⟩
theorem q252 : (Jvm.Cond.initialized "RingHouse$AddOne") ∈ lw_all := lw_g (lw_at lw_m1 26 rfl) rfl
theorem q1172 : (Jvm.Cond.instantiable "RingHouse$AddOne" (3 : Nat)) ∈ lw_all := lw_g (lw_at lw_m4 226 rfl) rfl
theorem q1174 : (Jvm.Cond.instanceMethod ({ cls := "RingHouse$AddOne", name := "<init>", desc := "()V" } : Jvm.MethodName)) ∈ lw_all := lw_g (lw_at lw_m4 228 rfl) rfl
theorem q1175 : (Jvm.Cond.code ({ cls := "RingHouse$AddOne", name := "<init>", desc := "()V" } : Jvm.MethodName) prog_3_method_1_code (1 : Nat) (Option.none : Option Jvm.ClassFile.FieldType)) ∈ lw_all := lw_g (lw_at lw_m4 229 rfl) rfl
theorem q1176 : (Jvm.Cond.stringRef "RingHouse$AddOne" (3 : Nat) "aos") ∈ lw_tbl := lw_at lw_m4 230 rfl
theorem q1177 : (Jvm.Cond.methodLink "RingHouse$AddOne" (5 : Nat) ({ cls := "RingHouse$Operation", name := "<init>", desc := "(Ljava/lang/String;II)V" } : Jvm.MethodName)) ∈ lw_all := lw_g (lw_at lw_m4 231 rfl) rfl
theorem q1178 : (Jvm.Cond.laysFinal "RingHouse$AddOne" "RingHouse$Operation" "name" "Ljava/lang/String;") ∈ lw_all := lw_g (lw_at lw_m4 232 rfl) rfl
theorem q1179 : (Jvm.Cond.laysFinal "RingHouse$AddOne" "RingHouse$Operation" "sort" "I") ∈ lw_all := lw_g (lw_at lw_m4 233 rfl) rfl
theorem q1180 : (Jvm.Cond.laysFinal "RingHouse$AddOne" "RingHouse$Operation" "registers" "I") ∈ lw_all := lw_g (lw_at lw_m4 234 rfl) rfl
theorem q1181 : (Jvm.Cond.superclass "RingHouse$AddOne" "RingHouse$Operation") ∈ lw_all := lw_g (lw_at lw_m4 235 rfl) rfl
theorem q1553 : (Jvm.Cond.fieldLinkNest "RingHouse$AddOne" (11 : Nat) "RingHouse$Machine" "atNumber" "I" "RingHouse") ∈ lw_tbl := lw_at lw_m6 127 rfl
theorem q1561 : (Jvm.Cond.fieldLinkNest "RingHouse$AddOne" (17 : Nat) "RingHouse$Machine" "atPlace" "I" "RingHouse") ∈ lw_tbl := lw_at lw_m6 135 rfl
theorem q1571 : (Jvm.Cond.fieldLinkNest "RingHouse$AddOne" (20 : Nat) "RingHouse$Machine" "atRing" "I" "RingHouse") ∈ lw_tbl := lw_at lw_m6 145 rfl
theorem q2262 : (Jvm.Cond.selects "RingHouse$AddOne" ({ cls := "RingHouse$Operation", name := "takesMode", desc := "(I)Z" } : Jvm.MethodName) ({ cls := "RingHouse$Operation", name := "takesMode", desc := "(I)Z" } : Jvm.MethodName)) ∈ lw_all := lw_g (lw_at lw_m9 116 rfl) rfl
theorem q2355 : (Jvm.Cond.selects "RingHouse$AddOne" ({ cls := "RingHouse$Operation", name := "run", desc := "(LRingHouse$Machine;LRingHouse$Decoded;LRingHouse$Registers;)Z" } : Jvm.MethodName) ({ cls := "RingHouse$AddOne", name := "run", desc := "(LRingHouse$Machine;LRingHouse$Decoded;LRingHouse$Registers;)Z" } : Jvm.MethodName)) ∈ lw_all := lw_g (lw_at lw_m9 209 rfl) rfl
theorem q2356 : (Jvm.Cond.instanceMethod ({ cls := "RingHouse$AddOne", name := "run", desc := "(LRingHouse$Machine;LRingHouse$Decoded;LRingHouse$Registers;)Z" } : Jvm.MethodName)) ∈ lw_all := lw_g (lw_at lw_m9 210 rfl) rfl
theorem q2357 : (Jvm.Cond.code ({ cls := "RingHouse$AddOne", name := "run", desc := "(LRingHouse$Machine;LRingHouse$Decoded;LRingHouse$Registers;)Z" } : Jvm.MethodName) prog_3_method_2_code (6 : Nat) (Option.some Jvm.ClassFile.FieldType.boolean)) ∈ lw_all := lw_g (lw_at lw_m9 211 rfl) rfl
theorem q2358 : (Jvm.Cond.methodLinkNest "RingHouse$AddOne" (23 : Nat) ({ cls := "RingHouse$Machine", name := "may", desc := "(IIII)Z" } : Jvm.MethodName) "RingHouse") ∈ lw_tbl := lw_at lw_m9 212 rfl
theorem q2359 : (Jvm.Cond.methodLinkNest "RingHouse$AddOne" (27 : Nat) ({ cls := "RingHouse$Machine", name := "load", desc := "(II)J" } : Jvm.MethodName) "RingHouse") ∈ lw_tbl := lw_at lw_m9 213 rfl
theorem q2360 : (Jvm.Cond.constantLong "RingHouse$AddOne" (31 : Nat) (68719476735 : Int64)) ∈ lw_all := lw_g (lw_at lw_m9 214 rfl) rfl
theorem q2361 : (Jvm.Cond.methodLinkNest "RingHouse$AddOne" (33 : Nat) ({ cls := "RingHouse$Machine", name := "store", desc := "(IIJ)V" } : Jvm.MethodName) "RingHouse") ∈ lw_tbl := lw_at lw_m9 215 rfl
theorem q2366 : (Jvm.Cond.methodLink "RingHouse$AddOne" (37 : Nat) ({ cls := "RingHouse$Registers", name := "tell", desc := "(J)V" } : Jvm.MethodName)) ∈ lw_all := lw_g (lw_at lw_m9 220 rfl) rfl
theorem q4420 : (Jvm.Cond.castable "RingHouse$AddOne" "RingHouse$Operation") ∈ lw_tbl := lw_at lw_m18 114 rfl
theorem in_X25 : ∀ w ∈ wsX250, w ∈ lw_all := lw_in wsX250 [1178, 1179, 1180] (by decide +kernel) (by decide +kernel)
/-! RingHouse$Swap -/
def RX26 : String := "RingHouse$Swap"
def TX26 : u_T := fun k => match k with
  | 0 => ("RingHouse$Operation", "name", "Ljava/lang/String;", true)
  | 1 => ("RingHouse$Operation", "sort", "I", true)
  | _ => ("RingHouse$Operation", "registers", "I", true)
def tyX26 : Nat → FieldType := fun k => match k with
  | 0 => .object "java/lang/String"
  | 1 => .int
  | _ => .int
abbrev wsX260 : List Cond := u_ws RX26 TX26 3
theorem nmX26 : ∀ a, a < 3 → ∀ b, b < 3 → a ≠ b → (TX26 a).2.1 ≠ (TX26 b).2.1 := by decide +kernel
theorem tyX26_ok : ∀ k, k < 3 → parseFieldDescriptor (TX26 k).2.2.1 = some (tyX26 k) := by decide +kernel
abbrev cX26_init : ByteArray := prog_61_method_1_code
def yX26_init : MethodName := ⟨RX26, "<init>", "()V"⟩
abbrev cX26_run : ByteArray := prog_61_method_2_code
def yX26_run : MethodName := ⟨RX26, "run", "(LRingHouse$Machine;LRingHouse$Decoded;LRingHouse$Registers;)Z"⟩
theorem q253 : (Jvm.Cond.initialized "RingHouse$Swap") ∈ lw_all := lw_g (lw_at lw_m1 27 rfl) rfl
theorem q706 : (Jvm.Cond.fieldLinkNest "RingHouse$Swap" (31 : Nat) "RingHouse$Registers" "a" "J" "RingHouse") ∈ lw_tbl := lw_at lw_m3 0 rfl
theorem q1183 : (Jvm.Cond.instantiable "RingHouse$Swap" (3 : Nat)) ∈ lw_all := lw_g (lw_at lw_m4 237 rfl) rfl
theorem q1185 : (Jvm.Cond.instanceMethod ({ cls := "RingHouse$Swap", name := "<init>", desc := "()V" } : Jvm.MethodName)) ∈ lw_all := lw_g (lw_at lw_m4 239 rfl) rfl
theorem q1186 : (Jvm.Cond.code ({ cls := "RingHouse$Swap", name := "<init>", desc := "()V" } : Jvm.MethodName) prog_61_method_1_code (1 : Nat) (Option.none : Option Jvm.ClassFile.FieldType)) ∈ lw_all := lw_g (lw_at lw_m5 0 rfl) rfl
theorem q1187 : (Jvm.Cond.stringRef "RingHouse$Swap" (3 : Nat) "swa") ∈ lw_tbl := lw_at lw_m5 1 rfl
theorem q1188 : (Jvm.Cond.methodLink "RingHouse$Swap" (5 : Nat) ({ cls := "RingHouse$Operation", name := "<init>", desc := "(Ljava/lang/String;II)V" } : Jvm.MethodName)) ∈ lw_all := lw_g (lw_at lw_m5 2 rfl) rfl
theorem q1189 : (Jvm.Cond.laysFinal "RingHouse$Swap" "RingHouse$Operation" "name" "Ljava/lang/String;") ∈ lw_all := lw_g (lw_at lw_m5 3 rfl) rfl
theorem q1190 : (Jvm.Cond.laysFinal "RingHouse$Swap" "RingHouse$Operation" "sort" "I") ∈ lw_all := lw_g (lw_at lw_m5 4 rfl) rfl
theorem q1191 : (Jvm.Cond.laysFinal "RingHouse$Swap" "RingHouse$Operation" "registers" "I") ∈ lw_all := lw_g (lw_at lw_m5 5 rfl) rfl
theorem q1192 : (Jvm.Cond.superclass "RingHouse$Swap" "RingHouse$Operation") ∈ lw_all := lw_g (lw_at lw_m5 6 rfl) rfl
theorem q1556 : (Jvm.Cond.fieldLinkNest "RingHouse$Swap" (11 : Nat) "RingHouse$Machine" "atNumber" "I" "RingHouse") ∈ lw_tbl := lw_at lw_m6 130 rfl
theorem q1564 : (Jvm.Cond.fieldLinkNest "RingHouse$Swap" (17 : Nat) "RingHouse$Machine" "atPlace" "I" "RingHouse") ∈ lw_tbl := lw_at lw_m6 138 rfl
theorem q1574 : (Jvm.Cond.fieldLinkNest "RingHouse$Swap" (20 : Nat) "RingHouse$Machine" "atRing" "I" "RingHouse") ∈ lw_tbl := lw_at lw_m6 148 rfl
theorem q2280 : (Jvm.Cond.selects "RingHouse$Swap" ({ cls := "RingHouse$Operation", name := "takesMode", desc := "(I)Z" } : Jvm.MethodName) ({ cls := "RingHouse$Operation", name := "takesMode", desc := "(I)Z" } : Jvm.MethodName)) ∈ lw_all := lw_g (lw_at lw_m9 134 rfl) rfl
theorem q2718 : (Jvm.Cond.selects "RingHouse$Swap" ({ cls := "RingHouse$Operation", name := "run", desc := "(LRingHouse$Machine;LRingHouse$Decoded;LRingHouse$Registers;)Z" } : Jvm.MethodName) ({ cls := "RingHouse$Swap", name := "run", desc := "(LRingHouse$Machine;LRingHouse$Decoded;LRingHouse$Registers;)Z" } : Jvm.MethodName)) ∈ lw_all := lw_g (lw_at lw_m11 92 rfl) rfl
theorem q2719 : (Jvm.Cond.instanceMethod ({ cls := "RingHouse$Swap", name := "run", desc := "(LRingHouse$Machine;LRingHouse$Decoded;LRingHouse$Registers;)Z" } : Jvm.MethodName)) ∈ lw_all := lw_g (lw_at lw_m11 93 rfl) rfl
theorem q2720 : (Jvm.Cond.code ({ cls := "RingHouse$Swap", name := "run", desc := "(LRingHouse$Machine;LRingHouse$Decoded;LRingHouse$Registers;)Z" } : Jvm.MethodName) prog_61_method_2_code (6 : Nat) (Option.some Jvm.ClassFile.FieldType.boolean)) ∈ lw_all := lw_g (lw_at lw_m11 94 rfl) rfl
theorem q2721 : (Jvm.Cond.methodLinkNest "RingHouse$Swap" (23 : Nat) ({ cls := "RingHouse$Machine", name := "may", desc := "(IIII)Z" } : Jvm.MethodName) "RingHouse") ∈ lw_tbl := lw_at lw_m11 95 rfl
theorem q2722 : (Jvm.Cond.methodLinkNest "RingHouse$Swap" (27 : Nat) ({ cls := "RingHouse$Machine", name := "load", desc := "(II)J" } : Jvm.MethodName) "RingHouse") ∈ lw_tbl := lw_at lw_m11 96 rfl
theorem q2723 : (Jvm.Cond.methodLinkNest "RingHouse$Swap" (37 : Nat) ({ cls := "RingHouse$Machine", name := "store", desc := "(IIJ)V" } : Jvm.MethodName) "RingHouse") ∈ lw_tbl := lw_at lw_m11 97 rfl
theorem q2724 : (Jvm.Cond.methodLink "RingHouse$Swap" (41 : Nat) ({ cls := "RingHouse$Registers", name := "tell", desc := "(J)V" } : Jvm.MethodName)) ∈ lw_all := lw_g (lw_at lw_m11 98 rfl) rfl
theorem q4438 : (Jvm.Cond.castable "RingHouse$Swap" "RingHouse$Operation") ∈ lw_tbl := lw_at lw_m18 132 rfl
theorem in_X26 : ∀ w ∈ wsX260, w ∈ lw_all := lw_in wsX260 [1189, 1190, 1191] (by decide +kernel) (by decide +kernel)
/-! RingHouse$TakePlace -/
def RX27 : String := "RingHouse$TakePlace"
def TX27 : u_T := fun k => match k with
  | 0 => ("RingHouse$Operation", "name", "Ljava/lang/String;", true)
  | 1 => ("RingHouse$Operation", "sort", "I", true)
  | 2 => ("RingHouse$Operation", "registers", "I", true)
  | _ => ("RingHouse$TakePlace", "isHalf", "Z", true)
def tyX27 : Nat → FieldType := fun k => match k with
  | 0 => .object "java/lang/String"
  | 1 => .int
  | 2 => .int
  | _ => .boolean
abbrev wsX270 : List Cond := u_ws RX27 TX27 4
theorem nmX27 : ∀ a, a < 4 → ∀ b, b < 4 → a ≠ b → (TX27 a).2.1 ≠ (TX27 b).2.1 := by decide +kernel
theorem tyX27_ok : ∀ k, k < 4 → parseFieldDescriptor (TX27 k).2.2.1 = some (tyX27 k) := by decide +kernel
abbrev cX27_init : ByteArray := prog_63_method_1_code
def yX27_init : MethodName := ⟨RX27, "<init>", "(Ljava/lang/String;Z)V"⟩
abbrev cX27_run : ByteArray := prog_63_method_2_code
def yX27_run : MethodName := ⟨RX27, "run", "(LRingHouse$Machine;LRingHouse$Decoded;LRingHouse$Registers;)Z"⟩
theorem q254 : (Jvm.Cond.initialized "RingHouse$TakePlace") ∈ lw_all := lw_g (lw_at lw_m1 28 rfl) rfl
theorem q647 : (Jvm.Cond.fieldLinkNest "RingHouse$TakePlace" (21 : Nat) "RingHouse$Decoded" "n" "I" "RingHouse") ∈ lw_tbl := lw_at lw_m2 181 rfl
theorem q704 : (Jvm.Cond.fieldLinkNest "RingHouse$TakePlace" (36 : Nat) "RingHouse$Registers" "a" "J" "RingHouse") ∈ lw_tbl := lw_at lw_m2 238 rfl
theorem q738 : (Jvm.Cond.fieldLinkNest "RingHouse$TakePlace" (15 : Nat) "RingHouse$Registers" "x" "[I" "RingHouse") ∈ lw_tbl := lw_at lw_m3 32 rfl
theorem q1194 : (Jvm.Cond.instantiable "RingHouse$TakePlace" (4 : Nat)) ∈ lw_all := lw_g (lw_at lw_m5 8 rfl) rfl
theorem q1197 : (Jvm.Cond.instanceMethod ({ cls := "RingHouse$TakePlace", name := "<init>", desc := "(Ljava/lang/String;Z)V" } : Jvm.MethodName)) ∈ lw_all := lw_g (lw_at lw_m5 11 rfl) rfl
theorem q1198 : (Jvm.Cond.code ({ cls := "RingHouse$TakePlace", name := "<init>", desc := "(Ljava/lang/String;Z)V" } : Jvm.MethodName) prog_63_method_1_code (3 : Nat) (Option.none : Option Jvm.ClassFile.FieldType)) ∈ lw_all := lw_g (lw_at lw_m5 12 rfl) rfl
theorem q1199 : (Jvm.Cond.methodLink "RingHouse$TakePlace" (3 : Nat) ({ cls := "RingHouse$Operation", name := "<init>", desc := "(Ljava/lang/String;II)V" } : Jvm.MethodName)) ∈ lw_all := lw_g (lw_at lw_m5 13 rfl) rfl
theorem q1200 : (Jvm.Cond.fieldLink "RingHouse$TakePlace" (9 : Nat) "RingHouse$TakePlace" "isHalf" "Z") ∈ lw_all := lw_g (lw_at lw_m5 14 rfl) rfl
theorem q1201 : (Jvm.Cond.laysFinal "RingHouse$TakePlace" "RingHouse$TakePlace" "isHalf" "Z") ∈ lw_all := lw_g (lw_at lw_m5 15 rfl) rfl
theorem q1202 : (Jvm.Cond.soleField "RingHouse$TakePlace" "isHalf") ∈ lw_all := lw_g (lw_at lw_m5 16 rfl) rfl
theorem q1203 : (Jvm.Cond.laysFinal "RingHouse$TakePlace" "RingHouse$Operation" "name" "Ljava/lang/String;") ∈ lw_all := lw_g (lw_at lw_m5 17 rfl) rfl
theorem q1204 : (Jvm.Cond.laysFinal "RingHouse$TakePlace" "RingHouse$Operation" "sort" "I") ∈ lw_all := lw_g (lw_at lw_m5 18 rfl) rfl
theorem q1205 : (Jvm.Cond.laysFinal "RingHouse$TakePlace" "RingHouse$Operation" "registers" "I") ∈ lw_all := lw_g (lw_at lw_m5 19 rfl) rfl
theorem q1206 : (Jvm.Cond.superclass "RingHouse$TakePlace" "RingHouse$Operation") ∈ lw_all := lw_g (lw_at lw_m5 20 rfl) rfl
theorem q1567 : (Jvm.Cond.fieldLinkNest "RingHouse$TakePlace" (27 : Nat) "RingHouse$Machine" "atPlace" "I" "RingHouse") ∈ lw_tbl := lw_at lw_m6 141 rfl
theorem q2281 : (Jvm.Cond.selects "RingHouse$TakePlace" ({ cls := "RingHouse$Operation", name := "takesMode", desc := "(I)Z" } : Jvm.MethodName) ({ cls := "RingHouse$Operation", name := "takesMode", desc := "(I)Z" } : Jvm.MethodName)) ∈ lw_all := lw_g (lw_at lw_m9 135 rfl) rfl
theorem q2725 : (Jvm.Cond.selects "RingHouse$TakePlace" ({ cls := "RingHouse$Operation", name := "run", desc := "(LRingHouse$Machine;LRingHouse$Decoded;LRingHouse$Registers;)Z" } : Jvm.MethodName) ({ cls := "RingHouse$TakePlace", name := "run", desc := "(LRingHouse$Machine;LRingHouse$Decoded;LRingHouse$Registers;)Z" } : Jvm.MethodName)) ∈ lw_all := lw_g (lw_at lw_m11 99 rfl) rfl
theorem q2726 : (Jvm.Cond.instanceMethod ({ cls := "RingHouse$TakePlace", name := "run", desc := "(LRingHouse$Machine;LRingHouse$Decoded;LRingHouse$Registers;)Z" } : Jvm.MethodName)) ∈ lw_all := lw_g (lw_at lw_m11 100 rfl) rfl
theorem q2727 : (Jvm.Cond.code ({ cls := "RingHouse$TakePlace", name := "run", desc := "(LRingHouse$Machine;LRingHouse$Decoded;LRingHouse$Registers;)Z" } : Jvm.MethodName) prog_63_method_2_code (4 : Nat) (Option.some Jvm.ClassFile.FieldType.boolean)) ∈ lw_all := lw_g (lw_at lw_m11 101 rfl) rfl
theorem q2728 : (Jvm.Cond.methodLink "RingHouse$TakePlace" (32 : Nat) ({ cls := "RingHouse$Registers", name := "tellHalf", desc := "(I)V" } : Jvm.MethodName)) ∈ lw_all := lw_g (lw_at lw_m11 102 rfl) rfl
theorem q2729 : (Jvm.Cond.methodLink "RingHouse$TakePlace" (40 : Nat) ({ cls := "RingHouse$Registers", name := "tell", desc := "(J)V" } : Jvm.MethodName)) ∈ lw_all := lw_g (lw_at lw_m11 103 rfl) rfl
theorem q4439 : (Jvm.Cond.castable "RingHouse$TakePlace" "RingHouse$Operation") ∈ lw_tbl := lw_at lw_m18 133 rfl
theorem in_X27 : ∀ w ∈ wsX270, w ∈ lw_all := lw_in wsX270 [1203, 1204, 1205, 1201] (by decide +kernel) (by decide +kernel)
/-! RingHouse$Shift -/
def RX28 : String := "RingHouse$Shift"
def TX28 : u_T := fun k => match k with
  | 0 => ("RingHouse$Operation", "name", "Ljava/lang/String;", true)
  | 1 => ("RingHouse$Operation", "sort", "I", true)
  | 2 => ("RingHouse$Operation", "registers", "I", true)
  | _ => ("RingHouse$Shift", "how", "I", true)
def tyX28 : Nat → FieldType := fun k => match k with
  | 0 => .object "java/lang/String"
  | 1 => .int
  | 2 => .int
  | _ => .int
abbrev wsX280 : List Cond := u_ws RX28 TX28 4
theorem nmX28 : ∀ a, a < 4 → ∀ b, b < 4 → a ≠ b → (TX28 a).2.1 ≠ (TX28 b).2.1 := by decide +kernel
theorem tyX28_ok : ∀ k, k < 4 → parseFieldDescriptor (TX28 k).2.2.1 = some (tyX28 k) := by decide +kernel
abbrev cX28_init : ByteArray := prog_57_method_1_code
def yX28_init : MethodName := ⟨RX28, "<init>", "(Ljava/lang/String;I)V"⟩
abbrev cX28_run : ByteArray := prog_57_method_2_code
def yX28_run : MethodName := ⟨RX28, "run", "(LRingHouse$Machine;LRingHouse$Decoded;LRingHouse$Registers;)Z"⟩
theorem q255 : (Jvm.Cond.initialized "RingHouse$Shift") ∈ lw_all := lw_g (lw_at lw_m1 29 rfl) rfl
theorem q700 : (Jvm.Cond.fieldLinkNest "RingHouse$Shift" (20 : Nat) "RingHouse$Registers" "a" "J" "RingHouse") ∈ lw_tbl := lw_at lw_m2 234 rfl
theorem q1209 : (Jvm.Cond.instantiable "RingHouse$Shift" (4 : Nat)) ∈ lw_all := lw_g (lw_at lw_m5 23 rfl) rfl
theorem q1212 : (Jvm.Cond.instanceMethod ({ cls := "RingHouse$Shift", name := "<init>", desc := "(Ljava/lang/String;I)V" } : Jvm.MethodName)) ∈ lw_all := lw_g (lw_at lw_m5 26 rfl) rfl
theorem q1213 : (Jvm.Cond.code ({ cls := "RingHouse$Shift", name := "<init>", desc := "(Ljava/lang/String;I)V" } : Jvm.MethodName) prog_57_method_1_code (3 : Nat) (Option.none : Option Jvm.ClassFile.FieldType)) ∈ lw_all := lw_g (lw_at lw_m5 27 rfl) rfl
theorem q1214 : (Jvm.Cond.methodLink "RingHouse$Shift" (3 : Nat) ({ cls := "RingHouse$Operation", name := "<init>", desc := "(Ljava/lang/String;II)V" } : Jvm.MethodName)) ∈ lw_all := lw_g (lw_at lw_m5 28 rfl) rfl
theorem q1215 : (Jvm.Cond.fieldLink "RingHouse$Shift" (9 : Nat) "RingHouse$Shift" "how" "I") ∈ lw_all := lw_g (lw_at lw_m5 29 rfl) rfl
theorem q1216 : (Jvm.Cond.laysFinal "RingHouse$Shift" "RingHouse$Shift" "how" "I") ∈ lw_all := lw_g (lw_at lw_m5 30 rfl) rfl
theorem q1217 : (Jvm.Cond.soleField "RingHouse$Shift" "how") ∈ lw_all := lw_g (lw_at lw_m5 31 rfl) rfl
theorem q1218 : (Jvm.Cond.laysFinal "RingHouse$Shift" "RingHouse$Operation" "name" "Ljava/lang/String;") ∈ lw_all := lw_g (lw_at lw_m5 32 rfl) rfl
theorem q1219 : (Jvm.Cond.laysFinal "RingHouse$Shift" "RingHouse$Operation" "sort" "I") ∈ lw_all := lw_g (lw_at lw_m5 33 rfl) rfl
theorem q1220 : (Jvm.Cond.laysFinal "RingHouse$Shift" "RingHouse$Operation" "registers" "I") ∈ lw_all := lw_g (lw_at lw_m5 34 rfl) rfl
theorem q1221 : (Jvm.Cond.superclass "RingHouse$Shift" "RingHouse$Operation") ∈ lw_all := lw_g (lw_at lw_m5 35 rfl) rfl
theorem q1560 : (Jvm.Cond.fieldLinkNest "RingHouse$Shift" (15 : Nat) "RingHouse$Machine" "atPlace" "I" "RingHouse") ∈ lw_tbl := lw_at lw_m6 134 rfl
theorem q2277 : (Jvm.Cond.selects "RingHouse$Shift" ({ cls := "RingHouse$Operation", name := "takesMode", desc := "(I)Z" } : Jvm.MethodName) ({ cls := "RingHouse$Operation", name := "takesMode", desc := "(I)Z" } : Jvm.MethodName)) ∈ lw_all := lw_g (lw_at lw_m9 131 rfl) rfl
theorem q2490 : (Jvm.Cond.selects "RingHouse$Shift" ({ cls := "RingHouse$Operation", name := "run", desc := "(LRingHouse$Machine;LRingHouse$Decoded;LRingHouse$Registers;)Z" } : Jvm.MethodName) ({ cls := "RingHouse$Shift", name := "run", desc := "(LRingHouse$Machine;LRingHouse$Decoded;LRingHouse$Registers;)Z" } : Jvm.MethodName)) ∈ lw_all := lw_g (lw_at lw_m10 104 rfl) rfl
theorem q2491 : (Jvm.Cond.instanceMethod ({ cls := "RingHouse$Shift", name := "run", desc := "(LRingHouse$Machine;LRingHouse$Decoded;LRingHouse$Registers;)Z" } : Jvm.MethodName)) ∈ lw_all := lw_g (lw_at lw_m10 105 rfl) rfl
theorem q2492 : (Jvm.Cond.code ({ cls := "RingHouse$Shift", name := "run", desc := "(LRingHouse$Machine;LRingHouse$Decoded;LRingHouse$Registers;)Z" } : Jvm.MethodName) prog_57_method_2_code (5 : Nat) (Option.some Jvm.ClassFile.FieldType.boolean)) ∈ lw_all := lw_g (lw_at lw_m10 106 rfl) rfl
theorem q2493 : (Jvm.Cond.methodLinkNest "RingHouse$Shift" (26 : Nat) ({ cls := "RingHouse", name := "signed", desc := "(J)J" } : Jvm.MethodName) "RingHouse") ∈ lw_tbl := lw_at lw_m10 107 rfl
theorem q2494 : (Jvm.Cond.constantLong "RingHouse$Shift" (30 : Nat) (68719476735 : Int64)) ∈ lw_all := lw_g (lw_at lw_m10 108 rfl) rfl
theorem q2495 : (Jvm.Cond.methodLink "RingHouse$Shift" (32 : Nat) ({ cls := "RingHouse$Registers", name := "tell", desc := "(J)V" } : Jvm.MethodName)) ∈ lw_all := lw_g (lw_at lw_m10 109 rfl) rfl
theorem q4435 : (Jvm.Cond.castable "RingHouse$Shift" "RingHouse$Operation") ∈ lw_tbl := lw_at lw_m18 129 rfl
theorem in_X28 : ∀ w ∈ wsX280, w ∈ lw_all := lw_in wsX280 [1218, 1219, 1220, 1216] (by decide +kernel) (by decide +kernel)
/-! RingHouse$Point -/
def RX29 : String := "RingHouse$Point"
def TX29 : u_T := fun k => match k with
  | 0 => ("RingHouse$Operation", "name", "Ljava/lang/String;", true)
  | 1 => ("RingHouse$Operation", "sort", "I", true)
  | 2 => ("RingHouse$Operation", "registers", "I", true)
  | _ => ("RingHouse$Point", "isWord", "Z", true)
def tyX29 : Nat → FieldType := fun k => match k with
  | 0 => .object "java/lang/String"
  | 1 => .int
  | 2 => .int
  | _ => .boolean
abbrev wsX290 : List Cond := u_ws RX29 TX29 4
theorem nmX29 : ∀ a, a < 4 → ∀ b, b < 4 → a ≠ b → (TX29 a).2.1 ≠ (TX29 b).2.1 := by decide +kernel
theorem tyX29_ok : ∀ k, k < 4 → parseFieldDescriptor (TX29 k).2.2.1 = some (tyX29 k) := by decide +kernel
abbrev cX29_init : ByteArray := prog_35_method_1_code
def yX29_init : MethodName := ⟨RX29, "<init>", "(Ljava/lang/String;Z)V"⟩
abbrev cX29_run : ByteArray := prog_35_method_2_code
def yX29_run : MethodName := ⟨RX29, "run", "(LRingHouse$Machine;LRingHouse$Decoded;LRingHouse$Registers;)Z"⟩
theorem q256 : (Jvm.Cond.initialized "RingHouse$Point") ∈ lw_all := lw_g (lw_at lw_m1 30 rfl) rfl
theorem q649 : (Jvm.Cond.fieldLinkNest "RingHouse$Point" (37 : Nat) "RingHouse$Decoded" "n" "I" "RingHouse") ∈ lw_tbl := lw_at lw_m2 183 rfl
theorem q696 : (Jvm.Cond.fieldLinkNest "RingHouse$Point" (31 : Nat) "RingHouse$Registers" "a" "J" "RingHouse") ∈ lw_tbl := lw_at lw_m2 230 rfl
theorem q1225 : (Jvm.Cond.instantiable "RingHouse$Point" (4 : Nat)) ∈ lw_all := lw_g (lw_at lw_m5 39 rfl) rfl
theorem q1228 : (Jvm.Cond.instanceMethod ({ cls := "RingHouse$Point", name := "<init>", desc := "(Ljava/lang/String;Z)V" } : Jvm.MethodName)) ∈ lw_all := lw_g (lw_at lw_m5 42 rfl) rfl
theorem q1229 : (Jvm.Cond.code ({ cls := "RingHouse$Point", name := "<init>", desc := "(Ljava/lang/String;Z)V" } : Jvm.MethodName) prog_35_method_1_code (3 : Nat) (Option.none : Option Jvm.ClassFile.FieldType)) ∈ lw_all := lw_g (lw_at lw_m5 43 rfl) rfl
theorem q1230 : (Jvm.Cond.methodLink "RingHouse$Point" (3 : Nat) ({ cls := "RingHouse$Operation", name := "<init>", desc := "(Ljava/lang/String;II)V" } : Jvm.MethodName)) ∈ lw_all := lw_g (lw_at lw_m5 44 rfl) rfl
theorem q1231 : (Jvm.Cond.fieldLink "RingHouse$Point" (9 : Nat) "RingHouse$Point" "isWord" "Z") ∈ lw_all := lw_g (lw_at lw_m5 45 rfl) rfl
theorem q1232 : (Jvm.Cond.laysFinal "RingHouse$Point" "RingHouse$Point" "isWord" "Z") ∈ lw_all := lw_g (lw_at lw_m5 46 rfl) rfl
theorem q1233 : (Jvm.Cond.soleField "RingHouse$Point" "isWord") ∈ lw_all := lw_g (lw_at lw_m5 47 rfl) rfl
theorem q1234 : (Jvm.Cond.laysFinal "RingHouse$Point" "RingHouse$Operation" "name" "Ljava/lang/String;") ∈ lw_all := lw_g (lw_at lw_m5 48 rfl) rfl
theorem q1235 : (Jvm.Cond.laysFinal "RingHouse$Point" "RingHouse$Operation" "sort" "I") ∈ lw_all := lw_g (lw_at lw_m5 49 rfl) rfl
theorem q1236 : (Jvm.Cond.laysFinal "RingHouse$Point" "RingHouse$Operation" "registers" "I") ∈ lw_all := lw_g (lw_at lw_m5 50 rfl) rfl
theorem q1237 : (Jvm.Cond.superclass "RingHouse$Point" "RingHouse$Operation") ∈ lw_all := lw_g (lw_at lw_m5 51 rfl) rfl
theorem q1557 : (Jvm.Cond.fieldLinkNest "RingHouse$Point" (15 : Nat) "RingHouse$Machine" "atNumber" "I" "RingHouse") ∈ lw_tbl := lw_at lw_m6 131 rfl
theorem q1566 : (Jvm.Cond.fieldLinkNest "RingHouse$Point" (21 : Nat) "RingHouse$Machine" "atPlace" "I" "RingHouse") ∈ lw_tbl := lw_at lw_m6 140 rfl
theorem q1575 : (Jvm.Cond.fieldLinkNest "RingHouse$Point" (24 : Nat) "RingHouse$Machine" "atRing" "I" "RingHouse") ∈ lw_tbl := lw_at lw_m6 149 rfl
theorem q2274 : (Jvm.Cond.selects "RingHouse$Point" ({ cls := "RingHouse$Operation", name := "takesMode", desc := "(I)Z" } : Jvm.MethodName) ({ cls := "RingHouse$Operation", name := "takesMode", desc := "(I)Z" } : Jvm.MethodName)) ∈ lw_all := lw_g (lw_at lw_m9 128 rfl) rfl
theorem q2480 : (Jvm.Cond.selects "RingHouse$Point" ({ cls := "RingHouse$Operation", name := "run", desc := "(LRingHouse$Machine;LRingHouse$Decoded;LRingHouse$Registers;)Z" } : Jvm.MethodName) ({ cls := "RingHouse$Point", name := "run", desc := "(LRingHouse$Machine;LRingHouse$Decoded;LRingHouse$Registers;)Z" } : Jvm.MethodName)) ∈ lw_all := lw_g (lw_at lw_m10 94 rfl) rfl
theorem q2481 : (Jvm.Cond.instanceMethod ({ cls := "RingHouse$Point", name := "run", desc := "(LRingHouse$Machine;LRingHouse$Decoded;LRingHouse$Registers;)Z" } : Jvm.MethodName)) ∈ lw_all := lw_g (lw_at lw_m10 95 rfl) rfl
theorem q2482 : (Jvm.Cond.code ({ cls := "RingHouse$Point", name := "run", desc := "(LRingHouse$Machine;LRingHouse$Decoded;LRingHouse$Registers;)Z" } : Jvm.MethodName) prog_35_method_2_code (4 : Nat) (Option.some Jvm.ClassFile.FieldType.boolean)) ∈ lw_all := lw_g (lw_at lw_m10 96 rfl) rfl
theorem q2483 : (Jvm.Cond.methodLinkNest "RingHouse$Point" (27 : Nat) ({ cls := "RingHouse", name := "pointerWord", desc := "(III)J" } : Jvm.MethodName) "RingHouse") ∈ lw_tbl := lw_at lw_m10 97 rfl
theorem q2484 : (Jvm.Cond.methodLink "RingHouse$Point" (42 : Nat) ({ cls := "RingHouse$Registers", name := "point", desc := "(IIII)V" } : Jvm.MethodName)) ∈ lw_all := lw_g (lw_at lw_m10 98 rfl) rfl
theorem q4432 : (Jvm.Cond.castable "RingHouse$Point" "RingHouse$Operation") ∈ lw_tbl := lw_at lw_m18 126 rfl
theorem in_X29 : ∀ w ∈ wsX290, w ∈ lw_all := lw_in wsX290 [1234, 1235, 1236, 1232] (by decide +kernel) (by decide +kernel)
/-! RingHouse$Go -/
def RX30 : String := "RingHouse$Go"
def TX30 : u_T := fun k => match k with
  | 0 => ("RingHouse$Operation", "name", "Ljava/lang/String;", true)
  | 1 => ("RingHouse$Operation", "sort", "I", true)
  | 2 => ("RingHouse$Operation", "registers", "I", true)
  | _ => ("RingHouse$Go", "when", "I", true)
def tyX30 : Nat → FieldType := fun k => match k with
  | 0 => .object "java/lang/String"
  | 1 => .int
  | 2 => .int
  | _ => .int
abbrev wsX300 : List Cond := u_ws RX30 TX30 4
theorem nmX30 : ∀ a, a < 4 → ∀ b, b < 4 → a ≠ b → (TX30 a).2.1 ≠ (TX30 b).2.1 := by decide +kernel
theorem tyX30_ok : ∀ k, k < 4 → parseFieldDescriptor (TX30 k).2.2.1 = some (tyX30 k) := by decide +kernel
abbrev cX30_init : ByteArray := prog_18_method_1_code
def yX30_init : MethodName := ⟨RX30, "<init>", "(Ljava/lang/String;I)V"⟩
abbrev cX30_run : ByteArray := prog_18_method_3_code
def yX30_run : MethodName := ⟨RX30, "run", "(LRingHouse$Machine;LRingHouse$Decoded;LRingHouse$Registers;)Z"⟩
abbrev cX30_goesBy : ByteArray := prog_18_method_2_code
def yX30_goesBy : MethodName := ⟨RX30, "goesBy", "(ILRingHouse$Decoded;LRingHouse$Registers;)Z"⟩
theorem q257 : (Jvm.Cond.initialized "RingHouse$Go") ∈ lw_all := lw_g (lw_at lw_m1 31 rfl) rfl
theorem q652 : (Jvm.Cond.fieldLinkNest "RingHouse$Go" (28 : Nat) "RingHouse$Decoded" "n" "I" "RingHouse") ∈ lw_tbl := lw_at lw_m2 186 rfl
theorem q744 : (Jvm.Cond.fieldLinkNest "RingHouse$Go" (24 : Nat) "RingHouse$Registers" "x" "[I" "RingHouse") ∈ lw_tbl := lw_at lw_m3 38 rfl
theorem q781 : (Jvm.Cond.fieldLinkNest "RingHouse$Go" (15 : Nat) "RingHouse$Registers" "zero" "Z" "RingHouse") ∈ lw_tbl := lw_at lw_m3 75 rfl
theorem q785 : (Jvm.Cond.fieldLinkNest "RingHouse$Go" (21 : Nat) "RingHouse$Registers" "minus" "Z" "RingHouse") ∈ lw_tbl := lw_at lw_m3 79 rfl
theorem q1240 : (Jvm.Cond.instantiable "RingHouse$Go" (4 : Nat)) ∈ lw_all := lw_g (lw_at lw_m5 54 rfl) rfl
theorem q1243 : (Jvm.Cond.instanceMethod ({ cls := "RingHouse$Go", name := "<init>", desc := "(Ljava/lang/String;I)V" } : Jvm.MethodName)) ∈ lw_all := lw_g (lw_at lw_m5 57 rfl) rfl
theorem q1244 : (Jvm.Cond.code ({ cls := "RingHouse$Go", name := "<init>", desc := "(Ljava/lang/String;I)V" } : Jvm.MethodName) prog_18_method_1_code (3 : Nat) (Option.none : Option Jvm.ClassFile.FieldType)) ∈ lw_all := lw_g (lw_at lw_m5 58 rfl) rfl
theorem q1245 : (Jvm.Cond.methodLink "RingHouse$Go" (3 : Nat) ({ cls := "RingHouse$Operation", name := "<init>", desc := "(Ljava/lang/String;II)V" } : Jvm.MethodName)) ∈ lw_all := lw_g (lw_at lw_m5 59 rfl) rfl
theorem q1246 : (Jvm.Cond.fieldLink "RingHouse$Go" (9 : Nat) "RingHouse$Go" "when" "I") ∈ lw_all := lw_g (lw_at lw_m5 60 rfl) rfl
theorem q1247 : (Jvm.Cond.laysFinal "RingHouse$Go" "RingHouse$Go" "when" "I") ∈ lw_all := lw_g (lw_at lw_m5 61 rfl) rfl
theorem q1248 : (Jvm.Cond.soleField "RingHouse$Go" "when") ∈ lw_all := lw_g (lw_at lw_m5 62 rfl) rfl
theorem q1249 : (Jvm.Cond.laysFinal "RingHouse$Go" "RingHouse$Operation" "name" "Ljava/lang/String;") ∈ lw_all := lw_g (lw_at lw_m5 63 rfl) rfl
theorem q1250 : (Jvm.Cond.laysFinal "RingHouse$Go" "RingHouse$Operation" "sort" "I") ∈ lw_all := lw_g (lw_at lw_m5 64 rfl) rfl
theorem q1251 : (Jvm.Cond.laysFinal "RingHouse$Go" "RingHouse$Operation" "registers" "I") ∈ lw_all := lw_g (lw_at lw_m5 65 rfl) rfl
theorem q1252 : (Jvm.Cond.superclass "RingHouse$Go" "RingHouse$Operation") ∈ lw_all := lw_g (lw_at lw_m5 66 rfl) rfl
theorem q1558 : (Jvm.Cond.fieldLinkNest "RingHouse$Go" (42 : Nat) "RingHouse$Machine" "atNumber" "I" "RingHouse") ∈ lw_tbl := lw_at lw_m6 132 rfl
theorem q1568 : (Jvm.Cond.fieldLinkNest "RingHouse$Go" (50 : Nat) "RingHouse$Machine" "atPlace" "I" "RingHouse") ∈ lw_tbl := lw_at lw_m6 142 rfl
theorem q1583 : (Jvm.Cond.fieldLinkNest "RingHouse$Go" (47 : Nat) "RingHouse$Machine" "toNumber" "I" "RingHouse") ∈ lw_tbl := lw_at lw_m6 157 rfl
theorem q1585 : (Jvm.Cond.fieldLinkNest "RingHouse$Go" (53 : Nat) "RingHouse$Machine" "toPlace" "I" "RingHouse") ∈ lw_tbl := lw_at lw_m6 159 rfl
theorem q2268 : (Jvm.Cond.selects "RingHouse$Go" ({ cls := "RingHouse$Operation", name := "takesMode", desc := "(I)Z" } : Jvm.MethodName) ({ cls := "RingHouse$Operation", name := "takesMode", desc := "(I)Z" } : Jvm.MethodName)) ∈ lw_all := lw_g (lw_at lw_m9 122 rfl) rfl
theorem q2435 : (Jvm.Cond.selects "RingHouse$Go" ({ cls := "RingHouse$Operation", name := "run", desc := "(LRingHouse$Machine;LRingHouse$Decoded;LRingHouse$Registers;)Z" } : Jvm.MethodName) ({ cls := "RingHouse$Go", name := "run", desc := "(LRingHouse$Machine;LRingHouse$Decoded;LRingHouse$Registers;)Z" } : Jvm.MethodName)) ∈ lw_all := lw_g (lw_at lw_m10 49 rfl) rfl
theorem q2436 : (Jvm.Cond.instanceMethod ({ cls := "RingHouse$Go", name := "run", desc := "(LRingHouse$Machine;LRingHouse$Decoded;LRingHouse$Registers;)Z" } : Jvm.MethodName)) ∈ lw_all := lw_g (lw_at lw_m10 50 rfl) rfl
theorem q2437 : (Jvm.Cond.code ({ cls := "RingHouse$Go", name := "run", desc := "(LRingHouse$Machine;LRingHouse$Decoded;LRingHouse$Registers;)Z" } : Jvm.MethodName) prog_18_method_3_code (4 : Nat) (Option.some Jvm.ClassFile.FieldType.boolean)) ∈ lw_all := lw_g (lw_at lw_m10 51 rfl) rfl
theorem q2438 : (Jvm.Cond.methodLink "RingHouse$Go" (38 : Nat) ({ cls := "RingHouse$Go", name := "goesBy", desc := "(ILRingHouse$Decoded;LRingHouse$Registers;)Z" } : Jvm.MethodName)) ∈ lw_all := lw_g (lw_at lw_m10 52 rfl) rfl
theorem q2439 : (Jvm.Cond.static ({ cls := "RingHouse$Go", name := "goesBy", desc := "(ILRingHouse$Decoded;LRingHouse$Registers;)Z" } : Jvm.MethodName)) ∈ lw_all := lw_g (lw_at lw_m10 53 rfl) rfl
theorem q2440 : (Jvm.Cond.code ({ cls := "RingHouse$Go", name := "goesBy", desc := "(ILRingHouse$Decoded;LRingHouse$Registers;)Z" } : Jvm.MethodName) prog_18_method_2_code (3 : Nat) (Option.some Jvm.ClassFile.FieldType.boolean)) ∈ lw_all := lw_g (lw_at lw_m10 54 rfl) rfl
theorem q2441 : (Jvm.Cond.constant "RingHouse$Go" (33 : Nat) (262143 : Int32)) ∈ lw_all := lw_g (lw_at lw_m10 55 rfl) rfl
theorem q2442 : (Jvm.Cond.methodLink "RingHouse$Go" (34 : Nat) ({ cls := "RingHouse$Registers", name := "tellHalf", desc := "(I)V" } : Jvm.MethodName)) ∈ lw_all := lw_g (lw_at lw_m10 56 rfl) rfl
theorem q4426 : (Jvm.Cond.castable "RingHouse$Go" "RingHouse$Operation") ∈ lw_tbl := lw_at lw_m18 120 rfl
theorem in_X30 : ∀ w ∈ wsX300, w ∈ lw_all := lw_in wsX300 [1249, 1250, 1251, 1247] (by decide +kernel) (by decide +kernel)
/-! RingHouse$Call -/
def RX31 : String := "RingHouse$Call"
def TX31 : u_T := fun k => match k with
  | 0 => ("RingHouse$Operation", "name", "Ljava/lang/String;", true)
  | 1 => ("RingHouse$Operation", "sort", "I", true)
  | _ => ("RingHouse$Operation", "registers", "I", true)
def tyX31 : Nat → FieldType := fun k => match k with
  | 0 => .object "java/lang/String"
  | 1 => .int
  | _ => .int
abbrev wsX310 : List Cond := u_ws RX31 TX31 3
theorem nmX31 : ∀ a, a < 3 → ∀ b, b < 3 → a ≠ b → (TX31 a).2.1 ≠ (TX31 b).2.1 := by decide +kernel
theorem tyX31_ok : ∀ k, k < 3 → parseFieldDescriptor (TX31 k).2.2.1 = some (tyX31 k) := by decide +kernel
abbrev cX31_init : ByteArray := prog_8_method_1_code
def yX31_init : MethodName := ⟨RX31, "<init>", "()V"⟩
abbrev cX31_run : ByteArray := prog_8_method_4_code
def yX31_run : MethodName := ⟨RX31, "run", "(LRingHouse$Machine;LRingHouse$Decoded;LRingHouse$Registers;)Z"⟩
abbrev cX31_newRing : ByteArray := prog_8_method_2_code
def yX31_newRing : MethodName := ⟨RX31, "newRing", "(LRingHouse$Machine;)I"⟩
abbrev cX31_deny : ByteArray := prog_8_method_3_code
def yX31_deny : MethodName := ⟨RX31, "deny", "(LRingHouse$Machine;LRingHouse$Node;I)V"⟩
theorem q258 : (Jvm.Cond.initialized "RingHouse$Call") ∈ lw_all := lw_g (lw_at lw_m1 32 rfl) rfl
theorem q373 : (Jvm.Cond.fieldLinkNest "RingHouse$Call" (63 : Nat) "RingHouse$Node" "number" "I" "RingHouse") ∈ lw_tbl := lw_at lw_m1 147 rfl
theorem q422 : (Jvm.Cond.fieldLinkNest "RingHouse$Call" (51 : Nat) "RingHouse$Node" "r1" "I" "RingHouse") ∈ lw_tbl := lw_at lw_m1 196 rfl
theorem q429 : (Jvm.Cond.fieldLinkNest "RingHouse$Call" (72 : Nat) "RingHouse$Node" "r2" "I" "RingHouse") ∈ lw_tbl := lw_at lw_m1 203 rfl
theorem q435 : (Jvm.Cond.fieldLinkNest "RingHouse$Call" (75 : Nat) "RingHouse$Node" "r3" "I" "RingHouse") ∈ lw_tbl := lw_at lw_m1 209 rfl
theorem q471 : (Jvm.Cond.fieldLinkNest "RingHouse$Call" (78 : Nat) "RingHouse$Node" "gates" "I" "RingHouse") ∈ lw_tbl := lw_at lw_m2 5 rfl
theorem q757 : (Jvm.Cond.fieldLinkNest "RingHouse$Call" (88 : Nat) "RingHouse$Registers" "number" "I" "RingHouse") ∈ lw_tbl := lw_at lw_m3 51 rfl
theorem q762 : (Jvm.Cond.fieldLinkNest "RingHouse$Call" (91 : Nat) "RingHouse$Registers" "place" "I" "RingHouse") ∈ lw_tbl := lw_at lw_m3 56 rfl
theorem q778 : (Jvm.Cond.fieldLinkNest "RingHouse$Call" (95 : Nat) "RingHouse$Registers" "ring" "I" "RingHouse") ∈ lw_tbl := lw_at lw_m3 72 rfl
theorem q856 : (Jvm.Cond.fieldLinkNest "RingHouse$Call" (60 : Nat) "RingHouse$Process" "itself" "I" "RingHouse") ∈ lw_tbl := lw_at lw_m3 150 rfl
theorem q912 : (Jvm.Cond.fieldLinkNest "RingHouse$Call" (35 : Nat) "RingHouse$Process" "known" "[LRingHouse$Node;" "RingHouse") ∈ lw_tbl := lw_at lw_m3 206 rfl
theorem q1259 : (Jvm.Cond.instantiable "RingHouse$Call" (3 : Nat)) ∈ lw_all := lw_g (lw_at lw_m5 73 rfl) rfl
theorem q1261 : (Jvm.Cond.instanceMethod ({ cls := "RingHouse$Call", name := "<init>", desc := "()V" } : Jvm.MethodName)) ∈ lw_all := lw_g (lw_at lw_m5 75 rfl) rfl
theorem q1262 : (Jvm.Cond.code ({ cls := "RingHouse$Call", name := "<init>", desc := "()V" } : Jvm.MethodName) prog_8_method_1_code (1 : Nat) (Option.none : Option Jvm.ClassFile.FieldType)) ∈ lw_all := lw_g (lw_at lw_m5 76 rfl) rfl
theorem q1263 : (Jvm.Cond.stringRef "RingHouse$Call" (3 : Nat) "call") ∈ lw_tbl := lw_at lw_m5 77 rfl
theorem q1264 : (Jvm.Cond.methodLink "RingHouse$Call" (5 : Nat) ({ cls := "RingHouse$Operation", name := "<init>", desc := "(Ljava/lang/String;II)V" } : Jvm.MethodName)) ∈ lw_all := lw_g (lw_at lw_m5 78 rfl) rfl
theorem q1265 : (Jvm.Cond.laysFinal "RingHouse$Call" "RingHouse$Operation" "name" "Ljava/lang/String;") ∈ lw_all := lw_g (lw_at lw_m5 79 rfl) rfl
theorem q1266 : (Jvm.Cond.laysFinal "RingHouse$Call" "RingHouse$Operation" "sort" "I") ∈ lw_all := lw_g (lw_at lw_m5 80 rfl) rfl
theorem q1267 : (Jvm.Cond.laysFinal "RingHouse$Call" "RingHouse$Operation" "registers" "I") ∈ lw_all := lw_g (lw_at lw_m5 81 rfl) rfl
theorem q1268 : (Jvm.Cond.superclass "RingHouse$Call" "RingHouse$Operation") ∈ lw_all := lw_g (lw_at lw_m5 82 rfl) rfl
theorem q1542 : (Jvm.Cond.fieldLinkNest "RingHouse$Call" (56 : Nat) "RingHouse$Machine" "audit" "LRingHouse$Audit;" "RingHouse") ∈ lw_tbl := lw_at lw_m6 116 rfl
theorem q1552 : (Jvm.Cond.fieldLinkNest "RingHouse$Call" (31 : Nat) "RingHouse$Machine" "runs" "LRingHouse$Process;" "RingHouse") ∈ lw_tbl := lw_at lw_m6 126 rfl
theorem q1554 : (Jvm.Cond.fieldLinkNest "RingHouse$Call" (11 : Nat) "RingHouse$Machine" "atNumber" "I" "RingHouse") ∈ lw_tbl := lw_at lw_m6 128 rfl
theorem q1562 : (Jvm.Cond.fieldLinkNest "RingHouse$Call" (17 : Nat) "RingHouse$Machine" "atPlace" "I" "RingHouse") ∈ lw_tbl := lw_at lw_m6 136 rfl
theorem q1572 : (Jvm.Cond.fieldLinkNest "RingHouse$Call" (20 : Nat) "RingHouse$Machine" "atRing" "I" "RingHouse") ∈ lw_tbl := lw_at lw_m6 146 rfl
theorem q2264 : (Jvm.Cond.selects "RingHouse$Call" ({ cls := "RingHouse$Operation", name := "takesMode", desc := "(I)Z" } : Jvm.MethodName) ({ cls := "RingHouse$Operation", name := "takesMode", desc := "(I)Z" } : Jvm.MethodName)) ∈ lw_all := lw_g (lw_at lw_m9 118 rfl) rfl
theorem q2393 : (Jvm.Cond.selects "RingHouse$Call" ({ cls := "RingHouse$Operation", name := "run", desc := "(LRingHouse$Machine;LRingHouse$Decoded;LRingHouse$Registers;)Z" } : Jvm.MethodName) ({ cls := "RingHouse$Call", name := "run", desc := "(LRingHouse$Machine;LRingHouse$Decoded;LRingHouse$Registers;)Z" } : Jvm.MethodName)) ∈ lw_all := lw_g (lw_at lw_m10 7 rfl) rfl
theorem q2394 : (Jvm.Cond.instanceMethod ({ cls := "RingHouse$Call", name := "run", desc := "(LRingHouse$Machine;LRingHouse$Decoded;LRingHouse$Registers;)Z" } : Jvm.MethodName)) ∈ lw_all := lw_g (lw_at lw_m10 8 rfl) rfl
theorem q2395 : (Jvm.Cond.code ({ cls := "RingHouse$Call", name := "run", desc := "(LRingHouse$Machine;LRingHouse$Decoded;LRingHouse$Registers;)Z" } : Jvm.MethodName) prog_8_method_4_code (5 : Nat) (Option.some Jvm.ClassFile.FieldType.boolean)) ∈ lw_all := lw_g (lw_at lw_m10 9 rfl) rfl
theorem q2396 : (Jvm.Cond.methodLink "RingHouse$Call" (84 : Nat) ({ cls := "RingHouse$Call", name := "newRing", desc := "(LRingHouse$Machine;)I" } : Jvm.MethodName)) ∈ lw_all := lw_g (lw_at lw_m10 10 rfl) rfl
theorem q2397 : (Jvm.Cond.privateMethod ({ cls := "RingHouse$Call", name := "newRing", desc := "(LRingHouse$Machine;)I" } : Jvm.MethodName)) ∈ lw_tbl := lw_at lw_m10 11 rfl
theorem q2398 : (Jvm.Cond.instanceMethod ({ cls := "RingHouse$Call", name := "newRing", desc := "(LRingHouse$Machine;)I" } : Jvm.MethodName)) ∈ lw_all := lw_g (lw_at lw_m10 12 rfl) rfl
theorem q2399 : (Jvm.Cond.code ({ cls := "RingHouse$Call", name := "newRing", desc := "(LRingHouse$Machine;)I" } : Jvm.MethodName) prog_8_method_2_code (4 : Nat) (Option.some Jvm.ClassFile.FieldType.int)) ∈ lw_all := lw_g (lw_at lw_m10 13 rfl) rfl
theorem q2400 : (Jvm.Cond.methodLinkNest "RingHouse$Call" (23 : Nat) ({ cls := "RingHouse$Machine", name := "isThere", desc := "(III)Z" } : Jvm.MethodName) "RingHouse") ∈ lw_tbl := lw_at lw_m10 14 rfl
theorem q2401 : (Jvm.Cond.methodLinkNest "RingHouse$Call" (27 : Nat) ({ cls := "RingHouse$Machine", name := "refuse", desc := "(IIII)Z" } : Jvm.MethodName) "RingHouse") ∈ lw_tbl := lw_at lw_m10 15 rfl
theorem q2402 : (Jvm.Cond.methodLink "RingHouse$Call" (41 : Nat) ({ cls := "RingHouse$Process", name := "refusal", desc := "(III)I" } : Jvm.MethodName)) ∈ lw_all := lw_g (lw_at lw_m10 16 rfl) rfl
theorem q2403 : (Jvm.Cond.methodLink "RingHouse$Call" (45 : Nat) ({ cls := "RingHouse$Call", name := "deny", desc := "(LRingHouse$Machine;LRingHouse$Node;I)V" } : Jvm.MethodName)) ∈ lw_all := lw_g (lw_at lw_m10 17 rfl) rfl
theorem q2404 : (Jvm.Cond.privateMethod ({ cls := "RingHouse$Call", name := "deny", desc := "(LRingHouse$Machine;LRingHouse$Node;I)V" } : Jvm.MethodName)) ∈ lw_tbl := lw_at lw_m10 18 rfl
theorem q2405 : (Jvm.Cond.instanceMethod ({ cls := "RingHouse$Call", name := "deny", desc := "(LRingHouse$Machine;LRingHouse$Node;I)V" } : Jvm.MethodName)) ∈ lw_all := lw_g (lw_at lw_m10 19 rfl) rfl
theorem q2406 : (Jvm.Cond.code ({ cls := "RingHouse$Call", name := "deny", desc := "(LRingHouse$Machine;LRingHouse$Node;I)V" } : Jvm.MethodName) prog_8_method_3_code (4 : Nat) (Option.none : Option Jvm.ClassFile.FieldType)) ∈ lw_all := lw_g (lw_at lw_m10 20 rfl) rfl
theorem q2407 : (Jvm.Cond.methodLinkNest "RingHouse$Call" (81 : Nat) ({ cls := "RingHouse$Machine", name := "deny", desc := "(LRingHouse$Node;I)V" } : Jvm.MethodName) "RingHouse") ∈ lw_tbl := lw_at lw_m10 21 rfl
theorem q2408 : (Jvm.Cond.methodLink "RingHouse$Call" (66 : Nat) ({ cls := "RingHouse$Audit", name := "add", desc := "(IIII)V" } : Jvm.MethodName)) ∈ lw_all := lw_g (lw_at lw_m10 22 rfl) rfl
theorem q2409 : (Jvm.Cond.constant "RingHouse$Call" (94 : Nat) (262143 : Int32)) ∈ lw_all := lw_g (lw_at lw_m10 23 rfl) rfl
theorem q2410 : (Jvm.Cond.methodLink "RingHouse$Call" (98 : Nat) ({ cls := "RingHouse$Registers", name := "point", desc := "(IIII)V" } : Jvm.MethodName)) ∈ lw_all := lw_g (lw_at lw_m10 24 rfl) rfl
theorem q2411 : (Jvm.Cond.methodLinkNest "RingHouse$Call" (101 : Nat) ({ cls := "RingHouse$Machine", name := "cross", desc := "(I)V" } : Jvm.MethodName) "RingHouse") ∈ lw_tbl := lw_at lw_m10 25 rfl
theorem q4422 : (Jvm.Cond.castable "RingHouse$Call" "RingHouse$Operation") ∈ lw_tbl := lw_at lw_m18 116 rfl
theorem in_X31 : ∀ w ∈ wsX310, w ∈ lw_all := lw_in wsX310 [1265, 1266, 1267] (by decide +kernel) (by decide +kernel)
/-! RingHouse$Return -/
def RX32 : String := "RingHouse$Return"
def TX32 : u_T := fun k => match k with
  | 0 => ("RingHouse$Operation", "name", "Ljava/lang/String;", true)
  | 1 => ("RingHouse$Operation", "sort", "I", true)
  | _ => ("RingHouse$Operation", "registers", "I", true)
def tyX32 : Nat → FieldType := fun k => match k with
  | 0 => .object "java/lang/String"
  | 1 => .int
  | _ => .int
abbrev wsX320 : List Cond := u_ws RX32 TX32 3
theorem nmX32 : ∀ a, a < 3 → ∀ b, b < 3 → a ≠ b → (TX32 a).2.1 ≠ (TX32 b).2.1 := by decide +kernel
theorem tyX32_ok : ∀ k, k < 3 → parseFieldDescriptor (TX32 k).2.2.1 = some (tyX32 k) := by decide +kernel
abbrev cX32_init : ByteArray := prog_45_method_1_code
def yX32_init : MethodName := ⟨RX32, "<init>", "()V"⟩
abbrev cX32_run : ByteArray := prog_45_method_2_code
def yX32_run : MethodName := ⟨RX32, "run", "(LRingHouse$Machine;LRingHouse$Decoded;LRingHouse$Registers;)Z"⟩
theorem q259 : (Jvm.Cond.initialized "RingHouse$Return") ∈ lw_all := lw_g (lw_at lw_m1 33 rfl) rfl
theorem q1270 : (Jvm.Cond.instantiable "RingHouse$Return" (3 : Nat)) ∈ lw_all := lw_g (lw_at lw_m5 84 rfl) rfl
theorem q1272 : (Jvm.Cond.instanceMethod ({ cls := "RingHouse$Return", name := "<init>", desc := "()V" } : Jvm.MethodName)) ∈ lw_all := lw_g (lw_at lw_m5 86 rfl) rfl
theorem q1273 : (Jvm.Cond.code ({ cls := "RingHouse$Return", name := "<init>", desc := "()V" } : Jvm.MethodName) prog_45_method_1_code (1 : Nat) (Option.none : Option Jvm.ClassFile.FieldType)) ∈ lw_all := lw_g (lw_at lw_m5 87 rfl) rfl
theorem q1274 : (Jvm.Cond.stringRef "RingHouse$Return" (3 : Nat) "ret") ∈ lw_tbl := lw_at lw_m5 88 rfl
theorem q1275 : (Jvm.Cond.methodLink "RingHouse$Return" (5 : Nat) ({ cls := "RingHouse$Operation", name := "<init>", desc := "(Ljava/lang/String;II)V" } : Jvm.MethodName)) ∈ lw_all := lw_g (lw_at lw_m5 89 rfl) rfl
theorem q1276 : (Jvm.Cond.laysFinal "RingHouse$Return" "RingHouse$Operation" "name" "Ljava/lang/String;") ∈ lw_all := lw_g (lw_at lw_m5 90 rfl) rfl
theorem q1277 : (Jvm.Cond.laysFinal "RingHouse$Return" "RingHouse$Operation" "sort" "I") ∈ lw_all := lw_g (lw_at lw_m5 91 rfl) rfl
theorem q1278 : (Jvm.Cond.laysFinal "RingHouse$Return" "RingHouse$Operation" "registers" "I") ∈ lw_all := lw_g (lw_at lw_m5 92 rfl) rfl
theorem q1279 : (Jvm.Cond.superclass "RingHouse$Return" "RingHouse$Operation") ∈ lw_all := lw_g (lw_at lw_m5 93 rfl) rfl
theorem q1570 : (Jvm.Cond.fieldLinkNest "RingHouse$Return" (11 : Nat) "RingHouse$Machine" "atRing" "I" "RingHouse") ∈ lw_tbl := lw_at lw_m6 144 rfl
theorem q2276 : (Jvm.Cond.selects "RingHouse$Return" ({ cls := "RingHouse$Operation", name := "takesMode", desc := "(I)Z" } : Jvm.MethodName) ({ cls := "RingHouse$Operation", name := "takesMode", desc := "(I)Z" } : Jvm.MethodName)) ∈ lw_all := lw_g (lw_at lw_m9 130 rfl) rfl
theorem q2486 : (Jvm.Cond.selects "RingHouse$Return" ({ cls := "RingHouse$Operation", name := "run", desc := "(LRingHouse$Machine;LRingHouse$Decoded;LRingHouse$Registers;)Z" } : Jvm.MethodName) ({ cls := "RingHouse$Return", name := "run", desc := "(LRingHouse$Machine;LRingHouse$Decoded;LRingHouse$Registers;)Z" } : Jvm.MethodName)) ∈ lw_all := lw_g (lw_at lw_m10 100 rfl) rfl
theorem q2487 : (Jvm.Cond.instanceMethod ({ cls := "RingHouse$Return", name := "run", desc := "(LRingHouse$Machine;LRingHouse$Decoded;LRingHouse$Registers;)Z" } : Jvm.MethodName)) ∈ lw_all := lw_g (lw_at lw_m10 101 rfl) rfl
theorem q2488 : (Jvm.Cond.code ({ cls := "RingHouse$Return", name := "run", desc := "(LRingHouse$Machine;LRingHouse$Decoded;LRingHouse$Registers;)Z" } : Jvm.MethodName) prog_45_method_2_code (4 : Nat) (Option.some Jvm.ClassFile.FieldType.boolean)) ∈ lw_all := lw_g (lw_at lw_m10 102 rfl) rfl
theorem q2489 : (Jvm.Cond.methodLinkNest "RingHouse$Return" (17 : Nat) ({ cls := "RingHouse$Machine", name := "cross", desc := "(I)V" } : Jvm.MethodName) "RingHouse") ∈ lw_tbl := lw_at lw_m10 103 rfl
theorem q4434 : (Jvm.Cond.castable "RingHouse$Return" "RingHouse$Operation") ∈ lw_tbl := lw_at lw_m18 128 rfl
theorem in_X32 : ∀ w ∈ wsX320, w ∈ lw_all := lw_in wsX320 [1276, 1277, 1278] (by decide +kernel) (by decide +kernel)
/-! RingHouse$Supervise -/
def RX33 : String := "RingHouse$Supervise"
def TX33 : u_T := fun k => match k with
  | 0 => ("RingHouse$Operation", "name", "Ljava/lang/String;", true)
  | 1 => ("RingHouse$Operation", "sort", "I", true)
  | _ => ("RingHouse$Operation", "registers", "I", true)
def tyX33 : Nat → FieldType := fun k => match k with
  | 0 => .object "java/lang/String"
  | 1 => .int
  | _ => .int
abbrev wsX330 : List Cond := u_ws RX33 TX33 3
theorem nmX33 : ∀ a, a < 3 → ∀ b, b < 3 → a ≠ b → (TX33 a).2.1 ≠ (TX33 b).2.1 := by decide +kernel
theorem tyX33_ok : ∀ k, k < 3 → parseFieldDescriptor (TX33 k).2.2.1 = some (tyX33 k) := by decide +kernel
abbrev cX33_init : ByteArray := prog_60_method_1_code
def yX33_init : MethodName := ⟨RX33, "<init>", "()V"⟩
abbrev cX33_run : ByteArray := prog_60_method_2_code
def yX33_run : MethodName := ⟨RX33, "run", "(LRingHouse$Machine;LRingHouse$Decoded;LRingHouse$Registers;)Z"⟩
theorem q260 : (Jvm.Cond.initialized "RingHouse$Supervise") ∈ lw_all := lw_g (lw_at lw_m1 34 rfl) rfl
theorem q764 : (Jvm.Cond.fieldLinkNest "RingHouse$Supervise" (11 : Nat) "RingHouse$Registers" "ring" "I" "RingHouse") ∈ lw_tbl := lw_at lw_m3 58 rfl
theorem q1281 : (Jvm.Cond.instantiable "RingHouse$Supervise" (3 : Nat)) ∈ lw_all := lw_g (lw_at lw_m5 95 rfl) rfl
theorem q1283 : (Jvm.Cond.instanceMethod ({ cls := "RingHouse$Supervise", name := "<init>", desc := "()V" } : Jvm.MethodName)) ∈ lw_all := lw_g (lw_at lw_m5 97 rfl) rfl
theorem q1284 : (Jvm.Cond.code ({ cls := "RingHouse$Supervise", name := "<init>", desc := "()V" } : Jvm.MethodName) prog_60_method_1_code (1 : Nat) (Option.none : Option Jvm.ClassFile.FieldType)) ∈ lw_all := lw_g (lw_at lw_m5 98 rfl) rfl
theorem q1285 : (Jvm.Cond.stringRef "RingHouse$Supervise" (3 : Nat) "svc") ∈ lw_tbl := lw_at lw_m5 99 rfl
theorem q1286 : (Jvm.Cond.methodLink "RingHouse$Supervise" (5 : Nat) ({ cls := "RingHouse$Operation", name := "<init>", desc := "(Ljava/lang/String;II)V" } : Jvm.MethodName)) ∈ lw_all := lw_g (lw_at lw_m5 100 rfl) rfl
theorem q1287 : (Jvm.Cond.laysFinal "RingHouse$Supervise" "RingHouse$Operation" "name" "Ljava/lang/String;") ∈ lw_all := lw_g (lw_at lw_m5 101 rfl) rfl
theorem q1288 : (Jvm.Cond.laysFinal "RingHouse$Supervise" "RingHouse$Operation" "sort" "I") ∈ lw_all := lw_g (lw_at lw_m5 102 rfl) rfl
theorem q1289 : (Jvm.Cond.laysFinal "RingHouse$Supervise" "RingHouse$Operation" "registers" "I") ∈ lw_all := lw_g (lw_at lw_m5 103 rfl) rfl
theorem q1290 : (Jvm.Cond.superclass "RingHouse$Supervise" "RingHouse$Operation") ∈ lw_all := lw_g (lw_at lw_m5 104 rfl) rfl
theorem q1539 : (Jvm.Cond.fieldLinkNest "RingHouse$Supervise" (22 : Nat) "RingHouse$Machine" "services" "[LRingHouse$Service;" "RingHouse") ∈ lw_tbl := lw_at lw_m6 113 rfl
theorem q1565 : (Jvm.Cond.fieldLinkNest "RingHouse$Supervise" (17 : Nat) "RingHouse$Machine" "atPlace" "I" "RingHouse") ∈ lw_tbl := lw_at lw_m6 139 rfl
theorem q2279 : (Jvm.Cond.selects "RingHouse$Supervise" ({ cls := "RingHouse$Operation", name := "takesMode", desc := "(I)Z" } : Jvm.MethodName) ({ cls := "RingHouse$Operation", name := "takesMode", desc := "(I)Z" } : Jvm.MethodName)) ∈ lw_all := lw_g (lw_at lw_m9 133 rfl) rfl
theorem q2497 : (Jvm.Cond.selects "RingHouse$Supervise" ({ cls := "RingHouse$Operation", name := "run", desc := "(LRingHouse$Machine;LRingHouse$Decoded;LRingHouse$Registers;)Z" } : Jvm.MethodName) ({ cls := "RingHouse$Supervise", name := "run", desc := "(LRingHouse$Machine;LRingHouse$Decoded;LRingHouse$Registers;)Z" } : Jvm.MethodName)) ∈ lw_all := lw_g (lw_at lw_m10 111 rfl) rfl
theorem q2498 : (Jvm.Cond.instanceMethod ({ cls := "RingHouse$Supervise", name := "run", desc := "(LRingHouse$Machine;LRingHouse$Decoded;LRingHouse$Registers;)Z" } : Jvm.MethodName)) ∈ lw_all := lw_g (lw_at lw_m10 112 rfl) rfl
theorem q2499 : (Jvm.Cond.code ({ cls := "RingHouse$Supervise", name := "run", desc := "(LRingHouse$Machine;LRingHouse$Decoded;LRingHouse$Registers;)Z" } : Jvm.MethodName) prog_60_method_2_code (4 : Nat) (Option.some Jvm.ClassFile.FieldType.boolean)) ∈ lw_all := lw_g (lw_at lw_m10 113 rfl) rfl
theorem q2500 : (Jvm.Cond.methodLinkNest "RingHouse$Supervise" (26 : Nat) ({ cls := "RingHouse$Machine", name := "refuseHere", desc := "(I)Z" } : Jvm.MethodName) "RingHouse") ∈ lw_tbl := lw_at lw_m10 114 rfl
theorem q2501 : (Jvm.Cond.methodLinkNest "RingHouse$Supervise" (30 : Nat) ({ cls := "RingHouse$Machine", name := "serve", desc := "(LRingHouse$Service;)Z" } : Jvm.MethodName) "RingHouse") ∈ lw_tbl := lw_at lw_m10 115 rfl
theorem q4437 : (Jvm.Cond.castable "RingHouse$Supervise" "RingHouse$Operation") ∈ lw_tbl := lw_at lw_m18 131 rfl
theorem in_X33 : ∀ w ∈ wsX330, w ∈ lw_all := lw_in wsX330 [1287, 1288, 1289] (by decide +kernel) (by decide +kernel)
/-! RingHouse$Exchange -/
def RX34 : String := "RingHouse$Exchange"
def TX34 : u_T := fun k => match k with
  | 0 => ("RingHouse$Operation", "name", "Ljava/lang/String;", true)
  | 1 => ("RingHouse$Operation", "sort", "I", true)
  | _ => ("RingHouse$Operation", "registers", "I", true)
def tyX34 : Nat → FieldType := fun k => match k with
  | 0 => .object "java/lang/String"
  | 1 => .int
  | _ => .int
abbrev wsX340 : List Cond := u_ws RX34 TX34 3
theorem nmX34 : ∀ a, a < 3 → ∀ b, b < 3 → a ≠ b → (TX34 a).2.1 ≠ (TX34 b).2.1 := by decide +kernel
theorem tyX34_ok : ∀ k, k < 3 → parseFieldDescriptor (TX34 k).2.2.1 = some (tyX34 k) := by decide +kernel
abbrev cX34_init : ByteArray := prog_16_method_1_code
def yX34_init : MethodName := ⟨RX34, "<init>", "()V"⟩
abbrev cX34_run : ByteArray := prog_16_method_2_code
def yX34_run : MethodName := ⟨RX34, "run", "(LRingHouse$Machine;LRingHouse$Decoded;LRingHouse$Registers;)Z"⟩
theorem q261 : (Jvm.Cond.initialized "RingHouse$Exchange") ∈ lw_all := lw_g (lw_at lw_m1 35 rfl) rfl
theorem q686 : (Jvm.Cond.fieldLinkNest "RingHouse$Exchange" (11 : Nat) "RingHouse$Registers" "a" "J" "RingHouse") ∈ lw_tbl := lw_at lw_m2 220 rfl
theorem q715 : (Jvm.Cond.fieldLinkNest "RingHouse$Exchange" (17 : Nat) "RingHouse$Registers" "q" "J" "RingHouse") ∈ lw_tbl := lw_at lw_m3 9 rfl
theorem q1292 : (Jvm.Cond.instantiable "RingHouse$Exchange" (3 : Nat)) ∈ lw_all := lw_g (lw_at lw_m5 106 rfl) rfl
theorem q1294 : (Jvm.Cond.instanceMethod ({ cls := "RingHouse$Exchange", name := "<init>", desc := "()V" } : Jvm.MethodName)) ∈ lw_all := lw_g (lw_at lw_m5 108 rfl) rfl
theorem q1295 : (Jvm.Cond.code ({ cls := "RingHouse$Exchange", name := "<init>", desc := "()V" } : Jvm.MethodName) prog_16_method_1_code (1 : Nat) (Option.none : Option Jvm.ClassFile.FieldType)) ∈ lw_all := lw_g (lw_at lw_m5 109 rfl) rfl
theorem q1296 : (Jvm.Cond.stringRef "RingHouse$Exchange" (3 : Nat) "xaq") ∈ lw_tbl := lw_at lw_m5 110 rfl
theorem q1297 : (Jvm.Cond.methodLink "RingHouse$Exchange" (5 : Nat) ({ cls := "RingHouse$Operation", name := "<init>", desc := "(Ljava/lang/String;II)V" } : Jvm.MethodName)) ∈ lw_all := lw_g (lw_at lw_m5 111 rfl) rfl
theorem q1298 : (Jvm.Cond.laysFinal "RingHouse$Exchange" "RingHouse$Operation" "name" "Ljava/lang/String;") ∈ lw_all := lw_g (lw_at lw_m5 112 rfl) rfl
theorem q1299 : (Jvm.Cond.laysFinal "RingHouse$Exchange" "RingHouse$Operation" "sort" "I") ∈ lw_all := lw_g (lw_at lw_m5 113 rfl) rfl
theorem q1300 : (Jvm.Cond.laysFinal "RingHouse$Exchange" "RingHouse$Operation" "registers" "I") ∈ lw_all := lw_g (lw_at lw_m5 114 rfl) rfl
theorem q1301 : (Jvm.Cond.superclass "RingHouse$Exchange" "RingHouse$Operation") ∈ lw_all := lw_g (lw_at lw_m5 115 rfl) rfl
theorem q2267 : (Jvm.Cond.selects "RingHouse$Exchange" ({ cls := "RingHouse$Operation", name := "takesMode", desc := "(I)Z" } : Jvm.MethodName) ({ cls := "RingHouse$Operation", name := "takesMode", desc := "(I)Z" } : Jvm.MethodName)) ∈ lw_all := lw_g (lw_at lw_m9 121 rfl) rfl
theorem q2431 : (Jvm.Cond.selects "RingHouse$Exchange" ({ cls := "RingHouse$Operation", name := "run", desc := "(LRingHouse$Machine;LRingHouse$Decoded;LRingHouse$Registers;)Z" } : Jvm.MethodName) ({ cls := "RingHouse$Exchange", name := "run", desc := "(LRingHouse$Machine;LRingHouse$Decoded;LRingHouse$Registers;)Z" } : Jvm.MethodName)) ∈ lw_all := lw_g (lw_at lw_m10 45 rfl) rfl
theorem q2432 : (Jvm.Cond.instanceMethod ({ cls := "RingHouse$Exchange", name := "run", desc := "(LRingHouse$Machine;LRingHouse$Decoded;LRingHouse$Registers;)Z" } : Jvm.MethodName)) ∈ lw_all := lw_g (lw_at lw_m10 46 rfl) rfl
theorem q2433 : (Jvm.Cond.code ({ cls := "RingHouse$Exchange", name := "run", desc := "(LRingHouse$Machine;LRingHouse$Decoded;LRingHouse$Registers;)Z" } : Jvm.MethodName) prog_16_method_2_code (6 : Nat) (Option.some Jvm.ClassFile.FieldType.boolean)) ∈ lw_all := lw_g (lw_at lw_m10 47 rfl) rfl
theorem q2434 : (Jvm.Cond.methodLink "RingHouse$Exchange" (20 : Nat) ({ cls := "RingHouse$Registers", name := "tell", desc := "(J)V" } : Jvm.MethodName)) ∈ lw_all := lw_g (lw_at lw_m10 48 rfl) rfl
theorem q4425 : (Jvm.Cond.castable "RingHouse$Exchange" "RingHouse$Operation") ∈ lw_tbl := lw_at lw_m18 119 rfl
theorem in_X34 : ∀ w ∈ wsX340, w ∈ lw_all := lw_in wsX340 [1298, 1299, 1300] (by decide +kernel) (by decide +kernel)
/-! RingHouse$Negate -/
def RX35 : String := "RingHouse$Negate"
def TX35 : u_T := fun k => match k with
  | 0 => ("RingHouse$Operation", "name", "Ljava/lang/String;", true)
  | 1 => ("RingHouse$Operation", "sort", "I", true)
  | _ => ("RingHouse$Operation", "registers", "I", true)
def tyX35 : Nat → FieldType := fun k => match k with
  | 0 => .object "java/lang/String"
  | 1 => .int
  | _ => .int
abbrev wsX350 : List Cond := u_ws RX35 TX35 3
theorem nmX35 : ∀ a, a < 3 → ∀ b, b < 3 → a ≠ b → (TX35 a).2.1 ≠ (TX35 b).2.1 := by decide +kernel
theorem tyX35_ok : ∀ k, k < 3 → parseFieldDescriptor (TX35 k).2.2.1 = some (tyX35 k) := by decide +kernel
abbrev cX35_init : ByteArray := prog_31_method_1_code
def yX35_init : MethodName := ⟨RX35, "<init>", "()V"⟩
abbrev cX35_run : ByteArray := prog_31_method_2_code
def yX35_run : MethodName := ⟨RX35, "run", "(LRingHouse$Machine;LRingHouse$Decoded;LRingHouse$Registers;)Z"⟩
theorem q262 : (Jvm.Cond.initialized "RingHouse$Negate") ∈ lw_all := lw_g (lw_at lw_m1 36 rfl) rfl
theorem q690 : (Jvm.Cond.fieldLinkNest "RingHouse$Negate" (11 : Nat) "RingHouse$Registers" "a" "J" "RingHouse") ∈ lw_tbl := lw_at lw_m2 224 rfl
theorem q1303 : (Jvm.Cond.instantiable "RingHouse$Negate" (3 : Nat)) ∈ lw_all := lw_g (lw_at lw_m5 117 rfl) rfl
theorem q1305 : (Jvm.Cond.instanceMethod ({ cls := "RingHouse$Negate", name := "<init>", desc := "()V" } : Jvm.MethodName)) ∈ lw_all := lw_g (lw_at lw_m5 119 rfl) rfl
theorem q1306 : (Jvm.Cond.code ({ cls := "RingHouse$Negate", name := "<init>", desc := "()V" } : Jvm.MethodName) prog_31_method_1_code (1 : Nat) (Option.none : Option Jvm.ClassFile.FieldType)) ∈ lw_all := lw_g (lw_at lw_m5 120 rfl) rfl
theorem q1307 : (Jvm.Cond.stringRef "RingHouse$Negate" (3 : Nat) "neg") ∈ lw_tbl := lw_at lw_m5 121 rfl
theorem q1308 : (Jvm.Cond.methodLink "RingHouse$Negate" (5 : Nat) ({ cls := "RingHouse$Operation", name := "<init>", desc := "(Ljava/lang/String;II)V" } : Jvm.MethodName)) ∈ lw_all := lw_g (lw_at lw_m5 122 rfl) rfl
theorem q1309 : (Jvm.Cond.laysFinal "RingHouse$Negate" "RingHouse$Operation" "name" "Ljava/lang/String;") ∈ lw_all := lw_g (lw_at lw_m5 123 rfl) rfl
theorem q1310 : (Jvm.Cond.laysFinal "RingHouse$Negate" "RingHouse$Operation" "sort" "I") ∈ lw_all := lw_g (lw_at lw_m5 124 rfl) rfl
theorem q1311 : (Jvm.Cond.laysFinal "RingHouse$Negate" "RingHouse$Operation" "registers" "I") ∈ lw_all := lw_g (lw_at lw_m5 125 rfl) rfl
theorem q1312 : (Jvm.Cond.superclass "RingHouse$Negate" "RingHouse$Operation") ∈ lw_all := lw_g (lw_at lw_m5 126 rfl) rfl
theorem q2272 : (Jvm.Cond.selects "RingHouse$Negate" ({ cls := "RingHouse$Operation", name := "takesMode", desc := "(I)Z" } : Jvm.MethodName) ({ cls := "RingHouse$Operation", name := "takesMode", desc := "(I)Z" } : Jvm.MethodName)) ∈ lw_all := lw_g (lw_at lw_m9 126 rfl) rfl
theorem q2468 : (Jvm.Cond.selects "RingHouse$Negate" ({ cls := "RingHouse$Operation", name := "run", desc := "(LRingHouse$Machine;LRingHouse$Decoded;LRingHouse$Registers;)Z" } : Jvm.MethodName) ({ cls := "RingHouse$Negate", name := "run", desc := "(LRingHouse$Machine;LRingHouse$Decoded;LRingHouse$Registers;)Z" } : Jvm.MethodName)) ∈ lw_all := lw_g (lw_at lw_m10 82 rfl) rfl
theorem q2469 : (Jvm.Cond.instanceMethod ({ cls := "RingHouse$Negate", name := "run", desc := "(LRingHouse$Machine;LRingHouse$Decoded;LRingHouse$Registers;)Z" } : Jvm.MethodName)) ∈ lw_all := lw_g (lw_at lw_m10 83 rfl) rfl
theorem q2470 : (Jvm.Cond.code ({ cls := "RingHouse$Negate", name := "run", desc := "(LRingHouse$Machine;LRingHouse$Decoded;LRingHouse$Registers;)Z" } : Jvm.MethodName) prog_31_method_2_code (4 : Nat) (Option.some Jvm.ClassFile.FieldType.boolean)) ∈ lw_all := lw_g (lw_at lw_m10 84 rfl) rfl
theorem q2471 : (Jvm.Cond.constantLong "RingHouse$Negate" (17 : Nat) (68719476735 : Int64)) ∈ lw_all := lw_g (lw_at lw_m10 85 rfl) rfl
theorem q2472 : (Jvm.Cond.methodLink "RingHouse$Negate" (19 : Nat) ({ cls := "RingHouse$Registers", name := "tell", desc := "(J)V" } : Jvm.MethodName)) ∈ lw_all := lw_g (lw_at lw_m10 86 rfl) rfl
theorem q4430 : (Jvm.Cond.castable "RingHouse$Negate" "RingHouse$Operation") ∈ lw_tbl := lw_at lw_m18 124 rfl
theorem in_X35 : ∀ w ∈ wsX350, w ∈ lw_all := lw_in wsX350 [1309, 1310, 1311] (by decide +kernel) (by decide +kernel)
/-! RingHouse$Service -/
def RX36 : String := "RingHouse$Service"
abbrev cX36_init : ByteArray := prog_51_method_1_code
def yX36_init : MethodName := ⟨RX36, "<init>", "()V"⟩
theorem q263 : (Jvm.Cond.initialized "RingHouse$Service") ∈ lw_all := lw_g (lw_at lw_m1 37 rfl) rfl
theorem q1321 : (Jvm.Cond.instanceMethod ({ cls := "RingHouse$Service", name := "<init>", desc := "()V" } : Jvm.MethodName)) ∈ lw_all := lw_g (lw_at lw_m5 135 rfl) rfl
theorem q1322 : (Jvm.Cond.code ({ cls := "RingHouse$Service", name := "<init>", desc := "()V" } : Jvm.MethodName) prog_51_method_1_code (1 : Nat) (Option.none : Option Jvm.ClassFile.FieldType)) ∈ lw_all := lw_g (lw_at lw_m5 136 rfl) rfl
theorem q1323 : (Jvm.Cond.methodLink "RingHouse$Service" (1 : Nat) ({ cls := "java/lang/Object", name := "<init>", desc := "()V" } : Jvm.MethodName)) ∈ lw_all := lw_g (lw_at lw_m5 137 rfl) rfl
theorem q2506 : (Jvm.Cond.declares ({ cls := "RingHouse$Service", name := "run", desc := "(LRingHouse$Machine;LRingHouse$Process;LRingHouse$Registers;)I" } : Jvm.MethodName)) ∈ lw_tbl := lw_at lw_m10 120 rfl
theorem q2507 : (Jvm.Cond.sameMethod "RingHouse$Service" "RingHouse$Service" "run" "(LRingHouse$Machine;LRingHouse$Process;LRingHouse$Registers;)I") ∈ lw_all := lw_g (lw_at lw_m10 121 rfl) rfl
/-! RingHouse$Print -/
def RX37 : String := "RingHouse$Print"
abbrev cX37_init : ByteArray := prog_37_method_1_code
def yX37_init : MethodName := ⟨RX37, "<init>", "()V"⟩
abbrev cX37_run : ByteArray := prog_37_method_2_code
def yX37_run : MethodName := ⟨RX37, "run", "(LRingHouse$Machine;LRingHouse$Process;LRingHouse$Registers;)I"⟩
theorem q264 : (Jvm.Cond.initialized "RingHouse$Print") ∈ lw_all := lw_g (lw_at lw_m1 38 rfl) rfl
theorem q694 : (Jvm.Cond.fieldLinkNest "RingHouse$Print" (9 : Nat) "RingHouse$Registers" "a" "J" "RingHouse") ∈ lw_tbl := lw_at lw_m2 228 rfl
theorem q1316 : (Jvm.Cond.instantiable "RingHouse$Print" (0 : Nat)) ∈ lw_all := lw_g (lw_at lw_m5 130 rfl) rfl
theorem q1318 : (Jvm.Cond.instanceMethod ({ cls := "RingHouse$Print", name := "<init>", desc := "()V" } : Jvm.MethodName)) ∈ lw_all := lw_g (lw_at lw_m5 132 rfl) rfl
theorem q1319 : (Jvm.Cond.code ({ cls := "RingHouse$Print", name := "<init>", desc := "()V" } : Jvm.MethodName) prog_37_method_1_code (1 : Nat) (Option.none : Option Jvm.ClassFile.FieldType)) ∈ lw_all := lw_g (lw_at lw_m5 133 rfl) rfl
theorem q1320 : (Jvm.Cond.methodLinkNest "RingHouse$Print" (3 : Nat) ({ cls := "RingHouse$Service", name := "<init>", desc := "()V" } : Jvm.MethodName) "RingHouse") ∈ lw_tbl := lw_at lw_m5 134 rfl
theorem q1324 : (Jvm.Cond.superclass "RingHouse$Print" "RingHouse$Service") ∈ lw_all := lw_g (lw_at lw_m5 138 rfl) rfl
theorem q2664 : (Jvm.Cond.selects "RingHouse$Print" ({ cls := "RingHouse$Service", name := "run", desc := "(LRingHouse$Machine;LRingHouse$Process;LRingHouse$Registers;)I" } : Jvm.MethodName) ({ cls := "RingHouse$Print", name := "run", desc := "(LRingHouse$Machine;LRingHouse$Process;LRingHouse$Registers;)I" } : Jvm.MethodName)) ∈ lw_all := lw_g (lw_at lw_m11 38 rfl) rfl
theorem q2665 : (Jvm.Cond.instanceMethod ({ cls := "RingHouse$Print", name := "run", desc := "(LRingHouse$Machine;LRingHouse$Process;LRingHouse$Registers;)I" } : Jvm.MethodName)) ∈ lw_all := lw_g (lw_at lw_m11 39 rfl) rfl
theorem q2666 : (Jvm.Cond.code ({ cls := "RingHouse$Print", name := "run", desc := "(LRingHouse$Machine;LRingHouse$Process;LRingHouse$Registers;)I" } : Jvm.MethodName) prog_37_method_2_code (4 : Nat) (Option.some Jvm.ClassFile.FieldType.int)) ∈ lw_all := lw_g (lw_at lw_m11 40 rfl) rfl
theorem q2667 : (Jvm.Cond.methodLink "RingHouse$Print" (15 : Nat) ({ cls := "RingHouse$Process", name := "event", desc := "(IJJJ)V" } : Jvm.MethodName)) ∈ lw_all := lw_g (lw_at lw_m11 41 rfl) rfl
theorem q4450 : (Jvm.Cond.castable "RingHouse$Print" "RingHouse$Service") ∈ lw_tbl := lw_at lw_m18 144 rfl
/-! RingHouse$Entered -/
def RX38 : String := "RingHouse$Entered"
abbrev cX38_init : ByteArray := prog_15_method_1_code
def yX38_init : MethodName := ⟨RX38, "<init>", "(I)V"⟩
abbrev cX38_run : ByteArray := prog_15_method_2_code
def yX38_run : MethodName := ⟨RX38, "run", "(LRingHouse$Machine;LRingHouse$Process;LRingHouse$Registers;)I"⟩
theorem q265 : (Jvm.Cond.initialized "RingHouse$Entered") ∈ lw_all := lw_g (lw_at lw_m1 39 rfl) rfl
theorem q589 : (Jvm.Cond.fieldLinkNest "RingHouse$Entered" (44 : Nat) "RingHouse$Tree" "index" "LRingHouse$Index;" "RingHouse") ∈ lw_tbl := lw_at lw_m2 123 rfl
theorem q701 : (Jvm.Cond.fieldLinkNest "RingHouse$Entered" (30 : Nat) "RingHouse$Registers" "a" "J" "RingHouse") ∈ lw_tbl := lw_at lw_m2 235 rfl
theorem q922 : (Jvm.Cond.fieldLinkNest "RingHouse$Entered" (15 : Nat) "RingHouse$Process" "work" "LRingHouse$Node;" "RingHouse") ∈ lw_tbl := lw_at lw_m3 216 rfl
theorem q1331 : (Jvm.Cond.instanceMethod ({ cls := "RingHouse$Entered", name := "<init>", desc := "(I)V" } : Jvm.MethodName)) ∈ lw_all := lw_g (lw_at lw_m5 145 rfl) rfl
theorem q1332 : (Jvm.Cond.code ({ cls := "RingHouse$Entered", name := "<init>", desc := "(I)V" } : Jvm.MethodName) prog_15_method_1_code (2 : Nat) (Option.none : Option Jvm.ClassFile.FieldType)) ∈ lw_all := lw_g (lw_at lw_m5 146 rfl) rfl
theorem q1333 : (Jvm.Cond.methodLinkNest "RingHouse$Entered" (3 : Nat) ({ cls := "RingHouse$Service", name := "<init>", desc := "()V" } : Jvm.MethodName) "RingHouse") ∈ lw_tbl := lw_at lw_m5 147 rfl
theorem q1334 : (Jvm.Cond.fieldLink "RingHouse$Entered" (9 : Nat) "RingHouse$Entered" "how" "I") ∈ lw_all := lw_g (lw_at lw_m5 148 rfl) rfl
theorem q1336 : (Jvm.Cond.soleField "RingHouse$Entered" "how") ∈ lw_all := lw_g (lw_at lw_m5 150 rfl) rfl
theorem q1530 : (Jvm.Cond.fieldLinkNest "RingHouse$Entered" (40 : Nat) "RingHouse$Machine" "tree" "LRingHouse$Tree;" "RingHouse") ∈ lw_tbl := lw_at lw_m6 104 rfl
theorem q1544 : (Jvm.Cond.fieldLinkNest "RingHouse$Entered" (21 : Nat) "RingHouse$Machine" "asked" "LRingHouse$Node;" "RingHouse") ∈ lw_tbl := lw_at lw_m6 118 rfl
theorem q2529 : (Jvm.Cond.instanceMethod ({ cls := "RingHouse$Entered", name := "run", desc := "(LRingHouse$Machine;LRingHouse$Process;LRingHouse$Registers;)I" } : Jvm.MethodName)) ∈ lw_all := lw_g (lw_at lw_m10 143 rfl) rfl
theorem q2530 : (Jvm.Cond.code ({ cls := "RingHouse$Entered", name := "run", desc := "(LRingHouse$Machine;LRingHouse$Process;LRingHouse$Registers;)I" } : Jvm.MethodName) prog_15_method_2_code (6 : Nat) (Option.some Jvm.ClassFile.FieldType.int)) ∈ lw_all := lw_g (lw_at lw_m10 144 rfl) rfl
theorem q2531 : (Jvm.Cond.methodLink "RingHouse$Entered" (26 : Nat) ({ cls := "RingHouse$Process", name := "refusal", desc := "(LRingHouse$Node;I)I" } : Jvm.MethodName)) ∈ lw_all := lw_g (lw_at lw_m10 145 rfl) rfl
theorem q2532 : (Jvm.Cond.methodLinkNest "RingHouse$Entered" (36 : Nat) ({ cls := "RingHouse", name := "isName", desc := "(J)Z" } : Jvm.MethodName) "RingHouse") ∈ lw_tbl := lw_at lw_m10 146 rfl
theorem q2533 : (Jvm.Cond.methodLink "RingHouse$Entered" (50 : Nat) ({ cls := "RingHouse$Index", name := "find", desc := "(LRingHouse$Node;J)LRingHouse$Node;" } : Jvm.MethodName)) ∈ lw_all := lw_g (lw_at lw_m10 147 rfl) rfl
theorem q2534 : (Jvm.Cond.methodLink "RingHouse$Entered" (56 : Nat) ({ cls := "RingHouse$Entered", name := "on", desc := "(LRingHouse$Machine;LRingHouse$Node;LRingHouse$Process;LRingHouse$Registers;)I" } : Jvm.MethodName)) ∈ lw_all := lw_g (lw_at lw_m10 148 rfl) rfl
theorem q2535 : (Jvm.Cond.declares ({ cls := "RingHouse$Entered", name := "on", desc := "(LRingHouse$Machine;LRingHouse$Node;LRingHouse$Process;LRingHouse$Registers;)I" } : Jvm.MethodName)) ∈ lw_tbl := lw_at lw_m10 149 rfl
theorem q2536 : (Jvm.Cond.sameMethod "RingHouse$Entered" "RingHouse$Entered" "on" "(LRingHouse$Machine;LRingHouse$Node;LRingHouse$Process;LRingHouse$Registers;)I") ∈ lw_all := lw_g (lw_at lw_m10 150 rfl) rfl
/-! RingHouse$Enter -/
def RX39 : String := "RingHouse$Enter"
def TX39 : u_T := fun k => match k with
  | _ => ("RingHouse$Entered", "how", "I", true)
def tyX39 : Nat → FieldType := fun k => match k with
  | _ => .int
abbrev wsX390 : List Cond := u_ws RX39 TX39 1
theorem nmX39 : ∀ a, a < 1 → ∀ b, b < 1 → a ≠ b → (TX39 a).2.1 ≠ (TX39 b).2.1 := by decide +kernel
theorem tyX39_ok : ∀ k, k < 1 → parseFieldDescriptor (TX39 k).2.2.1 = some (tyX39 k) := by decide +kernel
abbrev cX39_init : ByteArray := prog_14_method_1_code
def yX39_init : MethodName := ⟨RX39, "<init>", "()V"⟩
abbrev cX39_on : ByteArray := prog_14_method_2_code
def yX39_on : MethodName := ⟨RX39, "on", "(LRingHouse$Machine;LRingHouse$Node;LRingHouse$Process;LRingHouse$Registers;)I"⟩
theorem q266 : (Jvm.Cond.initialized "RingHouse$Enter") ∈ lw_all := lw_g (lw_at lw_m1 40 rfl) rfl
theorem q389 : (Jvm.Cond.fieldLinkNest "RingHouse$Enter" (21 : Nat) "RingHouse$Node" "label" "I" "RingHouse") ∈ lw_tbl := lw_at lw_m1 163 rfl
theorem q881 : (Jvm.Cond.fieldLinkNest "RingHouse$Enter" (15 : Nat) "RingHouse$Process" "label" "I" "RingHouse") ∈ lw_tbl := lw_at lw_m3 175 rfl
theorem q926 : (Jvm.Cond.fieldLinkNest "RingHouse$Enter" (26 : Nat) "RingHouse$Process" "work" "LRingHouse$Node;" "RingHouse") ∈ lw_tbl := lw_at lw_m3 220 rfl
theorem q1326 : (Jvm.Cond.instantiable "RingHouse$Enter" (1 : Nat)) ∈ lw_all := lw_g (lw_at lw_m5 140 rfl) rfl
theorem q1328 : (Jvm.Cond.instanceMethod ({ cls := "RingHouse$Enter", name := "<init>", desc := "()V" } : Jvm.MethodName)) ∈ lw_all := lw_g (lw_at lw_m5 142 rfl) rfl
theorem q1329 : (Jvm.Cond.code ({ cls := "RingHouse$Enter", name := "<init>", desc := "()V" } : Jvm.MethodName) prog_14_method_1_code (1 : Nat) (Option.none : Option Jvm.ClassFile.FieldType)) ∈ lw_all := lw_g (lw_at lw_m5 143 rfl) rfl
theorem q1330 : (Jvm.Cond.methodLink "RingHouse$Enter" (3 : Nat) ({ cls := "RingHouse$Entered", name := "<init>", desc := "(I)V" } : Jvm.MethodName)) ∈ lw_all := lw_g (lw_at lw_m5 144 rfl) rfl
theorem q1335 : (Jvm.Cond.laysFinal "RingHouse$Enter" "RingHouse$Entered" "how" "I") ∈ lw_all := lw_g (lw_at lw_m5 149 rfl) rfl
theorem q1337 : (Jvm.Cond.superclass "RingHouse$Enter" "RingHouse$Entered") ∈ lw_all := lw_g (lw_at lw_m5 151 rfl) rfl
theorem q2545 : (Jvm.Cond.selects "RingHouse$Enter" ({ cls := "RingHouse$Entered", name := "on", desc := "(LRingHouse$Machine;LRingHouse$Node;LRingHouse$Process;LRingHouse$Registers;)I" } : Jvm.MethodName) ({ cls := "RingHouse$Enter", name := "on", desc := "(LRingHouse$Machine;LRingHouse$Node;LRingHouse$Process;LRingHouse$Registers;)I" } : Jvm.MethodName)) ∈ lw_all := lw_g (lw_at lw_m10 159 rfl) rfl
theorem q2546 : (Jvm.Cond.instanceMethod ({ cls := "RingHouse$Enter", name := "on", desc := "(LRingHouse$Machine;LRingHouse$Node;LRingHouse$Process;LRingHouse$Registers;)I" } : Jvm.MethodName)) ∈ lw_all := lw_g (lw_at lw_m10 160 rfl) rfl
theorem q2547 : (Jvm.Cond.code ({ cls := "RingHouse$Enter", name := "on", desc := "(LRingHouse$Machine;LRingHouse$Node;LRingHouse$Process;LRingHouse$Registers;)I" } : Jvm.MethodName) prog_14_method_2_code (5 : Nat) (Option.some Jvm.ClassFile.FieldType.int)) ∈ lw_all := lw_g (lw_at lw_m10 161 rfl) rfl
theorem q2548 : (Jvm.Cond.methodLink "RingHouse$Enter" (9 : Nat) ({ cls := "RingHouse$Node", name := "isDirectory", desc := "()Z" } : Jvm.MethodName)) ∈ lw_all := lw_g (lw_at lw_m10 162 rfl) rfl
theorem q2549 : (Jvm.Cond.methodLinkNest "RingHouse$Enter" (22 : Nat) ({ cls := "RingHouse", name := "dominates", desc := "(II)Z" } : Jvm.MethodName) "RingHouse") ∈ lw_tbl := lw_at lw_m10 163 rfl
theorem q2632 : (Jvm.Cond.selects "RingHouse$Enter" ({ cls := "RingHouse$Service", name := "run", desc := "(LRingHouse$Machine;LRingHouse$Process;LRingHouse$Registers;)I" } : Jvm.MethodName) ({ cls := "RingHouse$Entered", name := "run", desc := "(LRingHouse$Machine;LRingHouse$Process;LRingHouse$Registers;)I" } : Jvm.MethodName)) ∈ lw_all := lw_g (lw_at lw_m11 6 rfl) rfl
theorem q4442 : (Jvm.Cond.castable "RingHouse$Enter" "RingHouse$Service") ∈ lw_tbl := lw_at lw_m18 136 rfl
theorem in_X39 : ∀ w ∈ wsX390, w ∈ lw_all := lw_in wsX390 [1335] (by decide +kernel) (by decide +kernel)
/-! RingHouse$Leave -/
def RX40 : String := "RingHouse$Leave"
def TX40 : u_T := fun k => match k with
  | _ => ("RingHouse$Leave", "toRoot", "Z", true)
def tyX40 : Nat → FieldType := fun k => match k with
  | _ => .boolean
abbrev wsX400 : List Cond := u_ws RX40 TX40 1
theorem nmX40 : ∀ a, a < 1 → ∀ b, b < 1 → a ≠ b → (TX40 a).2.1 ≠ (TX40 b).2.1 := by decide +kernel
theorem tyX40_ok : ∀ k, k < 1 → parseFieldDescriptor (TX40 k).2.2.1 = some (tyX40 k) := by decide +kernel
abbrev cX40_init : ByteArray := prog_23_method_1_code
def yX40_init : MethodName := ⟨RX40, "<init>", "(Z)V"⟩
abbrev cX40_run : ByteArray := prog_23_method_2_code
def yX40_run : MethodName := ⟨RX40, "run", "(LRingHouse$Machine;LRingHouse$Process;LRingHouse$Registers;)I"⟩
theorem q267 : (Jvm.Cond.initialized "RingHouse$Leave") ∈ lw_all := lw_g (lw_at lw_m1 41 rfl) rfl
theorem q396 : (Jvm.Cond.fieldLinkNest "RingHouse$Leave" (32 : Nat) "RingHouse$Node" "parent" "LRingHouse$Node;" "RingHouse") ∈ lw_tbl := lw_at lw_m1 170 rfl
theorem q596 : (Jvm.Cond.fieldLinkNest "RingHouse$Leave" (27 : Nat) "RingHouse$Tree" "root" "LRingHouse$Node;" "RingHouse") ∈ lw_tbl := lw_at lw_m2 130 rfl
theorem q925 : (Jvm.Cond.fieldLinkNest "RingHouse$Leave" (15 : Nat) "RingHouse$Process" "work" "LRingHouse$Node;" "RingHouse") ∈ lw_tbl := lw_at lw_m3 219 rfl
theorem q1339 : (Jvm.Cond.instantiable "RingHouse$Leave" (1 : Nat)) ∈ lw_all := lw_g (lw_at lw_m5 153 rfl) rfl
theorem q1341 : (Jvm.Cond.instanceMethod ({ cls := "RingHouse$Leave", name := "<init>", desc := "(Z)V" } : Jvm.MethodName)) ∈ lw_all := lw_g (lw_at lw_m5 155 rfl) rfl
theorem q1342 : (Jvm.Cond.code ({ cls := "RingHouse$Leave", name := "<init>", desc := "(Z)V" } : Jvm.MethodName) prog_23_method_1_code (2 : Nat) (Option.none : Option Jvm.ClassFile.FieldType)) ∈ lw_all := lw_g (lw_at lw_m5 156 rfl) rfl
theorem q1343 : (Jvm.Cond.methodLinkNest "RingHouse$Leave" (3 : Nat) ({ cls := "RingHouse$Service", name := "<init>", desc := "()V" } : Jvm.MethodName) "RingHouse") ∈ lw_tbl := lw_at lw_m5 157 rfl
theorem q1344 : (Jvm.Cond.fieldLink "RingHouse$Leave" (9 : Nat) "RingHouse$Leave" "toRoot" "Z") ∈ lw_all := lw_g (lw_at lw_m5 158 rfl) rfl
theorem q1345 : (Jvm.Cond.laysFinal "RingHouse$Leave" "RingHouse$Leave" "toRoot" "Z") ∈ lw_all := lw_g (lw_at lw_m5 159 rfl) rfl
theorem q1346 : (Jvm.Cond.soleField "RingHouse$Leave" "toRoot") ∈ lw_all := lw_g (lw_at lw_m5 160 rfl) rfl
theorem q1347 : (Jvm.Cond.superclass "RingHouse$Leave" "RingHouse$Service") ∈ lw_all := lw_g (lw_at lw_m5 161 rfl) rfl
theorem q1527 : (Jvm.Cond.fieldLinkNest "RingHouse$Leave" (21 : Nat) "RingHouse$Machine" "tree" "LRingHouse$Tree;" "RingHouse") ∈ lw_tbl := lw_at lw_m6 101 rfl
theorem q2647 : (Jvm.Cond.selects "RingHouse$Leave" ({ cls := "RingHouse$Service", name := "run", desc := "(LRingHouse$Machine;LRingHouse$Process;LRingHouse$Registers;)I" } : Jvm.MethodName) ({ cls := "RingHouse$Leave", name := "run", desc := "(LRingHouse$Machine;LRingHouse$Process;LRingHouse$Registers;)I" } : Jvm.MethodName)) ∈ lw_all := lw_g (lw_at lw_m11 21 rfl) rfl
theorem q2648 : (Jvm.Cond.instanceMethod ({ cls := "RingHouse$Leave", name := "run", desc := "(LRingHouse$Machine;LRingHouse$Process;LRingHouse$Registers;)I" } : Jvm.MethodName)) ∈ lw_all := lw_g (lw_at lw_m11 22 rfl) rfl
theorem q2649 : (Jvm.Cond.code ({ cls := "RingHouse$Leave", name := "run", desc := "(LRingHouse$Machine;LRingHouse$Process;LRingHouse$Registers;)I" } : Jvm.MethodName) prog_23_method_2_code (4 : Nat) (Option.some Jvm.ClassFile.FieldType.int)) ∈ lw_all := lw_g (lw_at lw_m11 23 rfl) rfl
theorem q4446 : (Jvm.Cond.castable "RingHouse$Leave" "RingHouse$Service") ∈ lw_tbl := lw_at lw_m18 140 rfl
theorem in_X40 : ∀ w ∈ wsX400, w ∈ lw_all := lw_in wsX400 [1345] (by decide +kernel) (by decide +kernel)
/-! RingHouse$Know -/
def RX41 : String := "RingHouse$Know"
def TX41 : u_T := fun k => match k with
  | _ => ("RingHouse$Entered", "how", "I", true)
def tyX41 : Nat → FieldType := fun k => match k with
  | _ => .int
abbrev wsX410 : List Cond := u_ws RX41 TX41 1
theorem nmX41 : ∀ a, a < 1 → ∀ b, b < 1 → a ≠ b → (TX41 a).2.1 ≠ (TX41 b).2.1 := by decide +kernel
theorem tyX41_ok : ∀ k, k < 1 → parseFieldDescriptor (TX41 k).2.2.1 = some (tyX41 k) := by decide +kernel
abbrev cX41_init : ByteArray := prog_22_method_1_code
def yX41_init : MethodName := ⟨RX41, "<init>", "()V"⟩
abbrev cX41_on : ByteArray := prog_22_method_2_code
def yX41_on : MethodName := ⟨RX41, "on", "(LRingHouse$Machine;LRingHouse$Node;LRingHouse$Process;LRingHouse$Registers;)I"⟩
theorem q268 : (Jvm.Cond.initialized "RingHouse$Know") ∈ lw_all := lw_g (lw_at lw_m1 42 rfl) rfl
theorem q409 : (Jvm.Cond.fieldLinkNest "RingHouse$Know" (15 : Nat) "RingHouse$Node" "acl" "LRingHouse$Acl;" "RingHouse") ∈ lw_tbl := lw_at lw_m1 183 rfl
theorem q723 : (Jvm.Cond.fieldLinkNest "RingHouse$Know" (38 : Nat) "RingHouse$Registers" "q" "J" "RingHouse") ∈ lw_tbl := lw_at lw_m3 17 rfl
theorem q867 : (Jvm.Cond.fieldLinkNest "RingHouse$Know" (19 : Nat) "RingHouse$Process" "person" "I" "RingHouse") ∈ lw_tbl := lw_at lw_m3 161 rfl
theorem q873 : (Jvm.Cond.fieldLinkNest "RingHouse$Know" (25 : Nat) "RingHouse$Process" "project" "I" "RingHouse") ∈ lw_tbl := lw_at lw_m3 167 rfl
theorem q1349 : (Jvm.Cond.instantiable "RingHouse$Know" (1 : Nat)) ∈ lw_all := lw_g (lw_at lw_m5 163 rfl) rfl
theorem q1351 : (Jvm.Cond.instanceMethod ({ cls := "RingHouse$Know", name := "<init>", desc := "()V" } : Jvm.MethodName)) ∈ lw_all := lw_g (lw_at lw_m5 165 rfl) rfl
theorem q1352 : (Jvm.Cond.code ({ cls := "RingHouse$Know", name := "<init>", desc := "()V" } : Jvm.MethodName) prog_22_method_1_code (1 : Nat) (Option.none : Option Jvm.ClassFile.FieldType)) ∈ lw_all := lw_g (lw_at lw_m5 166 rfl) rfl
theorem q1353 : (Jvm.Cond.methodLink "RingHouse$Know" (3 : Nat) ({ cls := "RingHouse$Entered", name := "<init>", desc := "(I)V" } : Jvm.MethodName)) ∈ lw_all := lw_g (lw_at lw_m5 167 rfl) rfl
theorem q1354 : (Jvm.Cond.laysFinal "RingHouse$Know" "RingHouse$Entered" "how" "I") ∈ lw_all := lw_g (lw_at lw_m5 168 rfl) rfl
theorem q1355 : (Jvm.Cond.superclass "RingHouse$Know" "RingHouse$Entered") ∈ lw_all := lw_g (lw_at lw_m5 169 rfl) rfl
theorem q2550 : (Jvm.Cond.selects "RingHouse$Know" ({ cls := "RingHouse$Entered", name := "on", desc := "(LRingHouse$Machine;LRingHouse$Node;LRingHouse$Process;LRingHouse$Registers;)I" } : Jvm.MethodName) ({ cls := "RingHouse$Know", name := "on", desc := "(LRingHouse$Machine;LRingHouse$Node;LRingHouse$Process;LRingHouse$Registers;)I" } : Jvm.MethodName)) ∈ lw_all := lw_g (lw_at lw_m10 164 rfl) rfl
theorem q2551 : (Jvm.Cond.instanceMethod ({ cls := "RingHouse$Know", name := "on", desc := "(LRingHouse$Machine;LRingHouse$Node;LRingHouse$Process;LRingHouse$Registers;)I" } : Jvm.MethodName)) ∈ lw_all := lw_g (lw_at lw_m10 165 rfl) rfl
theorem q2552 : (Jvm.Cond.code ({ cls := "RingHouse$Know", name := "on", desc := "(LRingHouse$Machine;LRingHouse$Node;LRingHouse$Process;LRingHouse$Registers;)I" } : Jvm.MethodName) prog_22_method_2_code (6 : Nat) (Option.some Jvm.ClassFile.FieldType.int)) ∈ lw_all := lw_g (lw_at lw_m10 166 rfl) rfl
theorem q2553 : (Jvm.Cond.methodLink "RingHouse$Know" (9 : Nat) ({ cls := "RingHouse$Node", name := "isSegment", desc := "()Z" } : Jvm.MethodName)) ∈ lw_all := lw_g (lw_at lw_m10 167 rfl) rfl
theorem q2554 : (Jvm.Cond.methodLink "RingHouse$Know" (28 : Nat) ({ cls := "RingHouse$Acl", name := "of", desc := "(II)I" } : Jvm.MethodName)) ∈ lw_all := lw_g (lw_at lw_m10 168 rfl) rfl
theorem q2555 : (Jvm.Cond.methodLink "RingHouse$Know" (34 : Nat) ({ cls := "RingHouse$Process", name := "numberFor", desc := "(LRingHouse$Node;)I" } : Jvm.MethodName)) ∈ lw_all := lw_g (lw_at lw_m10 169 rfl) rfl
theorem q2646 : (Jvm.Cond.selects "RingHouse$Know" ({ cls := "RingHouse$Service", name := "run", desc := "(LRingHouse$Machine;LRingHouse$Process;LRingHouse$Registers;)I" } : Jvm.MethodName) ({ cls := "RingHouse$Entered", name := "run", desc := "(LRingHouse$Machine;LRingHouse$Process;LRingHouse$Registers;)I" } : Jvm.MethodName)) ∈ lw_all := lw_g (lw_at lw_m11 20 rfl) rfl
theorem q4445 : (Jvm.Cond.castable "RingHouse$Know" "RingHouse$Service") ∈ lw_tbl := lw_at lw_m18 139 rfl
theorem in_X41 : ∀ w ∈ wsX410, w ∈ lw_all := lw_in wsX410 [1354] (by decide +kernel) (by decide +kernel)
/-! RingHouse$Forget -/
def RX42 : String := "RingHouse$Forget"
abbrev cX42_init : ByteArray := prog_17_method_1_code
def yX42_init : MethodName := ⟨RX42, "<init>", "()V"⟩
abbrev cX42_run : ByteArray := prog_17_method_2_code
def yX42_run : MethodName := ⟨RX42, "run", "(LRingHouse$Machine;LRingHouse$Process;LRingHouse$Registers;)I"⟩
theorem q269 : (Jvm.Cond.initialized "RingHouse$Forget") ∈ lw_all := lw_g (lw_at lw_m1 43 rfl) rfl
theorem q691 : (Jvm.Cond.fieldLinkNest "RingHouse$Forget" (9 : Nat) "RingHouse$Registers" "a" "J" "RingHouse") ∈ lw_tbl := lw_at lw_m2 225 rfl
theorem q1357 : (Jvm.Cond.instantiable "RingHouse$Forget" (0 : Nat)) ∈ lw_all := lw_g (lw_at lw_m5 171 rfl) rfl
theorem q1359 : (Jvm.Cond.instanceMethod ({ cls := "RingHouse$Forget", name := "<init>", desc := "()V" } : Jvm.MethodName)) ∈ lw_all := lw_g (lw_at lw_m5 173 rfl) rfl
theorem q1360 : (Jvm.Cond.code ({ cls := "RingHouse$Forget", name := "<init>", desc := "()V" } : Jvm.MethodName) prog_17_method_1_code (1 : Nat) (Option.none : Option Jvm.ClassFile.FieldType)) ∈ lw_all := lw_g (lw_at lw_m5 174 rfl) rfl
theorem q1361 : (Jvm.Cond.methodLinkNest "RingHouse$Forget" (3 : Nat) ({ cls := "RingHouse$Service", name := "<init>", desc := "()V" } : Jvm.MethodName) "RingHouse") ∈ lw_tbl := lw_at lw_m5 175 rfl
theorem q1362 : (Jvm.Cond.superclass "RingHouse$Forget" "RingHouse$Service") ∈ lw_all := lw_g (lw_at lw_m5 176 rfl) rfl
theorem q2633 : (Jvm.Cond.selects "RingHouse$Forget" ({ cls := "RingHouse$Service", name := "run", desc := "(LRingHouse$Machine;LRingHouse$Process;LRingHouse$Registers;)I" } : Jvm.MethodName) ({ cls := "RingHouse$Forget", name := "run", desc := "(LRingHouse$Machine;LRingHouse$Process;LRingHouse$Registers;)I" } : Jvm.MethodName)) ∈ lw_all := lw_g (lw_at lw_m11 7 rfl) rfl
theorem q2634 : (Jvm.Cond.instanceMethod ({ cls := "RingHouse$Forget", name := "run", desc := "(LRingHouse$Machine;LRingHouse$Process;LRingHouse$Registers;)I" } : Jvm.MethodName)) ∈ lw_all := lw_g (lw_at lw_m11 8 rfl) rfl
theorem q2635 : (Jvm.Cond.code ({ cls := "RingHouse$Forget", name := "run", desc := "(LRingHouse$Machine;LRingHouse$Process;LRingHouse$Registers;)I" } : Jvm.MethodName) prog_17_method_2_code (4 : Nat) (Option.some Jvm.ClassFile.FieldType.int)) ∈ lw_all := lw_g (lw_at lw_m11 9 rfl) rfl
theorem q2636 : (Jvm.Cond.methodLinkNest "RingHouse$Forget" (15 : Nat) ({ cls := "RingHouse$Machine", name := "isKnown", desc := "(LRingHouse$Process;J)Z" } : Jvm.MethodName) "RingHouse") ∈ lw_tbl := lw_at lw_m11 10 rfl
theorem q2642 : (Jvm.Cond.methodLink "RingHouse$Forget" (21 : Nat) ({ cls := "RingHouse$Process", name := "forget", desc := "(I)V" } : Jvm.MethodName)) ∈ lw_all := lw_g (lw_at lw_m11 16 rfl) rfl
theorem q4443 : (Jvm.Cond.castable "RingHouse$Forget" "RingHouse$Service") ∈ lw_tbl := lw_at lw_m18 137 rfl
/-! RingHouse$NameOf -/
def RX43 : String := "RingHouse$NameOf"
abbrev cX43_init : ByteArray := prog_30_method_1_code
def yX43_init : MethodName := ⟨RX43, "<init>", "()V"⟩
abbrev cX43_run : ByteArray := prog_30_method_2_code
def yX43_run : MethodName := ⟨RX43, "run", "(LRingHouse$Machine;LRingHouse$Process;LRingHouse$Registers;)I"⟩
theorem q270 : (Jvm.Cond.initialized "RingHouse$NameOf") ∈ lw_all := lw_g (lw_at lw_m1 44 rfl) rfl
theorem q382 : (Jvm.Cond.fieldLinkNest "RingHouse$NameOf" (38 : Nat) "RingHouse$Node" "name" "J" "RingHouse") ∈ lw_tbl := lw_at lw_m1 156 rfl
theorem q403 : (Jvm.Cond.fieldLinkNest "RingHouse$NameOf" (35 : Nat) "RingHouse$Node" "behind" "LRingHouse$Node;" "RingHouse") ∈ lw_tbl := lw_at lw_m1 177 rfl
theorem q442 : (Jvm.Cond.fieldLinkNest "RingHouse$NameOf" (24 : Nat) "RingHouse$Node" "first" "LRingHouse$Node;" "RingHouse") ∈ lw_tbl := lw_at lw_m1 216 rfl
theorem q703 : (Jvm.Cond.fieldLinkNest "RingHouse$NameOf" (29 : Nat) "RingHouse$Registers" "a" "J" "RingHouse") ∈ lw_tbl := lw_at lw_m2 237 rfl
theorem q730 : (Jvm.Cond.fieldLinkNest "RingHouse$NameOf" (41 : Nat) "RingHouse$Registers" "q" "J" "RingHouse") ∈ lw_tbl := lw_at lw_m3 24 rfl
theorem q923 : (Jvm.Cond.fieldLinkNest "RingHouse$NameOf" (9 : Nat) "RingHouse$Process" "work" "LRingHouse$Node;" "RingHouse") ∈ lw_tbl := lw_at lw_m3 217 rfl
theorem q1364 : (Jvm.Cond.instantiable "RingHouse$NameOf" (0 : Nat)) ∈ lw_all := lw_g (lw_at lw_m5 178 rfl) rfl
theorem q1366 : (Jvm.Cond.instanceMethod ({ cls := "RingHouse$NameOf", name := "<init>", desc := "()V" } : Jvm.MethodName)) ∈ lw_all := lw_g (lw_at lw_m5 180 rfl) rfl
theorem q1367 : (Jvm.Cond.code ({ cls := "RingHouse$NameOf", name := "<init>", desc := "()V" } : Jvm.MethodName) prog_30_method_1_code (1 : Nat) (Option.none : Option Jvm.ClassFile.FieldType)) ∈ lw_all := lw_g (lw_at lw_m5 181 rfl) rfl
theorem q1368 : (Jvm.Cond.methodLinkNest "RingHouse$NameOf" (3 : Nat) ({ cls := "RingHouse$Service", name := "<init>", desc := "()V" } : Jvm.MethodName) "RingHouse") ∈ lw_tbl := lw_at lw_m5 182 rfl
theorem q1369 : (Jvm.Cond.superclass "RingHouse$NameOf" "RingHouse$Service") ∈ lw_all := lw_g (lw_at lw_m5 183 rfl) rfl
theorem q1545 : (Jvm.Cond.fieldLinkNest "RingHouse$NameOf" (15 : Nat) "RingHouse$Machine" "asked" "LRingHouse$Node;" "RingHouse") ∈ lw_tbl := lw_at lw_m6 119 rfl
theorem q2659 : (Jvm.Cond.selects "RingHouse$NameOf" ({ cls := "RingHouse$Service", name := "run", desc := "(LRingHouse$Machine;LRingHouse$Process;LRingHouse$Registers;)I" } : Jvm.MethodName) ({ cls := "RingHouse$NameOf", name := "run", desc := "(LRingHouse$Machine;LRingHouse$Process;LRingHouse$Registers;)I" } : Jvm.MethodName)) ∈ lw_all := lw_g (lw_at lw_m11 33 rfl) rfl
theorem q2660 : (Jvm.Cond.instanceMethod ({ cls := "RingHouse$NameOf", name := "run", desc := "(LRingHouse$Machine;LRingHouse$Process;LRingHouse$Registers;)I" } : Jvm.MethodName)) ∈ lw_all := lw_g (lw_at lw_m11 34 rfl) rfl
theorem q2661 : (Jvm.Cond.code ({ cls := "RingHouse$NameOf", name := "run", desc := "(LRingHouse$Machine;LRingHouse$Process;LRingHouse$Registers;)I" } : Jvm.MethodName) prog_30_method_2_code (8 : Nat) (Option.some Jvm.ClassFile.FieldType.int)) ∈ lw_all := lw_g (lw_at lw_m11 35 rfl) rfl
theorem q2662 : (Jvm.Cond.methodLink "RingHouse$NameOf" (20 : Nat) ({ cls := "RingHouse$Process", name := "refusal", desc := "(LRingHouse$Node;I)I" } : Jvm.MethodName)) ∈ lw_all := lw_g (lw_at lw_m11 36 rfl) rfl
theorem q4448 : (Jvm.Cond.castable "RingHouse$NameOf" "RingHouse$Service") ∈ lw_tbl := lw_at lw_m18 142 rfl
/-! RingHouse$Tell -/
def RX44 : String := "RingHouse$Tell"
def TX44 : u_T := fun k => match k with
  | _ => ("RingHouse$Entered", "how", "I", true)
def tyX44 : Nat → FieldType := fun k => match k with
  | _ => .int
abbrev wsX440 : List Cond := u_ws RX44 TX44 1
theorem nmX44 : ∀ a, a < 1 → ∀ b, b < 1 → a ≠ b → (TX44 a).2.1 ≠ (TX44 b).2.1 := by decide +kernel
theorem tyX44_ok : ∀ k, k < 1 → parseFieldDescriptor (TX44 k).2.2.1 = some (tyX44 k) := by decide +kernel
abbrev cX44_init : ByteArray := prog_65_method_1_code
def yX44_init : MethodName := ⟨RX44, "<init>", "()V"⟩
abbrev cX44_on : ByteArray := prog_65_method_2_code
def yX44_on : MethodName := ⟨RX44, "on", "(LRingHouse$Machine;LRingHouse$Node;LRingHouse$Process;LRingHouse$Registers;)I"⟩
theorem q271 : (Jvm.Cond.initialized "RingHouse$Tell") ∈ lw_all := lw_g (lw_at lw_m1 45 rfl) rfl
theorem q378 : (Jvm.Cond.fieldLinkNest "RingHouse$Tell" (9 : Nat) "RingHouse$Node" "kind" "I" "RingHouse") ∈ lw_tbl := lw_at lw_m1 152 rfl
theorem q388 : (Jvm.Cond.fieldLinkNest "RingHouse$Tell" (17 : Nat) "RingHouse$Node" "label" "I" "RingHouse") ∈ lw_tbl := lw_at lw_m1 162 rfl
theorem q418 : (Jvm.Cond.fieldLinkNest "RingHouse$Tell" (22 : Nat) "RingHouse$Node" "r1" "I" "RingHouse") ∈ lw_tbl := lw_at lw_m1 192 rfl
theorem q428 : (Jvm.Cond.fieldLinkNest "RingHouse$Tell" (27 : Nat) "RingHouse$Node" "r2" "I" "RingHouse") ∈ lw_tbl := lw_at lw_m1 202 rfl
theorem q434 : (Jvm.Cond.fieldLinkNest "RingHouse$Tell" (32 : Nat) "RingHouse$Node" "r3" "I" "RingHouse") ∈ lw_tbl := lw_at lw_m1 208 rfl
theorem q475 : (Jvm.Cond.fieldLinkNest "RingHouse$Tell" (37 : Nat) "RingHouse$Node" "length" "I" "RingHouse") ∈ lw_tbl := lw_at lw_m2 9 rfl
theorem q726 : (Jvm.Cond.fieldLinkNest "RingHouse$Tell" (40 : Nat) "RingHouse$Registers" "q" "J" "RingHouse") ∈ lw_tbl := lw_at lw_m3 20 rfl
theorem q1371 : (Jvm.Cond.instantiable "RingHouse$Tell" (1 : Nat)) ∈ lw_all := lw_g (lw_at lw_m5 185 rfl) rfl
theorem q1373 : (Jvm.Cond.instanceMethod ({ cls := "RingHouse$Tell", name := "<init>", desc := "()V" } : Jvm.MethodName)) ∈ lw_all := lw_g (lw_at lw_m5 187 rfl) rfl
theorem q1374 : (Jvm.Cond.code ({ cls := "RingHouse$Tell", name := "<init>", desc := "()V" } : Jvm.MethodName) prog_65_method_1_code (1 : Nat) (Option.none : Option Jvm.ClassFile.FieldType)) ∈ lw_all := lw_g (lw_at lw_m5 188 rfl) rfl
theorem q1375 : (Jvm.Cond.methodLink "RingHouse$Tell" (3 : Nat) ({ cls := "RingHouse$Entered", name := "<init>", desc := "(I)V" } : Jvm.MethodName)) ∈ lw_all := lw_g (lw_at lw_m5 189 rfl) rfl
theorem q1376 : (Jvm.Cond.laysFinal "RingHouse$Tell" "RingHouse$Entered" "how" "I") ∈ lw_all := lw_g (lw_at lw_m5 190 rfl) rfl
theorem q1377 : (Jvm.Cond.superclass "RingHouse$Tell" "RingHouse$Entered") ∈ lw_all := lw_g (lw_at lw_m5 191 rfl) rfl
theorem q2624 : (Jvm.Cond.selects "RingHouse$Tell" ({ cls := "RingHouse$Entered", name := "on", desc := "(LRingHouse$Machine;LRingHouse$Node;LRingHouse$Process;LRingHouse$Registers;)I" } : Jvm.MethodName) ({ cls := "RingHouse$Tell", name := "on", desc := "(LRingHouse$Machine;LRingHouse$Node;LRingHouse$Process;LRingHouse$Registers;)I" } : Jvm.MethodName)) ∈ lw_all := lw_g (lw_at lw_m10 238 rfl) rfl
theorem q2625 : (Jvm.Cond.instanceMethod ({ cls := "RingHouse$Tell", name := "on", desc := "(LRingHouse$Machine;LRingHouse$Node;LRingHouse$Process;LRingHouse$Registers;)I" } : Jvm.MethodName)) ∈ lw_all := lw_g (lw_at lw_m10 239 rfl) rfl
theorem q2626 : (Jvm.Cond.code ({ cls := "RingHouse$Tell", name := "on", desc := "(LRingHouse$Machine;LRingHouse$Node;LRingHouse$Process;LRingHouse$Registers;)I" } : Jvm.MethodName) prog_65_method_2_code (5 : Nat) (Option.some Jvm.ClassFile.FieldType.int)) ∈ lw_all := lw_g (lw_at lw_m11 0 rfl) rfl
theorem q2627 : (Jvm.Cond.constantLong "RingHouse$Tell" (15 : Nat) (4 : Int64)) ∈ lw_all := lw_g (lw_at lw_m11 1 rfl) rfl
theorem q2628 : (Jvm.Cond.constantLong "RingHouse$Tell" (20 : Nat) (128 : Int64)) ∈ lw_all := lw_g (lw_at lw_m11 2 rfl) rfl
theorem q2629 : (Jvm.Cond.constantLong "RingHouse$Tell" (25 : Nat) (1024 : Int64)) ∈ lw_all := lw_g (lw_at lw_m11 3 rfl) rfl
theorem q2630 : (Jvm.Cond.constantLong "RingHouse$Tell" (30 : Nat) (8192 : Int64)) ∈ lw_all := lw_g (lw_at lw_m11 4 rfl) rfl
theorem q2631 : (Jvm.Cond.constantLong "RingHouse$Tell" (35 : Nat) (65536 : Int64)) ∈ lw_all := lw_g (lw_at lw_m11 5 rfl) rfl
theorem q2717 : (Jvm.Cond.selects "RingHouse$Tell" ({ cls := "RingHouse$Service", name := "run", desc := "(LRingHouse$Machine;LRingHouse$Process;LRingHouse$Registers;)I" } : Jvm.MethodName) ({ cls := "RingHouse$Entered", name := "run", desc := "(LRingHouse$Machine;LRingHouse$Process;LRingHouse$Registers;)I" } : Jvm.MethodName)) ∈ lw_all := lw_g (lw_at lw_m11 91 rfl) rfl
theorem q4464 : (Jvm.Cond.castable "RingHouse$Tell" "RingHouse$Service") ∈ lw_tbl := lw_at lw_m18 158 rfl
theorem in_X44 : ∀ w ∈ wsX440, w ∈ lw_all := lw_in wsX440 [1376] (by decide +kernel) (by decide +kernel)
/-! RingHouse$Create -/
def RX45 : String := "RingHouse$Create"
def TX45 : u_T := fun k => match k with
  | _ => ("RingHouse$Create", "kind", "I", true)
def tyX45 : Nat → FieldType := fun k => match k with
  | _ => .int
abbrev wsX450 : List Cond := u_ws RX45 TX45 1
theorem nmX45 : ∀ a, a < 1 → ∀ b, b < 1 → a ≠ b → (TX45 a).2.1 ≠ (TX45 b).2.1 := by decide +kernel
theorem tyX45_ok : ∀ k, k < 1 → parseFieldDescriptor (TX45 k).2.2.1 = some (tyX45 k) := by decide +kernel
abbrev cX45_init : ByteArray := prog_10_method_1_code
def yX45_init : MethodName := ⟨RX45, "<init>", "(I)V"⟩
abbrev cX45_run : ByteArray := prog_10_method_3_code
def yX45_run : MethodName := ⟨RX45, "run", "(LRingHouse$Machine;LRingHouse$Process;LRingHouse$Registers;)I"⟩
abbrev cX45_isRight : ByteArray := prog_10_method_2_code
def yX45_isRight : MethodName := ⟨RX45, "isRight", "(LRingHouse$Process;LRingHouse$Registers;)Z"⟩
theorem q272 : (Jvm.Cond.initialized "RingHouse$Create") ∈ lw_all := lw_g (lw_at lw_m1 46 rfl) rfl
theorem q390 : (Jvm.Cond.fieldLinkNest "RingHouse$Create" (39 : Nat) "RingHouse$Node" "label" "I" "RingHouse") ∈ lw_tbl := lw_at lw_m1 164 rfl
theorem q411 : (Jvm.Cond.fieldLinkNest "RingHouse$Create" (94 : Nat) "RingHouse$Node" "acl" "LRingHouse$Acl;" "RingHouse") ∈ lw_tbl := lw_at lw_m1 185 rfl
theorem q586 : (Jvm.Cond.fieldLinkNest "RingHouse$Create" (81 : Nat) "RingHouse$Tree" "nodes" "[LRingHouse$Node;" "RingHouse") ∈ lw_tbl := lw_at lw_m2 120 rfl
theorem q603 : (Jvm.Cond.fieldLinkNest "RingHouse$Create" (121 : Nat) "RingHouse$Tree" "version" "I" "RingHouse") ∈ lw_tbl := lw_at lw_m2 137 rfl
theorem q687 : (Jvm.Cond.fieldLinkNest "RingHouse$Create" (15 : Nat) "RingHouse$Registers" "a" "J" "RingHouse") ∈ lw_tbl := lw_at lw_m2 221 rfl
theorem q717 : (Jvm.Cond.fieldLinkNest "RingHouse$Create" (25 : Nat) "RingHouse$Registers" "q" "J" "RingHouse") ∈ lw_tbl := lw_at lw_m3 11 rfl
theorem q742 : (Jvm.Cond.fieldLinkNest "RingHouse$Create" (44 : Nat) "RingHouse$Registers" "x" "[I" "RingHouse") ∈ lw_tbl := lw_at lw_m3 36 rfl
theorem q776 : (Jvm.Cond.fieldLinkNest "RingHouse$Create" (87 : Nat) "RingHouse$Registers" "ring" "I" "RingHouse") ∈ lw_tbl := lw_at lw_m3 70 rfl
theorem q869 : (Jvm.Cond.fieldLinkNest "RingHouse$Create" (103 : Nat) "RingHouse$Process" "person" "I" "RingHouse") ∈ lw_tbl := lw_at lw_m3 163 rfl
theorem q875 : (Jvm.Cond.fieldLinkNest "RingHouse$Create" (106 : Nat) "RingHouse$Process" "project" "I" "RingHouse") ∈ lw_tbl := lw_at lw_m3 169 rfl
theorem q929 : (Jvm.Cond.fieldLinkNest "RingHouse$Create" (33 : Nat) "RingHouse$Process" "work" "LRingHouse$Node;" "RingHouse") ∈ lw_tbl := lw_at lw_m3 223 rfl
theorem q1379 : (Jvm.Cond.instantiable "RingHouse$Create" (1 : Nat)) ∈ lw_all := lw_g (lw_at lw_m5 193 rfl) rfl
theorem q1381 : (Jvm.Cond.instanceMethod ({ cls := "RingHouse$Create", name := "<init>", desc := "(I)V" } : Jvm.MethodName)) ∈ lw_all := lw_g (lw_at lw_m5 195 rfl) rfl
theorem q1382 : (Jvm.Cond.code ({ cls := "RingHouse$Create", name := "<init>", desc := "(I)V" } : Jvm.MethodName) prog_10_method_1_code (2 : Nat) (Option.none : Option Jvm.ClassFile.FieldType)) ∈ lw_all := lw_g (lw_at lw_m5 196 rfl) rfl
theorem q1383 : (Jvm.Cond.methodLinkNest "RingHouse$Create" (3 : Nat) ({ cls := "RingHouse$Service", name := "<init>", desc := "()V" } : Jvm.MethodName) "RingHouse") ∈ lw_tbl := lw_at lw_m5 197 rfl
theorem q1384 : (Jvm.Cond.fieldLink "RingHouse$Create" (9 : Nat) "RingHouse$Create" "kind" "I") ∈ lw_all := lw_g (lw_at lw_m5 198 rfl) rfl
theorem q1385 : (Jvm.Cond.laysFinal "RingHouse$Create" "RingHouse$Create" "kind" "I") ∈ lw_all := lw_g (lw_at lw_m5 199 rfl) rfl
theorem q1386 : (Jvm.Cond.soleField "RingHouse$Create" "kind") ∈ lw_all := lw_g (lw_at lw_m5 200 rfl) rfl
theorem q1387 : (Jvm.Cond.superclass "RingHouse$Create" "RingHouse$Service") ∈ lw_all := lw_g (lw_at lw_m5 201 rfl) rfl
theorem q1533 : (Jvm.Cond.fieldLinkNest "RingHouse$Create" (77 : Nat) "RingHouse$Machine" "tree" "LRingHouse$Tree;" "RingHouse") ∈ lw_tbl := lw_at lw_m6 107 rfl
theorem q1548 : (Jvm.Cond.fieldLinkNest "RingHouse$Create" (52 : Nat) "RingHouse$Machine" "asked" "LRingHouse$Node;" "RingHouse") ∈ lw_tbl := lw_at lw_m6 122 rfl
theorem q2508 : (Jvm.Cond.selects "RingHouse$Create" ({ cls := "RingHouse$Service", name := "run", desc := "(LRingHouse$Machine;LRingHouse$Process;LRingHouse$Registers;)I" } : Jvm.MethodName) ({ cls := "RingHouse$Create", name := "run", desc := "(LRingHouse$Machine;LRingHouse$Process;LRingHouse$Registers;)I" } : Jvm.MethodName)) ∈ lw_all := lw_g (lw_at lw_m10 122 rfl) rfl
theorem q2509 : (Jvm.Cond.instanceMethod ({ cls := "RingHouse$Create", name := "run", desc := "(LRingHouse$Machine;LRingHouse$Process;LRingHouse$Registers;)I" } : Jvm.MethodName)) ∈ lw_all := lw_g (lw_at lw_m10 123 rfl) rfl
theorem q2510 : (Jvm.Cond.code ({ cls := "RingHouse$Create", name := "run", desc := "(LRingHouse$Machine;LRingHouse$Process;LRingHouse$Registers;)I" } : Jvm.MethodName) prog_10_method_3_code (7 : Nat) (Option.some Jvm.ClassFile.FieldType.int)) ∈ lw_all := lw_g (lw_at lw_m10 124 rfl) rfl
theorem q2511 : (Jvm.Cond.methodLink "RingHouse$Create" (57 : Nat) ({ cls := "RingHouse$Process", name := "refusal", desc := "(LRingHouse$Node;I)I" } : Jvm.MethodName)) ∈ lw_all := lw_g (lw_at lw_m10 125 rfl) rfl
theorem q2512 : (Jvm.Cond.methodLink "RingHouse$Create" (61 : Nat) ({ cls := "RingHouse$Create", name := "isRight", desc := "(LRingHouse$Process;LRingHouse$Registers;)Z" } : Jvm.MethodName)) ∈ lw_all := lw_g (lw_at lw_m10 126 rfl) rfl
theorem q2513 : (Jvm.Cond.privateMethod ({ cls := "RingHouse$Create", name := "isRight", desc := "(LRingHouse$Process;LRingHouse$Registers;)Z" } : Jvm.MethodName)) ∈ lw_tbl := lw_at lw_m10 127 rfl
theorem q2514 : (Jvm.Cond.instanceMethod ({ cls := "RingHouse$Create", name := "isRight", desc := "(LRingHouse$Process;LRingHouse$Registers;)Z" } : Jvm.MethodName)) ∈ lw_all := lw_g (lw_at lw_m10 128 rfl) rfl
theorem q2515 : (Jvm.Cond.code ({ cls := "RingHouse$Create", name := "isRight", desc := "(LRingHouse$Process;LRingHouse$Registers;)Z" } : Jvm.MethodName) prog_10_method_2_code (3 : Nat) (Option.some Jvm.ClassFile.FieldType.boolean)) ∈ lw_all := lw_g (lw_at lw_m10 129 rfl) rfl
theorem q2516 : (Jvm.Cond.methodLinkNest "RingHouse$Create" (21 : Nat) ({ cls := "RingHouse", name := "isName", desc := "(J)Z" } : Jvm.MethodName) "RingHouse") ∈ lw_tbl := lw_at lw_m10 130 rfl
theorem q2517 : (Jvm.Cond.constantLong "RingHouse$Create" (28 : Nat) (1024 : Int64)) ∈ lw_all := lw_g (lw_at lw_m10 131 rfl) rfl
theorem q2518 : (Jvm.Cond.methodLinkNest "RingHouse$Create" (30 : Nat) ({ cls := "RingHouse", name := "isLabel", desc := "(J)Z" } : Jvm.MethodName) "RingHouse") ∈ lw_tbl := lw_at lw_m10 132 rfl
theorem q2519 : (Jvm.Cond.methodLinkNest "RingHouse$Create" (48 : Nat) ({ cls := "RingHouse", name := "isRightLimit", desc := "(III)Z" } : Jvm.MethodName) "RingHouse") ∈ lw_tbl := lw_at lw_m10 133 rfl
theorem q2520 : (Jvm.Cond.methodLinkNest "RingHouse$Create" (65 : Nat) ({ cls := "RingHouse$Machine", name := "newSegment", desc := "(LRingHouse$Node;JI)I" } : Jvm.MethodName) "RingHouse") ∈ lw_tbl := lw_at lw_m10 134 rfl
theorem q2521 : (Jvm.Cond.methodLinkNest "RingHouse$Create" (69 : Nat) ({ cls := "RingHouse$Machine", name := "newMailbox", desc := "(LRingHouse$Node;J)I" } : Jvm.MethodName) "RingHouse") ∈ lw_tbl := lw_at lw_m10 135 rfl
theorem q2522 : (Jvm.Cond.methodLinkNest "RingHouse$Create" (73 : Nat) ({ cls := "RingHouse$Machine", name := "newDirectory", desc := "(LRingHouse$Node;JII)I" } : Jvm.MethodName) "RingHouse") ∈ lw_tbl := lw_at lw_m10 136 rfl
theorem q2523 : (Jvm.Cond.methodLink "RingHouse$Create" (90 : Nat) ({ cls := "RingHouse$Node", name := "setBrackets", desc := "(III)V" } : Jvm.MethodName)) ∈ lw_all := lw_g (lw_at lw_m10 137 rfl) rfl
theorem q2524 : (Jvm.Cond.methodLink "RingHouse$Create" (98 : Nat) ({ cls := "RingHouse$Acl", name := "clear", desc := "()V" } : Jvm.MethodName)) ∈ lw_all := lw_g (lw_at lw_m10 138 rfl) rfl
theorem q2525 : (Jvm.Cond.methodLink "RingHouse$Create" (109 : Nat) ({ cls := "RingHouse$Acl", name := "set", desc := "(III)I" } : Jvm.MethodName)) ∈ lw_all := lw_g (lw_at lw_m10 139 rfl) rfl
theorem q2526 : (Jvm.Cond.methodLink "RingHouse$Create" (113 : Nat) ({ cls := "RingHouse$Node", name := "initial", desc := "(I)LRingHouse$Acl;" } : Jvm.MethodName)) ∈ lw_all := lw_g (lw_at lw_m10 140 rfl) rfl
theorem q2527 : (Jvm.Cond.methodLink "RingHouse$Create" (117 : Nat) ({ cls := "RingHouse$Acl", name := "take", desc := "(LRingHouse$Acl;)V" } : Jvm.MethodName)) ∈ lw_all := lw_g (lw_at lw_m10 141 rfl) rfl
theorem q4440 : (Jvm.Cond.castable "RingHouse$Create" "RingHouse$Service") ∈ lw_tbl := lw_at lw_m18 134 rfl
theorem in_X45 : ∀ w ∈ wsX450, w ∈ lw_all := lw_in wsX450 [1385] (by decide +kernel) (by decide +kernel)
/-! RingHouse$Delete -/
def RX46 : String := "RingHouse$Delete"
def TX46 : u_T := fun k => match k with
  | _ => ("RingHouse$Entered", "how", "I", true)
def tyX46 : Nat → FieldType := fun k => match k with
  | _ => .int
abbrev wsX460 : List Cond := u_ws RX46 TX46 1
theorem nmX46 : ∀ a, a < 1 → ∀ b, b < 1 → a ≠ b → (TX46 a).2.1 ≠ (TX46 b).2.1 := by decide +kernel
theorem tyX46_ok : ∀ k, k < 1 → parseFieldDescriptor (TX46 k).2.2.1 = some (tyX46 k) := by decide +kernel
abbrev cX46_init : ByteArray := prog_12_method_1_code
def yX46_init : MethodName := ⟨RX46, "<init>", "()V"⟩
abbrev cX46_on : ByteArray := prog_12_method_2_code
def yX46_on : MethodName := ⟨RX46, "on", "(LRingHouse$Machine;LRingHouse$Node;LRingHouse$Process;LRingHouse$Registers;)I"⟩
theorem q273 : (Jvm.Cond.initialized "RingHouse$Delete") ∈ lw_all := lw_g (lw_at lw_m1 47 rfl) rfl
theorem q416 : (Jvm.Cond.fieldLinkNest "RingHouse$Delete" (21 : Nat) "RingHouse$Node" "r1" "I" "RingHouse") ∈ lw_tbl := lw_at lw_m1 190 rfl
theorem q447 : (Jvm.Cond.fieldLinkNest "RingHouse$Delete" (24 : Nat) "RingHouse$Node" "entries" "I" "RingHouse") ∈ lw_tbl := lw_at lw_m1 221 rfl
theorem q765 : (Jvm.Cond.fieldLinkNest "RingHouse$Delete" (15 : Nat) "RingHouse$Registers" "ring" "I" "RingHouse") ∈ lw_tbl := lw_at lw_m3 59 rfl
theorem q1389 : (Jvm.Cond.instantiable "RingHouse$Delete" (1 : Nat)) ∈ lw_all := lw_g (lw_at lw_m5 203 rfl) rfl
theorem q1391 : (Jvm.Cond.instanceMethod ({ cls := "RingHouse$Delete", name := "<init>", desc := "()V" } : Jvm.MethodName)) ∈ lw_all := lw_g (lw_at lw_m5 205 rfl) rfl
theorem q1392 : (Jvm.Cond.code ({ cls := "RingHouse$Delete", name := "<init>", desc := "()V" } : Jvm.MethodName) prog_12_method_1_code (1 : Nat) (Option.none : Option Jvm.ClassFile.FieldType)) ∈ lw_all := lw_g (lw_at lw_m5 206 rfl) rfl
theorem q1393 : (Jvm.Cond.methodLink "RingHouse$Delete" (3 : Nat) ({ cls := "RingHouse$Entered", name := "<init>", desc := "(I)V" } : Jvm.MethodName)) ∈ lw_all := lw_g (lw_at lw_m5 207 rfl) rfl
theorem q1394 : (Jvm.Cond.laysFinal "RingHouse$Delete" "RingHouse$Entered" "how" "I") ∈ lw_all := lw_g (lw_at lw_m5 208 rfl) rfl
theorem q1395 : (Jvm.Cond.superclass "RingHouse$Delete" "RingHouse$Entered") ∈ lw_all := lw_g (lw_at lw_m5 209 rfl) rfl
theorem q1529 : (Jvm.Cond.fieldLinkNest "RingHouse$Delete" (27 : Nat) "RingHouse$Machine" "tree" "LRingHouse$Tree;" "RingHouse") ∈ lw_tbl := lw_at lw_m6 103 rfl
theorem q2528 : (Jvm.Cond.selects "RingHouse$Delete" ({ cls := "RingHouse$Service", name := "run", desc := "(LRingHouse$Machine;LRingHouse$Process;LRingHouse$Registers;)I" } : Jvm.MethodName) ({ cls := "RingHouse$Entered", name := "run", desc := "(LRingHouse$Machine;LRingHouse$Process;LRingHouse$Registers;)I" } : Jvm.MethodName)) ∈ lw_all := lw_g (lw_at lw_m10 142 rfl) rfl
theorem q2537 : (Jvm.Cond.selects "RingHouse$Delete" ({ cls := "RingHouse$Entered", name := "on", desc := "(LRingHouse$Machine;LRingHouse$Node;LRingHouse$Process;LRingHouse$Registers;)I" } : Jvm.MethodName) ({ cls := "RingHouse$Delete", name := "on", desc := "(LRingHouse$Machine;LRingHouse$Node;LRingHouse$Process;LRingHouse$Registers;)I" } : Jvm.MethodName)) ∈ lw_all := lw_g (lw_at lw_m10 151 rfl) rfl
theorem q2538 : (Jvm.Cond.instanceMethod ({ cls := "RingHouse$Delete", name := "on", desc := "(LRingHouse$Machine;LRingHouse$Node;LRingHouse$Process;LRingHouse$Registers;)I" } : Jvm.MethodName)) ∈ lw_all := lw_g (lw_at lw_m10 152 rfl) rfl
theorem q2539 : (Jvm.Cond.code ({ cls := "RingHouse$Delete", name := "on", desc := "(LRingHouse$Machine;LRingHouse$Node;LRingHouse$Process;LRingHouse$Registers;)I" } : Jvm.MethodName) prog_12_method_2_code (5 : Nat) (Option.some Jvm.ClassFile.FieldType.int)) ∈ lw_all := lw_g (lw_at lw_m10 153 rfl) rfl
theorem q2540 : (Jvm.Cond.methodLink "RingHouse$Delete" (9 : Nat) ({ cls := "RingHouse$Node", name := "isUpgraded", desc := "()Z" } : Jvm.MethodName)) ∈ lw_all := lw_g (lw_at lw_m10 154 rfl) rfl
theorem q2544 : (Jvm.Cond.methodLink "RingHouse$Delete" (33 : Nat) ({ cls := "RingHouse$Tree", name := "remove", desc := "(LRingHouse$Node;)I" } : Jvm.MethodName)) ∈ lw_all := lw_g (lw_at lw_m10 158 rfl) rfl
theorem q4441 : (Jvm.Cond.castable "RingHouse$Delete" "RingHouse$Service") ∈ lw_tbl := lw_at lw_m18 135 rfl
theorem in_X46 : ∀ w ∈ wsX460, w ∈ lw_all := lw_in wsX460 [1394] (by decide +kernel) (by decide +kernel)
/-! RingHouse$Rename -/
def RX47 : String := "RingHouse$Rename"
def TX47 : u_T := fun k => match k with
  | _ => ("RingHouse$Entered", "how", "I", true)
def tyX47 : Nat → FieldType := fun k => match k with
  | _ => .int
abbrev wsX470 : List Cond := u_ws RX47 TX47 1
theorem nmX47 : ∀ a, a < 1 → ∀ b, b < 1 → a ≠ b → (TX47 a).2.1 ≠ (TX47 b).2.1 := by decide +kernel
theorem tyX47_ok : ∀ k, k < 1 → parseFieldDescriptor (TX47 k).2.2.1 = some (tyX47 k) := by decide +kernel
abbrev cX47_init : ByteArray := prog_43_method_1_code
def yX47_init : MethodName := ⟨RX47, "<init>", "()V"⟩
abbrev cX47_on : ByteArray := prog_43_method_2_code
def yX47_on : MethodName := ⟨RX47, "on", "(LRingHouse$Machine;LRingHouse$Node;LRingHouse$Process;LRingHouse$Registers;)I"⟩
theorem q274 : (Jvm.Cond.initialized "RingHouse$Rename") ∈ lw_all := lw_g (lw_at lw_m1 48 rfl) rfl
theorem q417 : (Jvm.Cond.fieldLinkNest "RingHouse$Rename" (23 : Nat) "RingHouse$Node" "r1" "I" "RingHouse") ∈ lw_tbl := lw_at lw_m1 191 rfl
theorem q588 : (Jvm.Cond.fieldLinkNest "RingHouse$Rename" (34 : Nat) "RingHouse$Tree" "index" "LRingHouse$Index;" "RingHouse") ∈ lw_tbl := lw_at lw_m2 122 rfl
theorem q712 : (Jvm.Cond.fieldLinkNest "RingHouse$Rename" (9 : Nat) "RingHouse$Registers" "q" "J" "RingHouse") ∈ lw_tbl := lw_at lw_m3 6 rfl
theorem q767 : (Jvm.Cond.fieldLinkNest "RingHouse$Rename" (19 : Nat) "RingHouse$Registers" "ring" "I" "RingHouse") ∈ lw_tbl := lw_at lw_m3 61 rfl
theorem q927 : (Jvm.Cond.fieldLinkNest "RingHouse$Rename" (40 : Nat) "RingHouse$Process" "work" "LRingHouse$Node;" "RingHouse") ∈ lw_tbl := lw_at lw_m3 221 rfl
theorem q1397 : (Jvm.Cond.instantiable "RingHouse$Rename" (1 : Nat)) ∈ lw_all := lw_g (lw_at lw_m5 211 rfl) rfl
theorem q1399 : (Jvm.Cond.instanceMethod ({ cls := "RingHouse$Rename", name := "<init>", desc := "()V" } : Jvm.MethodName)) ∈ lw_all := lw_g (lw_at lw_m5 213 rfl) rfl
theorem q1400 : (Jvm.Cond.code ({ cls := "RingHouse$Rename", name := "<init>", desc := "()V" } : Jvm.MethodName) prog_43_method_1_code (1 : Nat) (Option.none : Option Jvm.ClassFile.FieldType)) ∈ lw_all := lw_g (lw_at lw_m5 214 rfl) rfl
theorem q1401 : (Jvm.Cond.methodLink "RingHouse$Rename" (3 : Nat) ({ cls := "RingHouse$Entered", name := "<init>", desc := "(I)V" } : Jvm.MethodName)) ∈ lw_all := lw_g (lw_at lw_m5 215 rfl) rfl
theorem q1402 : (Jvm.Cond.laysFinal "RingHouse$Rename" "RingHouse$Entered" "how" "I") ∈ lw_all := lw_g (lw_at lw_m5 216 rfl) rfl
theorem q1403 : (Jvm.Cond.superclass "RingHouse$Rename" "RingHouse$Entered") ∈ lw_all := lw_g (lw_at lw_m5 217 rfl) rfl
theorem q1528 : (Jvm.Cond.fieldLinkNest "RingHouse$Rename" (28 : Nat) "RingHouse$Machine" "tree" "LRingHouse$Tree;" "RingHouse") ∈ lw_tbl := lw_at lw_m6 102 rfl
theorem q2597 : (Jvm.Cond.selects "RingHouse$Rename" ({ cls := "RingHouse$Entered", name := "on", desc := "(LRingHouse$Machine;LRingHouse$Node;LRingHouse$Process;LRingHouse$Registers;)I" } : Jvm.MethodName) ({ cls := "RingHouse$Rename", name := "on", desc := "(LRingHouse$Machine;LRingHouse$Node;LRingHouse$Process;LRingHouse$Registers;)I" } : Jvm.MethodName)) ∈ lw_all := lw_g (lw_at lw_m10 211 rfl) rfl
theorem q2598 : (Jvm.Cond.instanceMethod ({ cls := "RingHouse$Rename", name := "on", desc := "(LRingHouse$Machine;LRingHouse$Node;LRingHouse$Process;LRingHouse$Registers;)I" } : Jvm.MethodName)) ∈ lw_all := lw_g (lw_at lw_m10 212 rfl) rfl
theorem q2599 : (Jvm.Cond.code ({ cls := "RingHouse$Rename", name := "on", desc := "(LRingHouse$Machine;LRingHouse$Node;LRingHouse$Process;LRingHouse$Registers;)I" } : Jvm.MethodName) prog_43_method_2_code (6 : Nat) (Option.some Jvm.ClassFile.FieldType.int)) ∈ lw_all := lw_g (lw_at lw_m10 213 rfl) rfl
theorem q2600 : (Jvm.Cond.methodLinkNest "RingHouse$Rename" (15 : Nat) ({ cls := "RingHouse", name := "isName", desc := "(J)Z" } : Jvm.MethodName) "RingHouse") ∈ lw_tbl := lw_at lw_m10 214 rfl
theorem q2601 : (Jvm.Cond.methodLink "RingHouse$Rename" (46 : Nat) ({ cls := "RingHouse$Index", name := "find", desc := "(LRingHouse$Node;J)LRingHouse$Node;" } : Jvm.MethodName)) ∈ lw_all := lw_g (lw_at lw_m10 215 rfl) rfl
theorem q2602 : (Jvm.Cond.methodLink "RingHouse$Rename" (52 : Nat) ({ cls := "RingHouse$Tree", name := "rename", desc := "(LRingHouse$Node;J)V" } : Jvm.MethodName)) ∈ lw_all := lw_g (lw_at lw_m10 216 rfl) rfl
theorem q2676 : (Jvm.Cond.selects "RingHouse$Rename" ({ cls := "RingHouse$Service", name := "run", desc := "(LRingHouse$Machine;LRingHouse$Process;LRingHouse$Registers;)I" } : Jvm.MethodName) ({ cls := "RingHouse$Entered", name := "run", desc := "(LRingHouse$Machine;LRingHouse$Process;LRingHouse$Registers;)I" } : Jvm.MethodName)) ∈ lw_all := lw_g (lw_at lw_m11 50 rfl) rfl
theorem q4452 : (Jvm.Cond.castable "RingHouse$Rename" "RingHouse$Service") ∈ lw_tbl := lw_at lw_m18 146 rfl
theorem in_X47 : ∀ w ∈ wsX470, w ∈ lw_all := lw_in wsX470 [1402] (by decide +kernel) (by decide +kernel)
/-! RingHouse$SetItem -/
def RX48 : String := "RingHouse$SetItem"
def TX48 : u_T := fun k => match k with
  | _ => ("RingHouse$Entered", "how", "I", true)
def tyX48 : Nat → FieldType := fun k => match k with
  | _ => .int
abbrev wsX480 : List Cond := u_ws RX48 TX48 1
theorem nmX48 : ∀ a, a < 1 → ∀ b, b < 1 → a ≠ b → (TX48 a).2.1 ≠ (TX48 b).2.1 := by decide +kernel
theorem tyX48_ok : ∀ k, k < 1 → parseFieldDescriptor (TX48 k).2.2.1 = some (tyX48 k) := by decide +kernel
abbrev cX48_init : ByteArray := prog_54_method_1_code
def yX48_init : MethodName := ⟨RX48, "<init>", "()V"⟩
abbrev cX48_on : ByteArray := prog_54_method_2_code
def yX48_on : MethodName := ⟨RX48, "on", "(LRingHouse$Machine;LRingHouse$Node;LRingHouse$Process;LRingHouse$Registers;)I"⟩
theorem q275 : (Jvm.Cond.initialized "RingHouse$SetItem") ∈ lw_all := lw_g (lw_at lw_m1 49 rfl) rfl
theorem q410 : (Jvm.Cond.fieldLinkNest "RingHouse$SetItem" (35 : Nat) "RingHouse$Node" "acl" "LRingHouse$Acl;" "RingHouse") ∈ lw_tbl := lw_at lw_m1 184 rfl
theorem q420 : (Jvm.Cond.fieldLinkNest "RingHouse$SetItem" (19 : Nat) "RingHouse$Node" "r1" "I" "RingHouse") ∈ lw_tbl := lw_at lw_m1 194 rfl
theorem q602 : (Jvm.Cond.fieldLinkNest "RingHouse$SetItem" (30 : Nat) "RingHouse$Tree" "version" "I" "RingHouse") ∈ lw_tbl := lw_at lw_m2 136 rfl
theorem q736 : (Jvm.Cond.fieldLinkNest "RingHouse$SetItem" (9 : Nat) "RingHouse$Registers" "x" "[I" "RingHouse") ∈ lw_tbl := lw_at lw_m3 30 rfl
theorem q772 : (Jvm.Cond.fieldLinkNest "RingHouse$SetItem" (15 : Nat) "RingHouse$Registers" "ring" "I" "RingHouse") ∈ lw_tbl := lw_at lw_m3 66 rfl
theorem q1405 : (Jvm.Cond.instantiable "RingHouse$SetItem" (1 : Nat)) ∈ lw_all := lw_g (lw_at lw_m5 219 rfl) rfl
theorem q1407 : (Jvm.Cond.instanceMethod ({ cls := "RingHouse$SetItem", name := "<init>", desc := "()V" } : Jvm.MethodName)) ∈ lw_all := lw_g (lw_at lw_m5 221 rfl) rfl
theorem q1408 : (Jvm.Cond.code ({ cls := "RingHouse$SetItem", name := "<init>", desc := "()V" } : Jvm.MethodName) prog_54_method_1_code (1 : Nat) (Option.none : Option Jvm.ClassFile.FieldType)) ∈ lw_all := lw_g (lw_at lw_m5 222 rfl) rfl
theorem q1409 : (Jvm.Cond.methodLink "RingHouse$SetItem" (3 : Nat) ({ cls := "RingHouse$Entered", name := "<init>", desc := "(I)V" } : Jvm.MethodName)) ∈ lw_all := lw_g (lw_at lw_m5 223 rfl) rfl
theorem q1410 : (Jvm.Cond.laysFinal "RingHouse$SetItem" "RingHouse$Entered" "how" "I") ∈ lw_all := lw_g (lw_at lw_m5 224 rfl) rfl
theorem q1411 : (Jvm.Cond.superclass "RingHouse$SetItem" "RingHouse$Entered") ∈ lw_all := lw_g (lw_at lw_m5 225 rfl) rfl
theorem q1532 : (Jvm.Cond.fieldLinkNest "RingHouse$SetItem" (24 : Nat) "RingHouse$Machine" "tree" "LRingHouse$Tree;" "RingHouse") ∈ lw_tbl := lw_at lw_m6 106 rfl
theorem q2612 : (Jvm.Cond.selects "RingHouse$SetItem" ({ cls := "RingHouse$Entered", name := "on", desc := "(LRingHouse$Machine;LRingHouse$Node;LRingHouse$Process;LRingHouse$Registers;)I" } : Jvm.MethodName) ({ cls := "RingHouse$SetItem", name := "on", desc := "(LRingHouse$Machine;LRingHouse$Node;LRingHouse$Process;LRingHouse$Registers;)I" } : Jvm.MethodName)) ∈ lw_all := lw_g (lw_at lw_m10 226 rfl) rfl
theorem q2613 : (Jvm.Cond.instanceMethod ({ cls := "RingHouse$SetItem", name := "on", desc := "(LRingHouse$Machine;LRingHouse$Node;LRingHouse$Process;LRingHouse$Registers;)I" } : Jvm.MethodName)) ∈ lw_all := lw_g (lw_at lw_m10 227 rfl) rfl
theorem q2614 : (Jvm.Cond.code ({ cls := "RingHouse$SetItem", name := "on", desc := "(LRingHouse$Machine;LRingHouse$Node;LRingHouse$Process;LRingHouse$Registers;)I" } : Jvm.MethodName) prog_54_method_2_code (5 : Nat) (Option.some Jvm.ClassFile.FieldType.int)) ∈ lw_all := lw_g (lw_at lw_m10 228 rfl) rfl
theorem q2615 : (Jvm.Cond.methodLink "RingHouse$SetItem" (39 : Nat) ({ cls := "RingHouse$Acl", name := "set", desc := "(III)I" } : Jvm.MethodName)) ∈ lw_all := lw_g (lw_at lw_m10 229 rfl) rfl
theorem q2707 : (Jvm.Cond.selects "RingHouse$SetItem" ({ cls := "RingHouse$Service", name := "run", desc := "(LRingHouse$Machine;LRingHouse$Process;LRingHouse$Registers;)I" } : Jvm.MethodName) ({ cls := "RingHouse$Entered", name := "run", desc := "(LRingHouse$Machine;LRingHouse$Process;LRingHouse$Registers;)I" } : Jvm.MethodName)) ∈ lw_all := lw_g (lw_at lw_m11 81 rfl) rfl
theorem q4460 : (Jvm.Cond.castable "RingHouse$SetItem" "RingHouse$Service") ∈ lw_tbl := lw_at lw_m18 154 rfl
theorem in_X48 : ∀ w ∈ wsX480, w ∈ lw_all := lw_in wsX480 [1410] (by decide +kernel) (by decide +kernel)
/-! RingHouse$SetBrackets -/
def RX49 : String := "RingHouse$SetBrackets"
def TX49 : u_T := fun k => match k with
  | _ => ("RingHouse$Entered", "how", "I", true)
def tyX49 : Nat → FieldType := fun k => match k with
  | _ => .int
abbrev wsX490 : List Cond := u_ws RX49 TX49 1
theorem nmX49 : ∀ a, a < 1 → ∀ b, b < 1 → a ≠ b → (TX49 a).2.1 ≠ (TX49 b).2.1 := by decide +kernel
theorem tyX49_ok : ∀ k, k < 1 → parseFieldDescriptor (TX49 k).2.2.1 = some (tyX49 k) := by decide +kernel
abbrev cX49_init : ByteArray := prog_52_method_1_code
def yX49_init : MethodName := ⟨RX49, "<init>", "()V"⟩
abbrev cX49_on : ByteArray := prog_52_method_2_code
def yX49_on : MethodName := ⟨RX49, "on", "(LRingHouse$Machine;LRingHouse$Node;LRingHouse$Process;LRingHouse$Registers;)I"⟩
theorem q276 : (Jvm.Cond.initialized "RingHouse$SetBrackets") ∈ lw_all := lw_g (lw_at lw_m1 50 rfl) rfl
theorem q421 : (Jvm.Cond.fieldLinkNest "RingHouse$SetBrackets" (33 : Nat) "RingHouse$Node" "r1" "I" "RingHouse") ∈ lw_tbl := lw_at lw_m1 195 rfl
theorem q470 : (Jvm.Cond.fieldLinkNest "RingHouse$SetBrackets" (40 : Nat) "RingHouse$Node" "gates" "I" "RingHouse") ∈ lw_tbl := lw_at lw_m2 4 rfl
theorem q713 : (Jvm.Cond.fieldLinkNest "RingHouse$SetBrackets" (9 : Nat) "RingHouse$Registers" "q" "J" "RingHouse") ∈ lw_tbl := lw_at lw_m3 7 rfl
theorem q774 : (Jvm.Cond.fieldLinkNest "RingHouse$SetBrackets" (29 : Nat) "RingHouse$Registers" "ring" "I" "RingHouse") ∈ lw_tbl := lw_at lw_m3 68 rfl
theorem q1413 : (Jvm.Cond.instantiable "RingHouse$SetBrackets" (1 : Nat)) ∈ lw_all := lw_g (lw_at lw_m5 227 rfl) rfl
theorem q1415 : (Jvm.Cond.instanceMethod ({ cls := "RingHouse$SetBrackets", name := "<init>", desc := "()V" } : Jvm.MethodName)) ∈ lw_all := lw_g (lw_at lw_m5 229 rfl) rfl
theorem q1416 : (Jvm.Cond.code ({ cls := "RingHouse$SetBrackets", name := "<init>", desc := "()V" } : Jvm.MethodName) prog_52_method_1_code (1 : Nat) (Option.none : Option Jvm.ClassFile.FieldType)) ∈ lw_all := lw_g (lw_at lw_m5 230 rfl) rfl
theorem q1417 : (Jvm.Cond.methodLink "RingHouse$SetBrackets" (3 : Nat) ({ cls := "RingHouse$Entered", name := "<init>", desc := "(I)V" } : Jvm.MethodName)) ∈ lw_all := lw_g (lw_at lw_m5 231 rfl) rfl
theorem q1418 : (Jvm.Cond.laysFinal "RingHouse$SetBrackets" "RingHouse$Entered" "how" "I") ∈ lw_all := lw_g (lw_at lw_m5 232 rfl) rfl
theorem q1419 : (Jvm.Cond.superclass "RingHouse$SetBrackets" "RingHouse$Entered") ∈ lw_all := lw_g (lw_at lw_m5 233 rfl) rfl
theorem q2604 : (Jvm.Cond.selects "RingHouse$SetBrackets" ({ cls := "RingHouse$Entered", name := "on", desc := "(LRingHouse$Machine;LRingHouse$Node;LRingHouse$Process;LRingHouse$Registers;)I" } : Jvm.MethodName) ({ cls := "RingHouse$SetBrackets", name := "on", desc := "(LRingHouse$Machine;LRingHouse$Node;LRingHouse$Process;LRingHouse$Registers;)I" } : Jvm.MethodName)) ∈ lw_all := lw_g (lw_at lw_m10 218 rfl) rfl
theorem q2605 : (Jvm.Cond.instanceMethod ({ cls := "RingHouse$SetBrackets", name := "on", desc := "(LRingHouse$Machine;LRingHouse$Node;LRingHouse$Process;LRingHouse$Registers;)I" } : Jvm.MethodName)) ∈ lw_all := lw_g (lw_at lw_m10 219 rfl) rfl
theorem q2606 : (Jvm.Cond.code ({ cls := "RingHouse$SetBrackets", name := "on", desc := "(LRingHouse$Machine;LRingHouse$Node;LRingHouse$Process;LRingHouse$Registers;)I" } : Jvm.MethodName) prog_52_method_2_code (10 : Nat) (Option.some Jvm.ClassFile.FieldType.int)) ∈ lw_all := lw_g (lw_at lw_m10 220 rfl) rfl
theorem q2607 : (Jvm.Cond.constantLong "RingHouse$SetBrackets" (15 : Nat) (7 : Int64)) ∈ lw_all := lw_g (lw_at lw_m10 221 rfl) rfl
theorem q2608 : (Jvm.Cond.methodLinkNest "RingHouse$SetBrackets" (17 : Nat) ({ cls := "RingHouse", name := "areBrackets", desc := "(III)Z" } : Jvm.MethodName) "RingHouse") ∈ lw_tbl := lw_at lw_m10 222 rfl
theorem q2609 : (Jvm.Cond.methodLink "RingHouse$SetBrackets" (21 : Nat) ({ cls := "RingHouse$Node", name := "isSegment", desc := "()Z" } : Jvm.MethodName)) ∈ lw_all := lw_g (lw_at lw_m10 223 rfl) rfl
theorem q2610 : (Jvm.Cond.constantLong "RingHouse$SetBrackets" (27 : Nat) (63 : Int64)) ∈ lw_all := lw_g (lw_at lw_m10 224 rfl) rfl
theorem q2611 : (Jvm.Cond.methodLink "RingHouse$SetBrackets" (36 : Nat) ({ cls := "RingHouse$Node", name := "setBrackets", desc := "(III)V" } : Jvm.MethodName)) ∈ lw_all := lw_g (lw_at lw_m10 225 rfl) rfl
theorem q2698 : (Jvm.Cond.selects "RingHouse$SetBrackets" ({ cls := "RingHouse$Service", name := "run", desc := "(LRingHouse$Machine;LRingHouse$Process;LRingHouse$Registers;)I" } : Jvm.MethodName) ({ cls := "RingHouse$Entered", name := "run", desc := "(LRingHouse$Machine;LRingHouse$Process;LRingHouse$Registers;)I" } : Jvm.MethodName)) ∈ lw_all := lw_g (lw_at lw_m11 72 rfl) rfl
theorem q4458 : (Jvm.Cond.castable "RingHouse$SetBrackets" "RingHouse$Service") ∈ lw_tbl := lw_at lw_m18 152 rfl
theorem in_X49 : ∀ w ∈ wsX490, w ∈ lw_all := lw_in wsX490 [1418] (by decide +kernel) (by decide +kernel)
/-! RingHouse$SetLength -/
def RX50 : String := "RingHouse$SetLength"
abbrev cX50_init : ByteArray := prog_55_method_1_code
def yX50_init : MethodName := ⟨RX50, "<init>", "()V"⟩
abbrev cX50_run : ByteArray := prog_55_method_2_code
def yX50_run : MethodName := ⟨RX50, "run", "(LRingHouse$Machine;LRingHouse$Process;LRingHouse$Registers;)I"⟩
theorem q277 : (Jvm.Cond.initialized "RingHouse$SetLength") ∈ lw_all := lw_g (lw_at lw_m1 51 rfl) rfl
theorem q693 : (Jvm.Cond.fieldLinkNest "RingHouse$SetLength" (9 : Nat) "RingHouse$Registers" "a" "J" "RingHouse") ∈ lw_tbl := lw_at lw_m2 227 rfl
theorem q729 : (Jvm.Cond.fieldLinkNest "RingHouse$SetLength" (39 : Nat) "RingHouse$Registers" "q" "J" "RingHouse") ∈ lw_tbl := lw_at lw_m3 23 rfl
theorem q770 : (Jvm.Cond.fieldLinkNest "RingHouse$SetLength" (31 : Nat) "RingHouse$Registers" "ring" "I" "RingHouse") ∈ lw_tbl := lw_at lw_m3 64 rfl
theorem q911 : (Jvm.Cond.fieldLinkNest "RingHouse$SetLength" (21 : Nat) "RingHouse$Process" "known" "[LRingHouse$Node;" "RingHouse") ∈ lw_tbl := lw_at lw_m3 205 rfl
theorem q1421 : (Jvm.Cond.instantiable "RingHouse$SetLength" (0 : Nat)) ∈ lw_all := lw_g (lw_at lw_m5 235 rfl) rfl
theorem q1423 : (Jvm.Cond.instanceMethod ({ cls := "RingHouse$SetLength", name := "<init>", desc := "()V" } : Jvm.MethodName)) ∈ lw_all := lw_g (lw_at lw_m5 237 rfl) rfl
theorem q1424 : (Jvm.Cond.code ({ cls := "RingHouse$SetLength", name := "<init>", desc := "()V" } : Jvm.MethodName) prog_55_method_1_code (1 : Nat) (Option.none : Option Jvm.ClassFile.FieldType)) ∈ lw_all := lw_g (lw_at lw_m5 238 rfl) rfl
theorem q1425 : (Jvm.Cond.methodLinkNest "RingHouse$SetLength" (3 : Nat) ({ cls := "RingHouse$Service", name := "<init>", desc := "()V" } : Jvm.MethodName) "RingHouse") ∈ lw_tbl := lw_at lw_m5 239 rfl
theorem q1426 : (Jvm.Cond.superclass "RingHouse$SetLength" "RingHouse$Service") ∈ lw_all := lw_g (lw_at lw_m6 0 rfl) rfl
theorem q1547 : (Jvm.Cond.fieldLinkNest "RingHouse$SetLength" (27 : Nat) "RingHouse$Machine" "asked" "LRingHouse$Node;" "RingHouse") ∈ lw_tbl := lw_at lw_m6 121 rfl
theorem q2708 : (Jvm.Cond.selects "RingHouse$SetLength" ({ cls := "RingHouse$Service", name := "run", desc := "(LRingHouse$Machine;LRingHouse$Process;LRingHouse$Registers;)I" } : Jvm.MethodName) ({ cls := "RingHouse$SetLength", name := "run", desc := "(LRingHouse$Machine;LRingHouse$Process;LRingHouse$Registers;)I" } : Jvm.MethodName)) ∈ lw_all := lw_g (lw_at lw_m11 82 rfl) rfl
theorem q2709 : (Jvm.Cond.instanceMethod ({ cls := "RingHouse$SetLength", name := "run", desc := "(LRingHouse$Machine;LRingHouse$Process;LRingHouse$Registers;)I" } : Jvm.MethodName)) ∈ lw_all := lw_g (lw_at lw_m11 83 rfl) rfl
theorem q2710 : (Jvm.Cond.code ({ cls := "RingHouse$SetLength", name := "run", desc := "(LRingHouse$Machine;LRingHouse$Process;LRingHouse$Registers;)I" } : Jvm.MethodName) prog_55_method_2_code (6 : Nat) (Option.some Jvm.ClassFile.FieldType.int)) ∈ lw_all := lw_g (lw_at lw_m11 84 rfl) rfl
theorem q2711 : (Jvm.Cond.methodLinkNest "RingHouse$SetLength" (15 : Nat) ({ cls := "RingHouse$Machine", name := "isKnown", desc := "(LRingHouse$Process;J)Z" } : Jvm.MethodName) "RingHouse") ∈ lw_tbl := lw_at lw_m11 85 rfl
theorem q2712 : (Jvm.Cond.methodLink "RingHouse$SetLength" (35 : Nat) ({ cls := "RingHouse$Process", name := "refusal", desc := "(III)I" } : Jvm.MethodName)) ∈ lw_all := lw_g (lw_at lw_m11 86 rfl) rfl
theorem q2713 : (Jvm.Cond.constantLong "RingHouse$SetLength" (42 : Nat) (1024 : Int64)) ∈ lw_all := lw_g (lw_at lw_m11 87 rfl) rfl
theorem q2714 : (Jvm.Cond.methodLinkNest "RingHouse$SetLength" (44 : Nat) ({ cls := "RingHouse$Machine", name := "newLength", desc := "(LRingHouse$Node;I)Z" } : Jvm.MethodName) "RingHouse") ∈ lw_tbl := lw_at lw_m11 88 rfl
theorem q4461 : (Jvm.Cond.castable "RingHouse$SetLength" "RingHouse$Service") ∈ lw_tbl := lw_at lw_m18 155 rfl
/-! RingHouse$SetLimit -/
def RX51 : String := "RingHouse$SetLimit"
def TX51 : u_T := fun k => match k with
  | _ => ("RingHouse$Entered", "how", "I", true)
def tyX51 : Nat → FieldType := fun k => match k with
  | _ => .int
abbrev wsX510 : List Cond := u_ws RX51 TX51 1
theorem nmX51 : ∀ a, a < 1 → ∀ b, b < 1 → a ≠ b → (TX51 a).2.1 ≠ (TX51 b).2.1 := by decide +kernel
theorem tyX51_ok : ∀ k, k < 1 → parseFieldDescriptor (TX51 k).2.2.1 = some (tyX51 k) := by decide +kernel
abbrev cX51_init : ByteArray := prog_56_method_1_code
def yX51_init : MethodName := ⟨RX51, "<init>", "()V"⟩
abbrev cX51_on : ByteArray := prog_56_method_2_code
def yX51_on : MethodName := ⟨RX51, "on", "(LRingHouse$Machine;LRingHouse$Node;LRingHouse$Process;LRingHouse$Registers;)I"⟩
theorem q278 : (Jvm.Cond.initialized "RingHouse$SetLimit") ∈ lw_all := lw_g (lw_at lw_m1 52 rfl) rfl
theorem q419 : (Jvm.Cond.fieldLinkNest "RingHouse$SetLimit" (24 : Nat) "RingHouse$Node" "r1" "I" "RingHouse") ∈ lw_tbl := lw_at lw_m1 193 rfl
theorem q452 : (Jvm.Cond.fieldLinkNest "RingHouse$SetLimit" (9 : Nat) "RingHouse$Node" "limit" "I" "RingHouse") ∈ lw_tbl := lw_at lw_m1 226 rfl
theorem q722 : (Jvm.Cond.fieldLinkNest "RingHouse$SetLimit" (27 : Nat) "RingHouse$Registers" "q" "J" "RingHouse") ∈ lw_tbl := lw_at lw_m3 16 rfl
theorem q768 : (Jvm.Cond.fieldLinkNest "RingHouse$SetLimit" (19 : Nat) "RingHouse$Registers" "ring" "I" "RingHouse") ∈ lw_tbl := lw_at lw_m3 62 rfl
theorem q1428 : (Jvm.Cond.instantiable "RingHouse$SetLimit" (1 : Nat)) ∈ lw_all := lw_g (lw_at lw_m6 2 rfl) rfl
theorem q1430 : (Jvm.Cond.instanceMethod ({ cls := "RingHouse$SetLimit", name := "<init>", desc := "()V" } : Jvm.MethodName)) ∈ lw_all := lw_g (lw_at lw_m6 4 rfl) rfl
theorem q1431 : (Jvm.Cond.code ({ cls := "RingHouse$SetLimit", name := "<init>", desc := "()V" } : Jvm.MethodName) prog_56_method_1_code (1 : Nat) (Option.none : Option Jvm.ClassFile.FieldType)) ∈ lw_all := lw_g (lw_at lw_m6 5 rfl) rfl
theorem q1432 : (Jvm.Cond.methodLink "RingHouse$SetLimit" (3 : Nat) ({ cls := "RingHouse$Entered", name := "<init>", desc := "(I)V" } : Jvm.MethodName)) ∈ lw_all := lw_g (lw_at lw_m6 6 rfl) rfl
theorem q1433 : (Jvm.Cond.laysFinal "RingHouse$SetLimit" "RingHouse$Entered" "how" "I") ∈ lw_all := lw_g (lw_at lw_m6 7 rfl) rfl
theorem q1434 : (Jvm.Cond.superclass "RingHouse$SetLimit" "RingHouse$Entered") ∈ lw_all := lw_g (lw_at lw_m6 8 rfl) rfl
theorem q1531 : (Jvm.Cond.fieldLinkNest "RingHouse$SetLimit" (37 : Nat) "RingHouse$Machine" "tree" "LRingHouse$Tree;" "RingHouse") ∈ lw_tbl := lw_at lw_m6 105 rfl
theorem q2616 : (Jvm.Cond.selects "RingHouse$SetLimit" ({ cls := "RingHouse$Entered", name := "on", desc := "(LRingHouse$Machine;LRingHouse$Node;LRingHouse$Process;LRingHouse$Registers;)I" } : Jvm.MethodName) ({ cls := "RingHouse$SetLimit", name := "on", desc := "(LRingHouse$Machine;LRingHouse$Node;LRingHouse$Process;LRingHouse$Registers;)I" } : Jvm.MethodName)) ∈ lw_all := lw_g (lw_at lw_m10 230 rfl) rfl
theorem q2617 : (Jvm.Cond.instanceMethod ({ cls := "RingHouse$SetLimit", name := "on", desc := "(LRingHouse$Machine;LRingHouse$Node;LRingHouse$Process;LRingHouse$Registers;)I" } : Jvm.MethodName)) ∈ lw_all := lw_g (lw_at lw_m10 231 rfl) rfl
theorem q2618 : (Jvm.Cond.code ({ cls := "RingHouse$SetLimit", name := "on", desc := "(LRingHouse$Machine;LRingHouse$Node;LRingHouse$Process;LRingHouse$Registers;)I" } : Jvm.MethodName) prog_56_method_2_code (5 : Nat) (Option.some Jvm.ClassFile.FieldType.int)) ∈ lw_all := lw_g (lw_at lw_m10 232 rfl) rfl
theorem q2619 : (Jvm.Cond.methodLink "RingHouse$SetLimit" (15 : Nat) ({ cls := "RingHouse$Node", name := "isUpgraded", desc := "()Z" } : Jvm.MethodName)) ∈ lw_all := lw_g (lw_at lw_m10 233 rfl) rfl
theorem q2620 : (Jvm.Cond.constantLong "RingHouse$SetLimit" (31 : Nat) (255 : Int64)) ∈ lw_all := lw_g (lw_at lw_m10 234 rfl) rfl
theorem q2621 : (Jvm.Cond.methodLinkNest "RingHouse$SetLimit" (33 : Nat) ({ cls := "RingHouse", name := "isIn", desc := "(JJJ)Z" } : Jvm.MethodName) "RingHouse") ∈ lw_tbl := lw_at lw_m10 235 rfl
theorem q2622 : (Jvm.Cond.methodLink "RingHouse$SetLimit" (43 : Nat) ({ cls := "RingHouse$Tree", name := "limit", desc := "(LRingHouse$Node;I)Z" } : Jvm.MethodName)) ∈ lw_all := lw_g (lw_at lw_m10 236 rfl) rfl
theorem q2715 : (Jvm.Cond.selects "RingHouse$SetLimit" ({ cls := "RingHouse$Service", name := "run", desc := "(LRingHouse$Machine;LRingHouse$Process;LRingHouse$Registers;)I" } : Jvm.MethodName) ({ cls := "RingHouse$Entered", name := "run", desc := "(LRingHouse$Machine;LRingHouse$Process;LRingHouse$Registers;)I" } : Jvm.MethodName)) ∈ lw_all := lw_g (lw_at lw_m11 89 rfl) rfl
theorem q4462 : (Jvm.Cond.castable "RingHouse$SetLimit" "RingHouse$Service") ∈ lw_tbl := lw_at lw_m18 156 rfl
theorem in_X51 : ∀ w ∈ wsX510, w ∈ lw_all := lw_in wsX510 [1433] (by decide +kernel) (by decide +kernel)
/-! RingHouse$Search -/
def RX52 : String := "RingHouse$Search"
abbrev cX52_init : ByteArray := prog_47_method_1_code
def yX52_init : MethodName := ⟨RX52, "<init>", "()V"⟩
abbrev cX52_run : ByteArray := prog_47_method_2_code
def yX52_run : MethodName := ⟨RX52, "run", "(LRingHouse$Machine;LRingHouse$Process;LRingHouse$Registers;)I"⟩
theorem q279 : (Jvm.Cond.initialized "RingHouse$Search") ∈ lw_all := lw_g (lw_at lw_m1 53 rfl) rfl
theorem q697 : (Jvm.Cond.fieldLinkNest "RingHouse$Search" (21 : Nat) "RingHouse$Registers" "a" "J" "RingHouse") ∈ lw_tbl := lw_at lw_m2 231 rfl
theorem q734 : (Jvm.Cond.fieldLinkNest "RingHouse$Search" (9 : Nat) "RingHouse$Registers" "x" "[I" "RingHouse") ∈ lw_tbl := lw_at lw_m3 28 rfl
theorem q928 : (Jvm.Cond.fieldLinkNest "RingHouse$Search" (25 : Nat) "RingHouse$Process" "work" "LRingHouse$Node;" "RingHouse") ∈ lw_tbl := lw_at lw_m3 222 rfl
theorem q933 : (Jvm.Cond.fieldLinkNest "RingHouse$Search" (15 : Nat) "RingHouse$Process" "search" "[LRingHouse$Node;" "RingHouse") ∈ lw_tbl := lw_at lw_m3 227 rfl
theorem q1436 : (Jvm.Cond.instantiable "RingHouse$Search" (0 : Nat)) ∈ lw_all := lw_g (lw_at lw_m6 10 rfl) rfl
theorem q1438 : (Jvm.Cond.instanceMethod ({ cls := "RingHouse$Search", name := "<init>", desc := "()V" } : Jvm.MethodName)) ∈ lw_all := lw_g (lw_at lw_m6 12 rfl) rfl
theorem q1439 : (Jvm.Cond.code ({ cls := "RingHouse$Search", name := "<init>", desc := "()V" } : Jvm.MethodName) prog_47_method_1_code (1 : Nat) (Option.none : Option Jvm.ClassFile.FieldType)) ∈ lw_all := lw_g (lw_at lw_m6 13 rfl) rfl
theorem q1440 : (Jvm.Cond.methodLinkNest "RingHouse$Search" (3 : Nat) ({ cls := "RingHouse$Service", name := "<init>", desc := "()V" } : Jvm.MethodName) "RingHouse") ∈ lw_tbl := lw_at lw_m6 14 rfl
theorem q1441 : (Jvm.Cond.superclass "RingHouse$Search" "RingHouse$Service") ∈ lw_all := lw_g (lw_at lw_m6 15 rfl) rfl
theorem q2682 : (Jvm.Cond.selects "RingHouse$Search" ({ cls := "RingHouse$Service", name := "run", desc := "(LRingHouse$Machine;LRingHouse$Process;LRingHouse$Registers;)I" } : Jvm.MethodName) ({ cls := "RingHouse$Search", name := "run", desc := "(LRingHouse$Machine;LRingHouse$Process;LRingHouse$Registers;)I" } : Jvm.MethodName)) ∈ lw_all := lw_g (lw_at lw_m11 56 rfl) rfl
theorem q2683 : (Jvm.Cond.instanceMethod ({ cls := "RingHouse$Search", name := "run", desc := "(LRingHouse$Machine;LRingHouse$Process;LRingHouse$Registers;)I" } : Jvm.MethodName)) ∈ lw_all := lw_g (lw_at lw_m11 57 rfl) rfl
theorem q2684 : (Jvm.Cond.code ({ cls := "RingHouse$Search", name := "run", desc := "(LRingHouse$Machine;LRingHouse$Process;LRingHouse$Registers;)I" } : Jvm.MethodName) prog_47_method_2_code (4 : Nat) (Option.some Jvm.ClassFile.FieldType.int)) ∈ lw_all := lw_g (lw_at lw_m11 58 rfl) rfl
theorem q4454 : (Jvm.Cond.castable "RingHouse$Search" "RingHouse$Service") ∈ lw_tbl := lw_at lw_m18 148 rfl
/-! RingHouse$Handle -/
def RX53 : String := "RingHouse$Handle"
abbrev cX53_init : ByteArray := prog_19_method_1_code
def yX53_init : MethodName := ⟨RX53, "<init>", "()V"⟩
abbrev cX53_run : ByteArray := prog_19_method_2_code
def yX53_run : MethodName := ⟨RX53, "run", "(LRingHouse$Machine;LRingHouse$Process;LRingHouse$Registers;)I"⟩
theorem q280 : (Jvm.Cond.initialized "RingHouse$Handle") ∈ lw_all := lw_g (lw_at lw_m1 54 rfl) rfl
theorem q692 : (Jvm.Cond.fieldLinkNest "RingHouse$Handle" (7 : Nat) "RingHouse$Registers" "a" "J" "RingHouse") ∈ lw_tbl := lw_at lw_m2 226 rfl
theorem q748 : (Jvm.Cond.fieldLinkNest "RingHouse$Handle" (19 : Nat) "RingHouse$Registers" "pNumber" "[I" "RingHouse") ∈ lw_tbl := lw_at lw_m3 42 rfl
theorem q751 : (Jvm.Cond.fieldLinkNest "RingHouse$Handle" (27 : Nat) "RingHouse$Registers" "pPlace" "[I" "RingHouse") ∈ lw_tbl := lw_at lw_m3 45 rfl
theorem q771 : (Jvm.Cond.fieldLinkNest "RingHouse$Handle" (33 : Nat) "RingHouse$Registers" "ring" "I" "RingHouse") ∈ lw_tbl := lw_at lw_m3 65 rfl
theorem q898 : (Jvm.Cond.fieldLinkNest "RingHouse$Handle" (13 : Nat) "RingHouse$Process" "hasHandler" "Z" "RingHouse") ∈ lw_tbl := lw_at lw_m3 192 rfl
theorem q901 : (Jvm.Cond.fieldLinkNest "RingHouse$Handle" (23 : Nat) "RingHouse$Process" "handlerNumber" "I" "RingHouse") ∈ lw_tbl := lw_at lw_m3 195 rfl
theorem q903 : (Jvm.Cond.fieldLinkNest "RingHouse$Handle" (30 : Nat) "RingHouse$Process" "handlerPlace" "I" "RingHouse") ∈ lw_tbl := lw_at lw_m3 197 rfl
theorem q905 : (Jvm.Cond.fieldLinkNest "RingHouse$Handle" (36 : Nat) "RingHouse$Process" "handlerRing" "I" "RingHouse") ∈ lw_tbl := lw_at lw_m3 199 rfl
theorem q1443 : (Jvm.Cond.instantiable "RingHouse$Handle" (0 : Nat)) ∈ lw_all := lw_g (lw_at lw_m6 17 rfl) rfl
theorem q1445 : (Jvm.Cond.instanceMethod ({ cls := "RingHouse$Handle", name := "<init>", desc := "()V" } : Jvm.MethodName)) ∈ lw_all := lw_g (lw_at lw_m6 19 rfl) rfl
theorem q1446 : (Jvm.Cond.code ({ cls := "RingHouse$Handle", name := "<init>", desc := "()V" } : Jvm.MethodName) prog_19_method_1_code (1 : Nat) (Option.none : Option Jvm.ClassFile.FieldType)) ∈ lw_all := lw_g (lw_at lw_m6 20 rfl) rfl
theorem q1447 : (Jvm.Cond.methodLinkNest "RingHouse$Handle" (1 : Nat) ({ cls := "RingHouse$Service", name := "<init>", desc := "()V" } : Jvm.MethodName) "RingHouse") ∈ lw_tbl := lw_at lw_m6 21 rfl
theorem q1448 : (Jvm.Cond.superclass "RingHouse$Handle" "RingHouse$Service") ∈ lw_all := lw_g (lw_at lw_m6 22 rfl) rfl
theorem q2643 : (Jvm.Cond.selects "RingHouse$Handle" ({ cls := "RingHouse$Service", name := "run", desc := "(LRingHouse$Machine;LRingHouse$Process;LRingHouse$Registers;)I" } : Jvm.MethodName) ({ cls := "RingHouse$Handle", name := "run", desc := "(LRingHouse$Machine;LRingHouse$Process;LRingHouse$Registers;)I" } : Jvm.MethodName)) ∈ lw_all := lw_g (lw_at lw_m11 17 rfl) rfl
theorem q2644 : (Jvm.Cond.instanceMethod ({ cls := "RingHouse$Handle", name := "run", desc := "(LRingHouse$Machine;LRingHouse$Process;LRingHouse$Registers;)I" } : Jvm.MethodName)) ∈ lw_all := lw_g (lw_at lw_m11 18 rfl) rfl
theorem q2645 : (Jvm.Cond.code ({ cls := "RingHouse$Handle", name := "run", desc := "(LRingHouse$Machine;LRingHouse$Process;LRingHouse$Registers;)I" } : Jvm.MethodName) prog_19_method_2_code (4 : Nat) (Option.some Jvm.ClassFile.FieldType.int)) ∈ lw_all := lw_g (lw_at lw_m11 19 rfl) rfl
theorem q4444 : (Jvm.Cond.castable "RingHouse$Handle" "RingHouse$Service") ∈ lw_tbl := lw_at lw_m18 138 rfl
/-! RingHouse$Resume -/
def RX54 : String := "RingHouse$Resume"
abbrev cX54_init : ByteArray := prog_44_method_1_code
def yX54_init : MethodName := ⟨RX54, "<init>", "()V"⟩
abbrev cX54_run : ByteArray := prog_44_method_2_code
def yX54_run : MethodName := ⟨RX54, "run", "(LRingHouse$Machine;LRingHouse$Process;LRingHouse$Registers;)I"⟩
theorem q281 : (Jvm.Cond.initialized "RingHouse$Resume") ∈ lw_all := lw_g (lw_at lw_m1 55 rfl) rfl
theorem q740 : (Jvm.Cond.fieldLinkNest "RingHouse$Resume" (24 : Nat) "RingHouse$Registers" "x" "[I" "RingHouse") ∈ lw_tbl := lw_at lw_m3 34 rfl
theorem q759 : (Jvm.Cond.fieldLinkNest "RingHouse$Resume" (32 : Nat) "RingHouse$Registers" "place" "I" "RingHouse") ∈ lw_tbl := lw_at lw_m3 53 rfl
theorem q769 : (Jvm.Cond.fieldLinkNest "RingHouse$Resume" (19 : Nat) "RingHouse$Registers" "ring" "I" "RingHouse") ∈ lw_tbl := lw_at lw_m3 63 rfl
theorem q894 : (Jvm.Cond.fieldLinkNest "RingHouse$Resume" (15 : Nat) "RingHouse$Process" "frames" "[LRingHouse$Registers;" "RingHouse") ∈ lw_tbl := lw_at lw_m3 188 rfl
theorem q895 : (Jvm.Cond.fieldLinkNest "RingHouse$Resume" (9 : Nat) "RingHouse$Process" "framed" "I" "RingHouse") ∈ lw_tbl := lw_at lw_m3 189 rfl
theorem q1450 : (Jvm.Cond.instantiable "RingHouse$Resume" (0 : Nat)) ∈ lw_all := lw_g (lw_at lw_m6 24 rfl) rfl
theorem q1452 : (Jvm.Cond.instanceMethod ({ cls := "RingHouse$Resume", name := "<init>", desc := "()V" } : Jvm.MethodName)) ∈ lw_all := lw_g (lw_at lw_m6 26 rfl) rfl
theorem q1453 : (Jvm.Cond.code ({ cls := "RingHouse$Resume", name := "<init>", desc := "()V" } : Jvm.MethodName) prog_44_method_1_code (1 : Nat) (Option.none : Option Jvm.ClassFile.FieldType)) ∈ lw_all := lw_g (lw_at lw_m6 27 rfl) rfl
theorem q1454 : (Jvm.Cond.methodLinkNest "RingHouse$Resume" (3 : Nat) ({ cls := "RingHouse$Service", name := "<init>", desc := "()V" } : Jvm.MethodName) "RingHouse") ∈ lw_tbl := lw_at lw_m6 28 rfl
theorem q1455 : (Jvm.Cond.superclass "RingHouse$Resume" "RingHouse$Service") ∈ lw_all := lw_g (lw_at lw_m6 29 rfl) rfl
theorem q1588 : (Jvm.Cond.fieldLinkNest "RingHouse$Resume" (36 : Nat) "RingHouse$Machine" "isAside" "Z" "RingHouse") ∈ lw_tbl := lw_at lw_m6 162 rfl
theorem q2677 : (Jvm.Cond.selects "RingHouse$Resume" ({ cls := "RingHouse$Service", name := "run", desc := "(LRingHouse$Machine;LRingHouse$Process;LRingHouse$Registers;)I" } : Jvm.MethodName) ({ cls := "RingHouse$Resume", name := "run", desc := "(LRingHouse$Machine;LRingHouse$Process;LRingHouse$Registers;)I" } : Jvm.MethodName)) ∈ lw_all := lw_g (lw_at lw_m11 51 rfl) rfl
theorem q2678 : (Jvm.Cond.instanceMethod ({ cls := "RingHouse$Resume", name := "run", desc := "(LRingHouse$Machine;LRingHouse$Process;LRingHouse$Registers;)I" } : Jvm.MethodName)) ∈ lw_all := lw_g (lw_at lw_m11 52 rfl) rfl
theorem q2679 : (Jvm.Cond.code ({ cls := "RingHouse$Resume", name := "run", desc := "(LRingHouse$Machine;LRingHouse$Process;LRingHouse$Registers;)I" } : Jvm.MethodName) prog_44_method_2_code (6 : Nat) (Option.some Jvm.ClassFile.FieldType.int)) ∈ lw_all := lw_g (lw_at lw_m11 53 rfl) rfl
theorem q2680 : (Jvm.Cond.methodLink "RingHouse$Resume" (28 : Nat) ({ cls := "RingHouse$Registers", name := "copy", desc := "(LRingHouse$Registers;)V" } : Jvm.MethodName)) ∈ lw_all := lw_g (lw_at lw_m11 54 rfl) rfl
theorem q2681 : (Jvm.Cond.constant "RingHouse$Resume" (35 : Nat) (262143 : Int32)) ∈ lw_all := lw_g (lw_at lw_m11 55 rfl) rfl
theorem q4453 : (Jvm.Cond.castable "RingHouse$Resume" "RingHouse$Service") ∈ lw_tbl := lw_at lw_m18 147 rfl
/-! RingHouse$SendTo -/
def RX55 : String := "RingHouse$SendTo"
abbrev cX55_init : ByteArray := prog_50_method_1_code
def yX55_init : MethodName := ⟨RX55, "<init>", "()V"⟩
abbrev cX55_run : ByteArray := prog_50_method_2_code
def yX55_run : MethodName := ⟨RX55, "run", "(LRingHouse$Machine;LRingHouse$Process;LRingHouse$Registers;)I"⟩
theorem q282 : (Jvm.Cond.initialized "RingHouse$SendTo") ∈ lw_all := lw_g (lw_at lw_m1 56 rfl) rfl
theorem q727 : (Jvm.Cond.fieldLinkNest "RingHouse$SendTo" (39 : Nat) "RingHouse$Registers" "q" "J" "RingHouse") ∈ lw_tbl := lw_at lw_m3 21 rfl
theorem q735 : (Jvm.Cond.fieldLinkNest "RingHouse$SendTo" (9 : Nat) "RingHouse$Registers" "x" "[I" "RingHouse") ∈ lw_tbl := lw_at lw_m3 29 rfl
theorem q859 : (Jvm.Cond.fieldLinkNest "RingHouse$SendTo" (21 : Nat) "RingHouse$Process" "lives" "Z" "RingHouse") ∈ lw_tbl := lw_at lw_m3 153 rfl
theorem q883 : (Jvm.Cond.fieldLinkNest "RingHouse$SendTo" (27 : Nat) "RingHouse$Process" "label" "I" "RingHouse") ∈ lw_tbl := lw_at lw_m3 177 rfl
theorem q1457 : (Jvm.Cond.instantiable "RingHouse$SendTo" (0 : Nat)) ∈ lw_all := lw_g (lw_at lw_m6 31 rfl) rfl
theorem q1459 : (Jvm.Cond.instanceMethod ({ cls := "RingHouse$SendTo", name := "<init>", desc := "()V" } : Jvm.MethodName)) ∈ lw_all := lw_g (lw_at lw_m6 33 rfl) rfl
theorem q1460 : (Jvm.Cond.code ({ cls := "RingHouse$SendTo", name := "<init>", desc := "()V" } : Jvm.MethodName) prog_50_method_1_code (1 : Nat) (Option.none : Option Jvm.ClassFile.FieldType)) ∈ lw_all := lw_g (lw_at lw_m6 34 rfl) rfl
theorem q1461 : (Jvm.Cond.methodLinkNest "RingHouse$SendTo" (3 : Nat) ({ cls := "RingHouse$Service", name := "<init>", desc := "()V" } : Jvm.MethodName) "RingHouse") ∈ lw_tbl := lw_at lw_m6 35 rfl
theorem q1462 : (Jvm.Cond.superclass "RingHouse$SendTo" "RingHouse$Service") ∈ lw_all := lw_g (lw_at lw_m6 36 rfl) rfl
theorem q1535 : (Jvm.Cond.fieldLinkNest "RingHouse$SendTo" (15 : Nat) "RingHouse$Machine" "processes" "[LRingHouse$Process;" "RingHouse") ∈ lw_tbl := lw_at lw_m6 109 rfl
theorem q2692 : (Jvm.Cond.selects "RingHouse$SendTo" ({ cls := "RingHouse$Service", name := "run", desc := "(LRingHouse$Machine;LRingHouse$Process;LRingHouse$Registers;)I" } : Jvm.MethodName) ({ cls := "RingHouse$SendTo", name := "run", desc := "(LRingHouse$Machine;LRingHouse$Process;LRingHouse$Registers;)I" } : Jvm.MethodName)) ∈ lw_all := lw_g (lw_at lw_m11 66 rfl) rfl
theorem q2693 : (Jvm.Cond.instanceMethod ({ cls := "RingHouse$SendTo", name := "run", desc := "(LRingHouse$Machine;LRingHouse$Process;LRingHouse$Registers;)I" } : Jvm.MethodName)) ∈ lw_all := lw_g (lw_at lw_m11 67 rfl) rfl
theorem q2694 : (Jvm.Cond.code ({ cls := "RingHouse$SendTo", name := "run", desc := "(LRingHouse$Machine;LRingHouse$Process;LRingHouse$Registers;)I" } : Jvm.MethodName) prog_50_method_2_code (5 : Nat) (Option.some Jvm.ClassFile.FieldType.int)) ∈ lw_all := lw_g (lw_at lw_m11 68 rfl) rfl
theorem q2695 : (Jvm.Cond.methodLinkNest "RingHouse$SendTo" (31 : Nat) ({ cls := "RingHouse", name := "dominates", desc := "(II)Z" } : Jvm.MethodName) "RingHouse") ∈ lw_tbl := lw_at lw_m11 69 rfl
theorem q2696 : (Jvm.Cond.methodLink "RingHouse$SendTo" (35 : Nat) ({ cls := "RingHouse$Process", name := "isFull", desc := "()Z" } : Jvm.MethodName)) ∈ lw_all := lw_g (lw_at lw_m11 70 rfl) rfl
theorem q2697 : (Jvm.Cond.methodLink "RingHouse$SendTo" (43 : Nat) ({ cls := "RingHouse$Process", name := "receive", desc := "(J)V" } : Jvm.MethodName)) ∈ lw_all := lw_g (lw_at lw_m11 71 rfl) rfl
theorem q4457 : (Jvm.Cond.castable "RingHouse$SendTo" "RingHouse$Service") ∈ lw_tbl := lw_at lw_m18 151 rfl
/-! RingHouse$Receive -/
def RX56 : String := "RingHouse$Receive"
abbrev cX56_init : ByteArray := prog_40_method_1_code
def yX56_init : MethodName := ⟨RX56, "<init>", "()V"⟩
abbrev cX56_run : ByteArray := prog_40_method_2_code
def yX56_run : MethodName := ⟨RX56, "run", "(LRingHouse$Machine;LRingHouse$Process;LRingHouse$Registers;)I"⟩
theorem q283 : (Jvm.Cond.initialized "RingHouse$Receive") ∈ lw_all := lw_g (lw_at lw_m1 57 rfl) rfl
theorem q721 : (Jvm.Cond.fieldLinkNest "RingHouse$Receive" (32 : Nat) "RingHouse$Registers" "q" "J" "RingHouse") ∈ lw_tbl := lw_at lw_m3 15 rfl
theorem q863 : (Jvm.Cond.fieldLinkNest "RingHouse$Receive" (15 : Nat) "RingHouse$Process" "state" "I" "RingHouse") ∈ lw_tbl := lw_at lw_m3 157 rfl
theorem q938 : (Jvm.Cond.fieldLinkNest "RingHouse$Receive" (9 : Nat) "RingHouse$Process" "waiting" "I" "RingHouse") ∈ lw_tbl := lw_at lw_m3 232 rfl
theorem q1464 : (Jvm.Cond.instantiable "RingHouse$Receive" (0 : Nat)) ∈ lw_all := lw_g (lw_at lw_m6 38 rfl) rfl
theorem q1466 : (Jvm.Cond.instanceMethod ({ cls := "RingHouse$Receive", name := "<init>", desc := "()V" } : Jvm.MethodName)) ∈ lw_all := lw_g (lw_at lw_m6 40 rfl) rfl
theorem q1467 : (Jvm.Cond.code ({ cls := "RingHouse$Receive", name := "<init>", desc := "()V" } : Jvm.MethodName) prog_40_method_1_code (1 : Nat) (Option.none : Option Jvm.ClassFile.FieldType)) ∈ lw_all := lw_g (lw_at lw_m6 41 rfl) rfl
theorem q1468 : (Jvm.Cond.methodLinkNest "RingHouse$Receive" (3 : Nat) ({ cls := "RingHouse$Service", name := "<init>", desc := "()V" } : Jvm.MethodName) "RingHouse") ∈ lw_tbl := lw_at lw_m6 42 rfl
theorem q1469 : (Jvm.Cond.superclass "RingHouse$Receive" "RingHouse$Service") ∈ lw_all := lw_g (lw_at lw_m6 43 rfl) rfl
theorem q1587 : (Jvm.Cond.fieldLinkNest "RingHouse$Receive" (22 : Nat) "RingHouse$Machine" "isAside" "Z" "RingHouse") ∈ lw_tbl := lw_at lw_m6 161 rfl
theorem q2668 : (Jvm.Cond.selects "RingHouse$Receive" ({ cls := "RingHouse$Service", name := "run", desc := "(LRingHouse$Machine;LRingHouse$Process;LRingHouse$Registers;)I" } : Jvm.MethodName) ({ cls := "RingHouse$Receive", name := "run", desc := "(LRingHouse$Machine;LRingHouse$Process;LRingHouse$Registers;)I" } : Jvm.MethodName)) ∈ lw_all := lw_g (lw_at lw_m11 42 rfl) rfl
theorem q2669 : (Jvm.Cond.instanceMethod ({ cls := "RingHouse$Receive", name := "run", desc := "(LRingHouse$Machine;LRingHouse$Process;LRingHouse$Registers;)I" } : Jvm.MethodName)) ∈ lw_all := lw_g (lw_at lw_m11 43 rfl) rfl
theorem q2670 : (Jvm.Cond.code ({ cls := "RingHouse$Receive", name := "run", desc := "(LRingHouse$Machine;LRingHouse$Process;LRingHouse$Registers;)I" } : Jvm.MethodName) prog_40_method_2_code (4 : Nat) (Option.some Jvm.ClassFile.FieldType.int)) ∈ lw_all := lw_g (lw_at lw_m11 44 rfl) rfl
theorem q2671 : (Jvm.Cond.methodLink "RingHouse$Receive" (18 : Nat) ({ cls := "RingHouse$Process", name := "event", desc := "(IJJJ)V" } : Jvm.MethodName)) ∈ lw_all := lw_g (lw_at lw_m11 45 rfl) rfl
theorem q2672 : (Jvm.Cond.methodLink "RingHouse$Receive" (28 : Nat) ({ cls := "RingHouse$Process", name := "take", desc := "()J" } : Jvm.MethodName)) ∈ lw_all := lw_g (lw_at lw_m11 46 rfl) rfl
theorem q4451 : (Jvm.Cond.castable "RingHouse$Receive" "RingHouse$Service") ∈ lw_tbl := lw_at lw_m18 145 rfl
/-! RingHouse$Self -/
def RX57 : String := "RingHouse$Self"
def TX57 : u_T := fun k => match k with
  | _ => ("RingHouse$Self", "isTime", "Z", true)
def tyX57 : Nat → FieldType := fun k => match k with
  | _ => .boolean
abbrev wsX570 : List Cond := u_ws RX57 TX57 1
theorem nmX57 : ∀ a, a < 1 → ∀ b, b < 1 → a ≠ b → (TX57 a).2.1 ≠ (TX57 b).2.1 := by decide +kernel
theorem tyX57_ok : ∀ k, k < 1 → parseFieldDescriptor (TX57 k).2.2.1 = some (tyX57 k) := by decide +kernel
abbrev cX57_init : ByteArray := prog_49_method_1_code
def yX57_init : MethodName := ⟨RX57, "<init>", "(Z)V"⟩
abbrev cX57_run : ByteArray := prog_49_method_2_code
def yX57_run : MethodName := ⟨RX57, "run", "(LRingHouse$Machine;LRingHouse$Process;LRingHouse$Registers;)I"⟩
theorem q284 : (Jvm.Cond.initialized "RingHouse$Self") ∈ lw_all := lw_g (lw_at lw_m1 58 rfl) rfl
theorem q724 : (Jvm.Cond.fieldLinkNest "RingHouse$Self" (39 : Nat) "RingHouse$Registers" "q" "J" "RingHouse") ∈ lw_tbl := lw_at lw_m3 18 rfl
theorem q773 : (Jvm.Cond.fieldLinkNest "RingHouse$Self" (34 : Nat) "RingHouse$Registers" "ring" "I" "RingHouse") ∈ lw_tbl := lw_at lw_m3 67 rfl
theorem q868 : (Jvm.Cond.fieldLinkNest "RingHouse$Self" (19 : Nat) "RingHouse$Process" "person" "I" "RingHouse") ∈ lw_tbl := lw_at lw_m3 162 rfl
theorem q874 : (Jvm.Cond.fieldLinkNest "RingHouse$Self" (24 : Nat) "RingHouse$Process" "project" "I" "RingHouse") ∈ lw_tbl := lw_at lw_m3 168 rfl
theorem q884 : (Jvm.Cond.fieldLinkNest "RingHouse$Self" (29 : Nat) "RingHouse$Process" "label" "I" "RingHouse") ∈ lw_tbl := lw_at lw_m3 178 rfl
theorem q886 : (Jvm.Cond.fieldLinkNest "RingHouse$Self" (13 : Nat) "RingHouse$Process" "ticks" "I" "RingHouse") ∈ lw_tbl := lw_at lw_m3 180 rfl
theorem q1471 : (Jvm.Cond.instantiable "RingHouse$Self" (1 : Nat)) ∈ lw_all := lw_g (lw_at lw_m6 45 rfl) rfl
theorem q1473 : (Jvm.Cond.instanceMethod ({ cls := "RingHouse$Self", name := "<init>", desc := "(Z)V" } : Jvm.MethodName)) ∈ lw_all := lw_g (lw_at lw_m6 47 rfl) rfl
theorem q1474 : (Jvm.Cond.code ({ cls := "RingHouse$Self", name := "<init>", desc := "(Z)V" } : Jvm.MethodName) prog_49_method_1_code (2 : Nat) (Option.none : Option Jvm.ClassFile.FieldType)) ∈ lw_all := lw_g (lw_at lw_m6 48 rfl) rfl
theorem q1475 : (Jvm.Cond.methodLinkNest "RingHouse$Self" (1 : Nat) ({ cls := "RingHouse$Service", name := "<init>", desc := "()V" } : Jvm.MethodName) "RingHouse") ∈ lw_tbl := lw_at lw_m6 49 rfl
theorem q1476 : (Jvm.Cond.fieldLink "RingHouse$Self" (7 : Nat) "RingHouse$Self" "isTime" "Z") ∈ lw_all := lw_g (lw_at lw_m6 50 rfl) rfl
theorem q1477 : (Jvm.Cond.laysFinal "RingHouse$Self" "RingHouse$Self" "isTime" "Z") ∈ lw_all := lw_g (lw_at lw_m6 51 rfl) rfl
theorem q1478 : (Jvm.Cond.soleField "RingHouse$Self" "isTime") ∈ lw_all := lw_g (lw_at lw_m6 52 rfl) rfl
theorem q1479 : (Jvm.Cond.superclass "RingHouse$Self" "RingHouse$Service") ∈ lw_all := lw_g (lw_at lw_m6 53 rfl) rfl
theorem q2686 : (Jvm.Cond.selects "RingHouse$Self" ({ cls := "RingHouse$Service", name := "run", desc := "(LRingHouse$Machine;LRingHouse$Process;LRingHouse$Registers;)I" } : Jvm.MethodName) ({ cls := "RingHouse$Self", name := "run", desc := "(LRingHouse$Machine;LRingHouse$Process;LRingHouse$Registers;)I" } : Jvm.MethodName)) ∈ lw_all := lw_g (lw_at lw_m11 60 rfl) rfl
theorem q2687 : (Jvm.Cond.instanceMethod ({ cls := "RingHouse$Self", name := "run", desc := "(LRingHouse$Machine;LRingHouse$Process;LRingHouse$Registers;)I" } : Jvm.MethodName)) ∈ lw_all := lw_g (lw_at lw_m11 61 rfl) rfl
theorem q2688 : (Jvm.Cond.code ({ cls := "RingHouse$Self", name := "run", desc := "(LRingHouse$Machine;LRingHouse$Process;LRingHouse$Registers;)I" } : Jvm.MethodName) prog_49_method_2_code (4 : Nat) (Option.some Jvm.ClassFile.FieldType.int)) ∈ lw_all := lw_g (lw_at lw_m11 62 rfl) rfl
theorem q2689 : (Jvm.Cond.constantLong "RingHouse$Self" (22 : Nat) (16 : Int64)) ∈ lw_all := lw_g (lw_at lw_m11 63 rfl) rfl
theorem q2690 : (Jvm.Cond.constantLong "RingHouse$Self" (27 : Nat) (128 : Int64)) ∈ lw_all := lw_g (lw_at lw_m11 64 rfl) rfl
theorem q2691 : (Jvm.Cond.constantLong "RingHouse$Self" (32 : Nat) (4096 : Int64)) ∈ lw_all := lw_g (lw_at lw_m11 65 rfl) rfl
theorem q4456 : (Jvm.Cond.castable "RingHouse$Self" "RingHouse$Service") ∈ lw_tbl := lw_at lw_m18 150 rfl
theorem in_X57 : ∀ w ∈ wsX570, w ∈ lw_all := lw_in wsX570 [1477] (by decide +kernel) (by decide +kernel)
/-! RingHouse$Modes -/
def RX58 : String := "RingHouse$Modes"
abbrev cX58_init : ByteArray := prog_29_method_1_code
def yX58_init : MethodName := ⟨RX58, "<init>", "()V"⟩
abbrev cX58_run : ByteArray := prog_29_method_2_code
def yX58_run : MethodName := ⟨RX58, "run", "(LRingHouse$Machine;LRingHouse$Process;LRingHouse$Registers;)I"⟩
theorem q285 : (Jvm.Cond.initialized "RingHouse$Modes") ∈ lw_all := lw_g (lw_at lw_m1 59 rfl) rfl
theorem q688 : (Jvm.Cond.fieldLinkNest "RingHouse$Modes" (9 : Nat) "RingHouse$Registers" "a" "J" "RingHouse") ∈ lw_tbl := lw_at lw_m2 222 rfl
theorem q720 : (Jvm.Cond.fieldLinkNest "RingHouse$Modes" (23 : Nat) "RingHouse$Registers" "q" "J" "RingHouse") ∈ lw_tbl := lw_at lw_m3 14 rfl
theorem q766 : (Jvm.Cond.fieldLinkNest "RingHouse$Modes" (17 : Nat) "RingHouse$Registers" "ring" "I" "RingHouse") ∈ lw_tbl := lw_at lw_m3 60 rfl
theorem q1481 : (Jvm.Cond.instantiable "RingHouse$Modes" (0 : Nat)) ∈ lw_all := lw_g (lw_at lw_m6 55 rfl) rfl
theorem q1483 : (Jvm.Cond.instanceMethod ({ cls := "RingHouse$Modes", name := "<init>", desc := "()V" } : Jvm.MethodName)) ∈ lw_all := lw_g (lw_at lw_m6 57 rfl) rfl
theorem q1484 : (Jvm.Cond.code ({ cls := "RingHouse$Modes", name := "<init>", desc := "()V" } : Jvm.MethodName) prog_29_method_1_code (1 : Nat) (Option.none : Option Jvm.ClassFile.FieldType)) ∈ lw_all := lw_g (lw_at lw_m6 58 rfl) rfl
theorem q1485 : (Jvm.Cond.methodLinkNest "RingHouse$Modes" (3 : Nat) ({ cls := "RingHouse$Service", name := "<init>", desc := "()V" } : Jvm.MethodName) "RingHouse") ∈ lw_tbl := lw_at lw_m6 59 rfl
theorem q1486 : (Jvm.Cond.superclass "RingHouse$Modes" "RingHouse$Service") ∈ lw_all := lw_g (lw_at lw_m6 60 rfl) rfl
theorem q2650 : (Jvm.Cond.selects "RingHouse$Modes" ({ cls := "RingHouse$Service", name := "run", desc := "(LRingHouse$Machine;LRingHouse$Process;LRingHouse$Registers;)I" } : Jvm.MethodName) ({ cls := "RingHouse$Modes", name := "run", desc := "(LRingHouse$Machine;LRingHouse$Process;LRingHouse$Registers;)I" } : Jvm.MethodName)) ∈ lw_all := lw_g (lw_at lw_m11 24 rfl) rfl
theorem q2651 : (Jvm.Cond.instanceMethod ({ cls := "RingHouse$Modes", name := "run", desc := "(LRingHouse$Machine;LRingHouse$Process;LRingHouse$Registers;)I" } : Jvm.MethodName)) ∈ lw_all := lw_g (lw_at lw_m11 25 rfl) rfl
theorem q2652 : (Jvm.Cond.code ({ cls := "RingHouse$Modes", name := "run", desc := "(LRingHouse$Machine;LRingHouse$Process;LRingHouse$Registers;)I" } : Jvm.MethodName) prog_29_method_2_code (7 : Nat) (Option.some Jvm.ClassFile.FieldType.int)) ∈ lw_all := lw_g (lw_at lw_m11 26 rfl) rfl
theorem q2653 : (Jvm.Cond.constantLong "RingHouse$Modes" (15 : Nat) (8 : Int64)) ∈ lw_all := lw_g (lw_at lw_m11 27 rfl) rfl
theorem q2654 : (Jvm.Cond.constantLong "RingHouse$Modes" (21 : Nat) (5 : Int64)) ∈ lw_all := lw_g (lw_at lw_m11 28 rfl) rfl
theorem q2655 : (Jvm.Cond.methodLinkNest "RingHouse$Modes" (26 : Nat) ({ cls := "RingHouse$Machine", name := "isKnown", desc := "(LRingHouse$Process;J)Z" } : Jvm.MethodName) "RingHouse") ∈ lw_tbl := lw_at lw_m11 29 rfl
theorem q2656 : (Jvm.Cond.methodLink "RingHouse$Modes" (32 : Nat) ({ cls := "RingHouse$Process", name := "refusal", desc := "(III)I" } : Jvm.MethodName)) ∈ lw_all := lw_g (lw_at lw_m11 30 rfl) rfl
theorem q2657 : (Jvm.Cond.constantLong "RingHouse$Modes" (38 : Nat) (2 : Int64)) ∈ lw_all := lw_g (lw_at lw_m11 31 rfl) rfl
theorem q2658 : (Jvm.Cond.constantLong "RingHouse$Modes" (40 : Nat) (4 : Int64)) ∈ lw_all := lw_g (lw_at lw_m11 32 rfl) rfl
theorem q4447 : (Jvm.Cond.castable "RingHouse$Modes" "RingHouse$Service") ∈ lw_tbl := lw_at lw_m18 141 rfl
/-! RingHouse$SetInitial -/
def RX59 : String := "RingHouse$SetInitial"
abbrev cX59_init : ByteArray := prog_53_method_1_code
def yX59_init : MethodName := ⟨RX59, "<init>", "()V"⟩
abbrev cX59_run : ByteArray := prog_53_method_2_code
def yX59_run : MethodName := ⟨RX59, "run", "(LRingHouse$Machine;LRingHouse$Process;LRingHouse$Registers;)I"⟩
theorem q286 : (Jvm.Cond.initialized "RingHouse$SetInitial") ∈ lw_all := lw_g (lw_at lw_m1 60 rfl) rfl
theorem q699 : (Jvm.Cond.fieldLinkNest "RingHouse$SetInitial" (24 : Nat) "RingHouse$Registers" "a" "J" "RingHouse") ∈ lw_tbl := lw_at lw_m2 233 rfl
theorem q741 : (Jvm.Cond.fieldLinkNest "RingHouse$SetInitial" (36 : Nat) "RingHouse$Registers" "x" "[I" "RingHouse") ∈ lw_tbl := lw_at lw_m3 35 rfl
theorem q924 : (Jvm.Cond.fieldLinkNest "RingHouse$SetInitial" (9 : Nat) "RingHouse$Process" "work" "LRingHouse$Node;" "RingHouse") ∈ lw_tbl := lw_at lw_m3 218 rfl
theorem q1488 : (Jvm.Cond.instantiable "RingHouse$SetInitial" (0 : Nat)) ∈ lw_all := lw_g (lw_at lw_m6 62 rfl) rfl
theorem q1490 : (Jvm.Cond.instanceMethod ({ cls := "RingHouse$SetInitial", name := "<init>", desc := "()V" } : Jvm.MethodName)) ∈ lw_all := lw_g (lw_at lw_m6 64 rfl) rfl
theorem q1491 : (Jvm.Cond.code ({ cls := "RingHouse$SetInitial", name := "<init>", desc := "()V" } : Jvm.MethodName) prog_53_method_1_code (1 : Nat) (Option.none : Option Jvm.ClassFile.FieldType)) ∈ lw_all := lw_g (lw_at lw_m6 65 rfl) rfl
theorem q1492 : (Jvm.Cond.methodLinkNest "RingHouse$SetInitial" (3 : Nat) ({ cls := "RingHouse$Service", name := "<init>", desc := "()V" } : Jvm.MethodName) "RingHouse") ∈ lw_tbl := lw_at lw_m6 66 rfl
theorem q1493 : (Jvm.Cond.superclass "RingHouse$SetInitial" "RingHouse$Service") ∈ lw_all := lw_g (lw_at lw_m6 67 rfl) rfl
theorem q1546 : (Jvm.Cond.fieldLinkNest "RingHouse$SetInitial" (15 : Nat) "RingHouse$Machine" "asked" "LRingHouse$Node;" "RingHouse") ∈ lw_tbl := lw_at lw_m6 120 rfl
theorem q2699 : (Jvm.Cond.selects "RingHouse$SetInitial" ({ cls := "RingHouse$Service", name := "run", desc := "(LRingHouse$Machine;LRingHouse$Process;LRingHouse$Registers;)I" } : Jvm.MethodName) ({ cls := "RingHouse$SetInitial", name := "run", desc := "(LRingHouse$Machine;LRingHouse$Process;LRingHouse$Registers;)I" } : Jvm.MethodName)) ∈ lw_all := lw_g (lw_at lw_m11 73 rfl) rfl
theorem q2700 : (Jvm.Cond.instanceMethod ({ cls := "RingHouse$SetInitial", name := "run", desc := "(LRingHouse$Machine;LRingHouse$Process;LRingHouse$Registers;)I" } : Jvm.MethodName)) ∈ lw_all := lw_g (lw_at lw_m11 74 rfl) rfl
theorem q2701 : (Jvm.Cond.code ({ cls := "RingHouse$SetInitial", name := "run", desc := "(LRingHouse$Machine;LRingHouse$Process;LRingHouse$Registers;)I" } : Jvm.MethodName) prog_53_method_2_code (5 : Nat) (Option.some Jvm.ClassFile.FieldType.int)) ∈ lw_all := lw_g (lw_at lw_m11 75 rfl) rfl
theorem q2702 : (Jvm.Cond.methodLink "RingHouse$SetInitial" (20 : Nat) ({ cls := "RingHouse$Process", name := "refusal", desc := "(LRingHouse$Node;I)I" } : Jvm.MethodName)) ∈ lw_all := lw_g (lw_at lw_m11 76 rfl) rfl
theorem q2703 : (Jvm.Cond.constantLong "RingHouse$SetInitial" (30 : Nat) (2 : Int64)) ∈ lw_all := lw_g (lw_at lw_m11 77 rfl) rfl
theorem q2704 : (Jvm.Cond.methodLinkNest "RingHouse$SetInitial" (32 : Nat) ({ cls := "RingHouse", name := "isIn", desc := "(JJJ)Z" } : Jvm.MethodName) "RingHouse") ∈ lw_tbl := lw_at lw_m11 78 rfl
theorem q2705 : (Jvm.Cond.methodLink "RingHouse$SetInitial" (40 : Nat) ({ cls := "RingHouse$Node", name := "initial", desc := "(I)LRingHouse$Acl;" } : Jvm.MethodName)) ∈ lw_all := lw_g (lw_at lw_m11 79 rfl) rfl
theorem q2706 : (Jvm.Cond.methodLink "RingHouse$SetInitial" (46 : Nat) ({ cls := "RingHouse$Acl", name := "set", desc := "(III)I" } : Jvm.MethodName)) ∈ lw_all := lw_g (lw_at lw_m11 80 rfl) rfl
theorem q4459 : (Jvm.Cond.castable "RingHouse$SetInitial" "RingHouse$Service") ∈ lw_tbl := lw_at lw_m18 153 rfl
/-! RingHouse$Mailed -/
def RX60 : String := "RingHouse$Mailed"
abbrev cX60_init : ByteArray := prog_28_method_1_code
def yX60_init : MethodName := ⟨RX60, "<init>", "(I)V"⟩
abbrev cX60_on : ByteArray := prog_28_method_2_code
def yX60_on : MethodName := ⟨RX60, "on", "(LRingHouse$Machine;LRingHouse$Node;LRingHouse$Process;LRingHouse$Registers;)I"⟩
theorem q287 : (Jvm.Cond.initialized "RingHouse$Mailed") ∈ lw_all := lw_g (lw_at lw_m1 61 rfl) rfl
theorem q465 : (Jvm.Cond.fieldLinkNest "RingHouse$Mailed" (27 : Nat) "RingHouse$Node" "box" "LRingHouse$Box;" "RingHouse") ∈ lw_tbl := lw_at lw_m1 239 rfl
theorem q1500 : (Jvm.Cond.instanceMethod ({ cls := "RingHouse$Mailed", name := "<init>", desc := "(I)V" } : Jvm.MethodName)) ∈ lw_all := lw_g (lw_at lw_m6 74 rfl) rfl
theorem q1501 : (Jvm.Cond.code ({ cls := "RingHouse$Mailed", name := "<init>", desc := "(I)V" } : Jvm.MethodName) prog_28_method_1_code (2 : Nat) (Option.none : Option Jvm.ClassFile.FieldType)) ∈ lw_all := lw_g (lw_at lw_m6 75 rfl) rfl
theorem q1502 : (Jvm.Cond.methodLink "RingHouse$Mailed" (3 : Nat) ({ cls := "RingHouse$Entered", name := "<init>", desc := "(I)V" } : Jvm.MethodName)) ∈ lw_all := lw_g (lw_at lw_m6 76 rfl) rfl
theorem q1503 : (Jvm.Cond.fieldLink "RingHouse$Mailed" (9 : Nat) "RingHouse$Mailed" "mode" "I") ∈ lw_all := lw_g (lw_at lw_m6 77 rfl) rfl
theorem q1505 : (Jvm.Cond.soleField "RingHouse$Mailed" "mode") ∈ lw_all := lw_g (lw_at lw_m6 79 rfl) rfl
theorem q2557 : (Jvm.Cond.instanceMethod ({ cls := "RingHouse$Mailed", name := "on", desc := "(LRingHouse$Machine;LRingHouse$Node;LRingHouse$Process;LRingHouse$Registers;)I" } : Jvm.MethodName)) ∈ lw_all := lw_g (lw_at lw_m10 171 rfl) rfl
theorem q2558 : (Jvm.Cond.code ({ cls := "RingHouse$Mailed", name := "on", desc := "(LRingHouse$Machine;LRingHouse$Node;LRingHouse$Process;LRingHouse$Registers;)I" } : Jvm.MethodName) prog_28_method_2_code (6 : Nat) (Option.some Jvm.ClassFile.FieldType.int)) ∈ lw_all := lw_g (lw_at lw_m10 172 rfl) rfl
theorem q2559 : (Jvm.Cond.methodLink "RingHouse$Mailed" (15 : Nat) ({ cls := "RingHouse$Node", name := "isMailbox", desc := "()Z" } : Jvm.MethodName)) ∈ lw_all := lw_g (lw_at lw_m10 173 rfl) rfl
theorem q2560 : (Jvm.Cond.methodLink "RingHouse$Mailed" (21 : Nat) ({ cls := "RingHouse$Process", name := "refusalOfBox", desc := "(LRingHouse$Node;I)I" } : Jvm.MethodName)) ∈ lw_all := lw_g (lw_at lw_m10 174 rfl) rfl
theorem q2564 : (Jvm.Cond.methodLink "RingHouse$Mailed" (31 : Nat) ({ cls := "RingHouse$Mailed", name := "with", desc := "(LRingHouse$Box;LRingHouse$Process;LRingHouse$Registers;)I" } : Jvm.MethodName)) ∈ lw_all := lw_g (lw_at lw_m10 178 rfl) rfl
theorem q2565 : (Jvm.Cond.declares ({ cls := "RingHouse$Mailed", name := "with", desc := "(LRingHouse$Box;LRingHouse$Process;LRingHouse$Registers;)I" } : Jvm.MethodName)) ∈ lw_tbl := lw_at lw_m10 179 rfl
theorem q2566 : (Jvm.Cond.sameMethod "RingHouse$Mailed" "RingHouse$Mailed" "with" "(LRingHouse$Box;LRingHouse$Process;LRingHouse$Registers;)I") ∈ lw_all := lw_g (lw_at lw_m10 180 rfl) rfl
/-! RingHouse$Post -/
def RX61 : String := "RingHouse$Post"
def TX61 : u_T := fun k => match k with
  | 0 => ("RingHouse$Mailed", "mode", "I", true)
  | _ => ("RingHouse$Entered", "how", "I", true)
def tyX61 : Nat → FieldType := fun k => match k with
  | 0 => .int
  | _ => .int
abbrev wsX610 : List Cond := u_ws RX61 TX61 2
theorem nmX61 : ∀ a, a < 2 → ∀ b, b < 2 → a ≠ b → (TX61 a).2.1 ≠ (TX61 b).2.1 := by decide +kernel
theorem tyX61_ok : ∀ k, k < 2 → parseFieldDescriptor (TX61 k).2.2.1 = some (tyX61 k) := by decide +kernel
abbrev cX61_init : ByteArray := prog_36_method_1_code
def yX61_init : MethodName := ⟨RX61, "<init>", "()V"⟩
abbrev cX61_with : ByteArray := prog_36_method_2_code
def yX61_with : MethodName := ⟨RX61, "with", "(LRingHouse$Box;LRingHouse$Process;LRingHouse$Registers;)I"⟩
theorem q288 : (Jvm.Cond.initialized "RingHouse$Post") ∈ lw_all := lw_g (lw_at lw_m1 62 rfl) rfl
theorem q711 : (Jvm.Cond.fieldLinkNest "RingHouse$Post" (9 : Nat) "RingHouse$Registers" "q" "J" "RingHouse") ∈ lw_tbl := lw_at lw_m3 5 rfl
theorem q880 : (Jvm.Cond.fieldLinkNest "RingHouse$Post" (15 : Nat) "RingHouse$Process" "label" "I" "RingHouse") ∈ lw_tbl := lw_at lw_m3 174 rfl
theorem q1495 : (Jvm.Cond.instantiable "RingHouse$Post" (2 : Nat)) ∈ lw_all := lw_g (lw_at lw_m6 69 rfl) rfl
theorem q1497 : (Jvm.Cond.instanceMethod ({ cls := "RingHouse$Post", name := "<init>", desc := "()V" } : Jvm.MethodName)) ∈ lw_all := lw_g (lw_at lw_m6 71 rfl) rfl
theorem q1498 : (Jvm.Cond.code ({ cls := "RingHouse$Post", name := "<init>", desc := "()V" } : Jvm.MethodName) prog_36_method_1_code (1 : Nat) (Option.none : Option Jvm.ClassFile.FieldType)) ∈ lw_all := lw_g (lw_at lw_m6 72 rfl) rfl
theorem q1499 : (Jvm.Cond.methodLink "RingHouse$Post" (3 : Nat) ({ cls := "RingHouse$Mailed", name := "<init>", desc := "(I)V" } : Jvm.MethodName)) ∈ lw_all := lw_g (lw_at lw_m6 73 rfl) rfl
theorem q1504 : (Jvm.Cond.laysFinal "RingHouse$Post" "RingHouse$Mailed" "mode" "I") ∈ lw_all := lw_g (lw_at lw_m6 78 rfl) rfl
theorem q1506 : (Jvm.Cond.laysFinal "RingHouse$Post" "RingHouse$Entered" "how" "I") ∈ lw_all := lw_g (lw_at lw_m6 80 rfl) rfl
theorem q1507 : (Jvm.Cond.superclass "RingHouse$Post" "RingHouse$Mailed") ∈ lw_all := lw_g (lw_at lw_m6 81 rfl) rfl
theorem q2556 : (Jvm.Cond.selects "RingHouse$Post" ({ cls := "RingHouse$Entered", name := "on", desc := "(LRingHouse$Machine;LRingHouse$Node;LRingHouse$Process;LRingHouse$Registers;)I" } : Jvm.MethodName) ({ cls := "RingHouse$Mailed", name := "on", desc := "(LRingHouse$Machine;LRingHouse$Node;LRingHouse$Process;LRingHouse$Registers;)I" } : Jvm.MethodName)) ∈ lw_all := lw_g (lw_at lw_m10 170 rfl) rfl
theorem q2567 : (Jvm.Cond.selects "RingHouse$Post" ({ cls := "RingHouse$Mailed", name := "with", desc := "(LRingHouse$Box;LRingHouse$Process;LRingHouse$Registers;)I" } : Jvm.MethodName) ({ cls := "RingHouse$Post", name := "with", desc := "(LRingHouse$Box;LRingHouse$Process;LRingHouse$Registers;)I" } : Jvm.MethodName)) ∈ lw_all := lw_g (lw_at lw_m10 181 rfl) rfl
theorem q2568 : (Jvm.Cond.instanceMethod ({ cls := "RingHouse$Post", name := "with", desc := "(LRingHouse$Box;LRingHouse$Process;LRingHouse$Registers;)I" } : Jvm.MethodName)) ∈ lw_all := lw_g (lw_at lw_m10 182 rfl) rfl
theorem q2569 : (Jvm.Cond.code ({ cls := "RingHouse$Post", name := "with", desc := "(LRingHouse$Box;LRingHouse$Process;LRingHouse$Registers;)I" } : Jvm.MethodName) prog_36_method_2_code (4 : Nat) (Option.some Jvm.ClassFile.FieldType.int)) ∈ lw_all := lw_g (lw_at lw_m10 183 rfl) rfl
theorem q2570 : (Jvm.Cond.methodLink "RingHouse$Post" (21 : Nat) ({ cls := "RingHouse$Box", name := "post", desc := "(JI)Z" } : Jvm.MethodName)) ∈ lw_all := lw_g (lw_at lw_m10 184 rfl) rfl
theorem q2663 : (Jvm.Cond.selects "RingHouse$Post" ({ cls := "RingHouse$Service", name := "run", desc := "(LRingHouse$Machine;LRingHouse$Process;LRingHouse$Registers;)I" } : Jvm.MethodName) ({ cls := "RingHouse$Entered", name := "run", desc := "(LRingHouse$Machine;LRingHouse$Process;LRingHouse$Registers;)I" } : Jvm.MethodName)) ∈ lw_all := lw_g (lw_at lw_m11 37 rfl) rfl
theorem q4449 : (Jvm.Cond.castable "RingHouse$Post" "RingHouse$Service") ∈ lw_tbl := lw_at lw_m18 143 rfl
theorem in_X61 : ∀ w ∈ wsX610, w ∈ lw_all := lw_in wsX610 [1504, 1506] (by decide +kernel) (by decide +kernel)
/-! RingHouse$Take -/
def RX62 : String := "RingHouse$Take"
def TX62 : u_T := fun k => match k with
  | 0 => ("RingHouse$Mailed", "mode", "I", true)
  | _ => ("RingHouse$Entered", "how", "I", true)
def tyX62 : Nat → FieldType := fun k => match k with
  | 0 => .int
  | _ => .int
abbrev wsX620 : List Cond := u_ws RX62 TX62 2
theorem nmX62 : ∀ a, a < 2 → ∀ b, b < 2 → a ≠ b → (TX62 a).2.1 ≠ (TX62 b).2.1 := by decide +kernel
theorem tyX62_ok : ∀ k, k < 2 → parseFieldDescriptor (TX62 k).2.2.1 = some (tyX62 k) := by decide +kernel
abbrev cX62_init : ByteArray := prog_62_method_1_code
def yX62_init : MethodName := ⟨RX62, "<init>", "()V"⟩
abbrev cX62_with : ByteArray := prog_62_method_2_code
def yX62_with : MethodName := ⟨RX62, "with", "(LRingHouse$Box;LRingHouse$Process;LRingHouse$Registers;)I"⟩
theorem q289 : (Jvm.Cond.initialized "RingHouse$Take") ∈ lw_all := lw_g (lw_at lw_m1 63 rfl) rfl
theorem q718 : (Jvm.Cond.fieldLinkNest "RingHouse$Take" (25 : Nat) "RingHouse$Registers" "q" "J" "RingHouse") ∈ lw_tbl := lw_at lw_m3 12 rfl
theorem q879 : (Jvm.Cond.fieldLinkNest "RingHouse$Take" (9 : Nat) "RingHouse$Process" "label" "I" "RingHouse") ∈ lw_tbl := lw_at lw_m3 173 rfl
theorem q1509 : (Jvm.Cond.instantiable "RingHouse$Take" (2 : Nat)) ∈ lw_all := lw_g (lw_at lw_m6 83 rfl) rfl
theorem q1511 : (Jvm.Cond.instanceMethod ({ cls := "RingHouse$Take", name := "<init>", desc := "()V" } : Jvm.MethodName)) ∈ lw_all := lw_g (lw_at lw_m6 85 rfl) rfl
theorem q1512 : (Jvm.Cond.code ({ cls := "RingHouse$Take", name := "<init>", desc := "()V" } : Jvm.MethodName) prog_62_method_1_code (1 : Nat) (Option.none : Option Jvm.ClassFile.FieldType)) ∈ lw_all := lw_g (lw_at lw_m6 86 rfl) rfl
theorem q1513 : (Jvm.Cond.methodLink "RingHouse$Take" (3 : Nat) ({ cls := "RingHouse$Mailed", name := "<init>", desc := "(I)V" } : Jvm.MethodName)) ∈ lw_all := lw_g (lw_at lw_m6 87 rfl) rfl
theorem q1514 : (Jvm.Cond.laysFinal "RingHouse$Take" "RingHouse$Mailed" "mode" "I") ∈ lw_all := lw_g (lw_at lw_m6 88 rfl) rfl
theorem q1515 : (Jvm.Cond.laysFinal "RingHouse$Take" "RingHouse$Entered" "how" "I") ∈ lw_all := lw_g (lw_at lw_m6 89 rfl) rfl
theorem q1516 : (Jvm.Cond.superclass "RingHouse$Take" "RingHouse$Mailed") ∈ lw_all := lw_g (lw_at lw_m6 90 rfl) rfl
theorem q2586 : (Jvm.Cond.selects "RingHouse$Take" ({ cls := "RingHouse$Mailed", name := "with", desc := "(LRingHouse$Box;LRingHouse$Process;LRingHouse$Registers;)I" } : Jvm.MethodName) ({ cls := "RingHouse$Take", name := "with", desc := "(LRingHouse$Box;LRingHouse$Process;LRingHouse$Registers;)I" } : Jvm.MethodName)) ∈ lw_all := lw_g (lw_at lw_m10 200 rfl) rfl
theorem q2587 : (Jvm.Cond.instanceMethod ({ cls := "RingHouse$Take", name := "with", desc := "(LRingHouse$Box;LRingHouse$Process;LRingHouse$Registers;)I" } : Jvm.MethodName)) ∈ lw_all := lw_g (lw_at lw_m10 201 rfl) rfl
theorem q2588 : (Jvm.Cond.code ({ cls := "RingHouse$Take", name := "with", desc := "(LRingHouse$Box;LRingHouse$Process;LRingHouse$Registers;)I" } : Jvm.MethodName) prog_62_method_2_code (5 : Nat) (Option.some Jvm.ClassFile.FieldType.int)) ∈ lw_all := lw_g (lw_at lw_m10 202 rfl) rfl
theorem q2589 : (Jvm.Cond.methodLink "RingHouse$Take" (15 : Nat) ({ cls := "RingHouse$Box", name := "oldest", desc := "(I)I" } : Jvm.MethodName)) ∈ lw_all := lw_g (lw_at lw_m10 203 rfl) rfl
theorem q2593 : (Jvm.Cond.methodLink "RingHouse$Take" (21 : Nat) ({ cls := "RingHouse$Box", name := "take", desc := "(I)J" } : Jvm.MethodName)) ∈ lw_all := lw_g (lw_at lw_m10 207 rfl) rfl
theorem q2623 : (Jvm.Cond.selects "RingHouse$Take" ({ cls := "RingHouse$Entered", name := "on", desc := "(LRingHouse$Machine;LRingHouse$Node;LRingHouse$Process;LRingHouse$Registers;)I" } : Jvm.MethodName) ({ cls := "RingHouse$Mailed", name := "on", desc := "(LRingHouse$Machine;LRingHouse$Node;LRingHouse$Process;LRingHouse$Registers;)I" } : Jvm.MethodName)) ∈ lw_all := lw_g (lw_at lw_m10 237 rfl) rfl
theorem q2716 : (Jvm.Cond.selects "RingHouse$Take" ({ cls := "RingHouse$Service", name := "run", desc := "(LRingHouse$Machine;LRingHouse$Process;LRingHouse$Registers;)I" } : Jvm.MethodName) ({ cls := "RingHouse$Entered", name := "run", desc := "(LRingHouse$Machine;LRingHouse$Process;LRingHouse$Registers;)I" } : Jvm.MethodName)) ∈ lw_all := lw_g (lw_at lw_m11 90 rfl) rfl
theorem q4463 : (Jvm.Cond.castable "RingHouse$Take" "RingHouse$Service") ∈ lw_tbl := lw_at lw_m18 157 rfl
theorem in_X62 : ∀ w ∈ wsX620, w ∈ lw_all := lw_in wsX620 [1514, 1515] (by decide +kernel) (by decide +kernel)
/-! RingHouse$See -/
def RX63 : String := "RingHouse$See"
def TX63 : u_T := fun k => match k with
  | 0 => ("RingHouse$Mailed", "mode", "I", true)
  | _ => ("RingHouse$Entered", "how", "I", true)
def tyX63 : Nat → FieldType := fun k => match k with
  | 0 => .int
  | _ => .int
abbrev wsX630 : List Cond := u_ws RX63 TX63 2
theorem nmX63 : ∀ a, a < 2 → ∀ b, b < 2 → a ≠ b → (TX63 a).2.1 ≠ (TX63 b).2.1 := by decide +kernel
theorem tyX63_ok : ∀ k, k < 2 → parseFieldDescriptor (TX63 k).2.2.1 = some (tyX63 k) := by decide +kernel
abbrev cX63_init : ByteArray := prog_48_method_1_code
def yX63_init : MethodName := ⟨RX63, "<init>", "()V"⟩
abbrev cX63_with : ByteArray := prog_48_method_2_code
def yX63_with : MethodName := ⟨RX63, "with", "(LRingHouse$Box;LRingHouse$Process;LRingHouse$Registers;)I"⟩
theorem q290 : (Jvm.Cond.initialized "RingHouse$See") ∈ lw_all := lw_g (lw_at lw_m1 64 rfl) rfl
theorem q539 : (Jvm.Cond.fieldLinkNest "RingHouse$See" (27 : Nat) "RingHouse$Box" "words" "[J" "RingHouse") ∈ lw_tbl := lw_at lw_m2 73 rfl
theorem q543 : (Jvm.Cond.fieldLinkNest "RingHouse$See" (35 : Nat) "RingHouse$Box" "labels" "[I" "RingHouse") ∈ lw_tbl := lw_at lw_m2 77 rfl
theorem q719 : (Jvm.Cond.fieldLinkNest "RingHouse$See" (31 : Nat) "RingHouse$Registers" "q" "J" "RingHouse") ∈ lw_tbl := lw_at lw_m3 13 rfl
theorem q737 : (Jvm.Cond.fieldLinkNest "RingHouse$See" (15 : Nat) "RingHouse$Registers" "x" "[I" "RingHouse") ∈ lw_tbl := lw_at lw_m3 31 rfl
theorem q878 : (Jvm.Cond.fieldLinkNest "RingHouse$See" (9 : Nat) "RingHouse$Process" "label" "I" "RingHouse") ∈ lw_tbl := lw_at lw_m3 172 rfl
theorem q1518 : (Jvm.Cond.instantiable "RingHouse$See" (2 : Nat)) ∈ lw_all := lw_g (lw_at lw_m6 92 rfl) rfl
theorem q1520 : (Jvm.Cond.instanceMethod ({ cls := "RingHouse$See", name := "<init>", desc := "()V" } : Jvm.MethodName)) ∈ lw_all := lw_g (lw_at lw_m6 94 rfl) rfl
theorem q1521 : (Jvm.Cond.code ({ cls := "RingHouse$See", name := "<init>", desc := "()V" } : Jvm.MethodName) prog_48_method_1_code (1 : Nat) (Option.none : Option Jvm.ClassFile.FieldType)) ∈ lw_all := lw_g (lw_at lw_m6 95 rfl) rfl
theorem q1522 : (Jvm.Cond.methodLink "RingHouse$See" (3 : Nat) ({ cls := "RingHouse$Mailed", name := "<init>", desc := "(I)V" } : Jvm.MethodName)) ∈ lw_all := lw_g (lw_at lw_m6 96 rfl) rfl
theorem q1523 : (Jvm.Cond.laysFinal "RingHouse$See" "RingHouse$Mailed" "mode" "I") ∈ lw_all := lw_g (lw_at lw_m6 97 rfl) rfl
theorem q1524 : (Jvm.Cond.laysFinal "RingHouse$See" "RingHouse$Entered" "how" "I") ∈ lw_all := lw_g (lw_at lw_m6 98 rfl) rfl
theorem q1525 : (Jvm.Cond.superclass "RingHouse$See" "RingHouse$Mailed") ∈ lw_all := lw_g (lw_at lw_m6 99 rfl) rfl
theorem q2578 : (Jvm.Cond.selects "RingHouse$See" ({ cls := "RingHouse$Mailed", name := "with", desc := "(LRingHouse$Box;LRingHouse$Process;LRingHouse$Registers;)I" } : Jvm.MethodName) ({ cls := "RingHouse$See", name := "with", desc := "(LRingHouse$Box;LRingHouse$Process;LRingHouse$Registers;)I" } : Jvm.MethodName)) ∈ lw_all := lw_g (lw_at lw_m10 192 rfl) rfl
theorem q2579 : (Jvm.Cond.instanceMethod ({ cls := "RingHouse$See", name := "with", desc := "(LRingHouse$Box;LRingHouse$Process;LRingHouse$Registers;)I" } : Jvm.MethodName)) ∈ lw_all := lw_g (lw_at lw_m10 193 rfl) rfl
theorem q2580 : (Jvm.Cond.code ({ cls := "RingHouse$See", name := "with", desc := "(LRingHouse$Box;LRingHouse$Process;LRingHouse$Registers;)I" } : Jvm.MethodName) prog_48_method_2_code (5 : Nat) (Option.some Jvm.ClassFile.FieldType.int)) ∈ lw_all := lw_g (lw_at lw_m10 194 rfl) rfl
theorem q2581 : (Jvm.Cond.methodLink "RingHouse$See" (21 : Nat) ({ cls := "RingHouse$Box", name := "seen", desc := "(II)I" } : Jvm.MethodName)) ∈ lw_all := lw_g (lw_at lw_m10 195 rfl) rfl
theorem q2603 : (Jvm.Cond.selects "RingHouse$See" ({ cls := "RingHouse$Entered", name := "on", desc := "(LRingHouse$Machine;LRingHouse$Node;LRingHouse$Process;LRingHouse$Registers;)I" } : Jvm.MethodName) ({ cls := "RingHouse$Mailed", name := "on", desc := "(LRingHouse$Machine;LRingHouse$Node;LRingHouse$Process;LRingHouse$Registers;)I" } : Jvm.MethodName)) ∈ lw_all := lw_g (lw_at lw_m10 217 rfl) rfl
theorem q2685 : (Jvm.Cond.selects "RingHouse$See" ({ cls := "RingHouse$Service", name := "run", desc := "(LRingHouse$Machine;LRingHouse$Process;LRingHouse$Registers;)I" } : Jvm.MethodName) ({ cls := "RingHouse$Entered", name := "run", desc := "(LRingHouse$Machine;LRingHouse$Process;LRingHouse$Registers;)I" } : Jvm.MethodName)) ∈ lw_all := lw_g (lw_at lw_m11 59 rfl) rfl
theorem q4455 : (Jvm.Cond.castable "RingHouse$See" "RingHouse$Service") ∈ lw_tbl := lw_at lw_m18 149 rfl
theorem in_X63 : ∀ w ∈ wsX630, w ∈ lw_all := lw_in wsX630 [1523, 1524] (by decide +kernel) (by decide +kernel)
/-! RingHouse$Assembler -/
def RX64 : String := "RingHouse$Assembler"
def TX64 : u_T := fun k => match k with
  | 0 => ("RingHouse$Assembler", "tree", "LRingHouse$Tree;", true)
  | 1 => ("RingHouse$Assembler", "operations", "[LRingHouse$Operation;", true)
  | 2 => ("RingHouse$Assembler", "text", "[I", true)
  | 3 => ("RingHouse$Assembler", "size", "I", false)
  | 4 => ("RingHouse$Assembler", "kind", "I", false)
  | 5 => ("RingHouse$Assembler", "from", "I", false)
  | 6 => ("RingHouse$Assembler", "to", "I", false)
  | 7 => ("RingHouse$Assembler", "lineEnd", "I", false)
  | 8 => ("RingHouse$Assembler", "fault", "I", false)
  | 9 => ("RingHouse$Assembler", "faultPlace", "I", false)
  | 10 => ("RingHouse$Assembler", "labels", "[J", true)
  | 11 => ("RingHouse$Assembler", "labelPlaces", "[I", true)
  | 12 => ("RingHouse$Assembler", "labelled", "I", false)
  | 13 => ("RingHouse$Assembler", "linkSegments", "[J", true)
  | 14 => ("RingHouse$Assembler", "linkNames", "[J", true)
  | 15 => ("RingHouse$Assembler", "links", "I", false)
  | 16 => ("RingHouse$Assembler", "definitionAt", "[I", true)
  | 17 => ("RingHouse$Assembler", "definitions", "[J", true)
  | 18 => ("RingHouse$Assembler", "defined", "I", false)
  | 19 => ("RingHouse$Assembler", "isSecond", "Z", false)
  | 20 => ("RingHouse$Assembler", "place", "I", false)
  | 21 => ("RingHouse$Assembler", "words", "[J", true)
  | 22 => ("RingHouse$Assembler", "expressed", "J", false)
  | 23 => ("RingHouse$Assembler", "mode", "I", false)
  | _ => ("RingHouse$Assembler", "base", "I", false)
def tyX64 : Nat → FieldType := fun k => match k with
  | 0 => .object "RingHouse$Tree"
  | 1 => .array (.object "RingHouse$Operation")
  | 2 => .array .int
  | 3 => .int
  | 4 => .int
  | 5 => .int
  | 6 => .int
  | 7 => .int
  | 8 => .int
  | 9 => .int
  | 10 => .array .long
  | 11 => .array .int
  | 12 => .int
  | 13 => .array .long
  | 14 => .array .long
  | 15 => .int
  | 16 => .array .int
  | 17 => .array .long
  | 18 => .int
  | 19 => .boolean
  | 20 => .int
  | 21 => .array .long
  | 22 => .long
  | 23 => .int
  | _ => .int
abbrev wsX640 : List Cond := u_ws RX64 TX64 25
theorem nmX64 : ∀ a, a < 25 → ∀ b, b < 25 → a ≠ b → (TX64 a).2.1 ≠ (TX64 b).2.1 := by decide +kernel
theorem tyX64_ok : ∀ k, k < 25 → parseFieldDescriptor (TX64 k).2.2.1 = some (tyX64 k) := by decide +kernel
abbrev cX64_init : ByteArray := prog_4_method_1_code
def yX64_init : MethodName := ⟨RX64, "<init>", "(LRingHouse$Tree;[LRingHouse$Operation;)V"⟩
abbrev cX64_into : ByteArray := prog_4_method_35_code
def yX64_into : MethodName := ⟨RX64, "into", "(LRingHouse$Node;)I"⟩
abbrev cX64_goOver : ByteArray := prog_4_method_33_code
def yX64_goOver : MethodName := ⟨RX64, "goOver", "()V"⟩
abbrev cX64_line : ByteArray := prog_4_method_32_code
def yX64_line : MethodName := ⟨RX64, "line", "()V"⟩
abbrev cX64_next : ByteArray := prog_4_method_3_code
def yX64_next : MethodName := ⟨RX64, "next", "()V"⟩
abbrev cX64_wrong : ByteArray := prog_4_method_2_code
def yX64_wrong : MethodName := ⟨RX64, "wrong", "(II)Z"⟩
abbrev cX64_is : ByteArray := prog_4_method_4_code
def yX64_is : MethodName := ⟨RX64, "is", "(I)Z"⟩
abbrev cX64_labelHere : ByteArray := prog_4_method_31_code
def yX64_labelHere : MethodName := ⟨RX64, "labelHere", "(II)Z"⟩
abbrev cX64_packed : ByteArray := prog_4_method_10_code
def yX64_packed : MethodName := ⟨RX64, "packed", "(II)J"⟩
abbrev cX64_findLabel : ByteArray := prog_4_method_15_code
def yX64_findLabel : MethodName := ⟨RX64, "findLabel", "(J)I"⟩
abbrev cX64_statement : ByteArray := prog_4_method_30_code
def yX64_statement : MethodName := ⟨RX64, "statement", "(II)Z"⟩
abbrev cX64_operation : ByteArray := prog_4_method_20_code
def yX64_operation : MethodName := ⟨RX64, "operation", "(II)LRingHouse$Operation;"⟩
abbrev cX64_operand : ByteArray := prog_4_method_24_code
def yX64_operand : MethodName := ⟨RX64, "operand", "(LRingHouse$Operation;I)Z"⟩
abbrev cX64_which : ByteArray := prog_4_method_21_code
def yX64_which : MethodName := ⟨RX64, "which", "(LRingHouse$Operation;)I"⟩
abbrev cX64_put : ByteArray := prog_4_method_19_code
def yX64_put : MethodName := ⟨RX64, "put", "(J)V"⟩
abbrev cX64_isEnd : ByteArray := prog_4_method_6_code
def yX64_isEnd : MethodName := ⟨RX64, "isEnd", "()Z"⟩
abbrev cX64_addressed : ByteArray := prog_4_method_23_code
def yX64_addressed : MethodName := ⟨RX64, "addressed", "()Z"⟩
abbrev cX64_offset : ByteArray := prog_4_method_18_code
def yX64_offset : MethodName := ⟨RX64, "offset", "()Z"⟩
abbrev cX64_expression : ByteArray := prog_4_method_17_code
def yX64_expression : MethodName := ⟨RX64, "expression", "(JJ)Z"⟩
abbrev cX64_term : ByteArray := prog_4_method_16_code
def yX64_term : MethodName := ⟨RX64, "term", "(J)Z"⟩
abbrev cX64_isNumber : ByteArray := prog_4_method_9_code
def yX64_isNumber : MethodName := ⟨RX64, "isNumber", "()Z"⟩
abbrev cX64_isDigits : ByteArray := prog_4_method_8_code
def yX64_isDigits : MethodName := ⟨RX64, "isDigits", "(II)Z"⟩
abbrev cX64_digits : ByteArray := prog_4_method_14_code
def yX64_digits : MethodName := ⟨RX64, "digits", "()J"⟩
abbrev cX64_name : ByteArray := prog_4_method_12_code
def yX64_name : MethodName := ⟨RX64, "name", "()J"⟩
abbrev cX64_isLabelWord : ByteArray := prog_4_method_11_code
def yX64_isLabelWord : MethodName := ⟨RX64, "isLabelWord", "()Z"⟩
abbrev cX64_ahead : ByteArray := prog_4_method_5_code
def yX64_ahead : MethodName := ⟨RX64, "ahead", "()I"⟩
abbrev cX64_linkFor : ByteArray := prog_4_method_22_code
def yX64_linkFor : MethodName := ⟨RX64, "linkFor", "(JJI)I"⟩
abbrev cX64_isDirective : ByteArray := prog_4_method_25_code
def yX64_isDirective : MethodName := ⟨RX64, "isDirective", "(IILjava/lang/String;)Z"⟩
abbrev cX64_wordList : ByteArray := prog_4_method_26_code
def yX64_wordList : MethodName := ⟨RX64, "wordList", "()Z"⟩
abbrev cX64_pointer : ByteArray := prog_4_method_27_code
def yX64_pointer : MethodName := ⟨RX64, "pointer", "()Z"⟩
abbrev cX64_number : ByteArray := prog_4_method_13_code
def yX64_number : MethodName := ⟨RX64, "number", "(I)I"⟩
abbrev cX64_takes : ByteArray := prog_4_method_7_code
def yX64_takes : MethodName := ⟨RX64, "takes", "(I)Z"⟩
abbrev cX64_space : ByteArray := prog_4_method_28_code
def yX64_space : MethodName := ⟨RX64, "space", "()Z"⟩
abbrev cX64_define : ByteArray := prog_4_method_29_code
def yX64_define : MethodName := ⟨RX64, "define", "()Z"⟩
abbrev cX64_putTables : ByteArray := prog_4_method_34_code
def yX64_putTables : MethodName := ⟨RX64, "putTables", "()V"⟩
theorem q291 : (Jvm.Cond.initialized "RingHouse$Assembler") ∈ lw_all := lw_g (lw_at lw_m1 65 rfl) rfl
theorem q481 : (Jvm.Cond.fieldLinkNest "RingHouse$Assembler" (262 : Nat) "RingHouse$Node" "length" "I" "RingHouse") ∈ lw_tbl := lw_at lw_m2 15 rfl
theorem q1036 : (Jvm.Cond.fieldLinkNest "RingHouse$Assembler" (138 : Nat) "RingHouse$Operation" "name" "Ljava/lang/String;" "RingHouse") ∈ lw_tbl := lw_at lw_m4 90 rfl
theorem q1041 : (Jvm.Cond.fieldLinkNest "RingHouse$Assembler" (179 : Nat) "RingHouse$Operation" "sort" "I" "RingHouse") ∈ lw_tbl := lw_at lw_m4 95 rfl
theorem q1045 : (Jvm.Cond.fieldLinkNest "RingHouse$Assembler" (149 : Nat) "RingHouse$Operation" "registers" "I" "RingHouse") ∈ lw_tbl := lw_at lw_m4 99 rfl
theorem q1622 : (Jvm.Cond.instantiable "RingHouse$Assembler" (25 : Nat)) ∈ lw_all := lw_g (lw_at lw_m6 196 rfl) rfl
theorem q1624 : (Jvm.Cond.instanceMethod ({ cls := "RingHouse$Assembler", name := "<init>", desc := "(LRingHouse$Tree;[LRingHouse$Operation;)V" } : Jvm.MethodName)) ∈ lw_all := lw_g (lw_at lw_m6 198 rfl) rfl
theorem q1625 : (Jvm.Cond.code ({ cls := "RingHouse$Assembler", name := "<init>", desc := "(LRingHouse$Tree;[LRingHouse$Operation;)V" } : Jvm.MethodName) prog_4_method_1_code (3 : Nat) (Option.none : Option Jvm.ClassFile.FieldType)) ∈ lw_all := lw_g (lw_at lw_m6 199 rfl) rfl
theorem q1626 : (Jvm.Cond.methodLink "RingHouse$Assembler" (3 : Nat) ({ cls := "java/lang/Object", name := "<init>", desc := "()V" } : Jvm.MethodName)) ∈ lw_all := lw_g (lw_at lw_m6 200 rfl) rfl
theorem q1627 : (Jvm.Cond.fieldLink "RingHouse$Assembler" (41 : Nat) "RingHouse$Assembler" "tree" "LRingHouse$Tree;") ∈ lw_all := lw_g (lw_at lw_m6 201 rfl) rfl
theorem q1628 : (Jvm.Cond.fieldLink "RingHouse$Assembler" (45 : Nat) "RingHouse$Assembler" "operations" "[LRingHouse$Operation;") ∈ lw_all := lw_g (lw_at lw_m6 202 rfl) rfl
theorem q1629 : (Jvm.Cond.fieldLink "RingHouse$Assembler" (9 : Nat) "RingHouse$Assembler" "text" "[I") ∈ lw_all := lw_g (lw_at lw_m6 203 rfl) rfl
theorem q1631 : (Jvm.Cond.fieldLink "RingHouse$Assembler" (247 : Nat) "RingHouse$Assembler" "size" "I") ∈ lw_all := lw_g (lw_at lw_m6 205 rfl) rfl
theorem q1633 : (Jvm.Cond.fieldLink "RingHouse$Assembler" (61 : Nat) "RingHouse$Assembler" "kind" "I") ∈ lw_all := lw_g (lw_at lw_m6 207 rfl) rfl
theorem q1634 : (Jvm.Cond.fieldLink "RingHouse$Assembler" (55 : Nat) "RingHouse$Assembler" "from" "I") ∈ lw_all := lw_g (lw_at lw_m6 208 rfl) rfl
theorem q1635 : (Jvm.Cond.fieldLink "RingHouse$Assembler" (52 : Nat) "RingHouse$Assembler" "to" "I") ∈ lw_all := lw_g (lw_at lw_m6 209 rfl) rfl
theorem q1636 : (Jvm.Cond.fieldLink "RingHouse$Assembler" (58 : Nat) "RingHouse$Assembler" "lineEnd" "I") ∈ lw_all := lw_g (lw_at lw_m6 210 rfl) rfl
theorem q1637 : (Jvm.Cond.fieldLink "RingHouse$Assembler" (49 : Nat) "RingHouse$Assembler" "fault" "I") ∈ lw_all := lw_g (lw_at lw_m6 211 rfl) rfl
theorem q1638 : (Jvm.Cond.fieldLink "RingHouse$Assembler" (15 : Nat) "RingHouse$Assembler" "faultPlace" "I") ∈ lw_all := lw_g (lw_at lw_m6 212 rfl) rfl
theorem q1640 : (Jvm.Cond.fieldLink "RingHouse$Assembler" (19 : Nat) "RingHouse$Assembler" "labels" "[J") ∈ lw_all := lw_g (lw_at lw_m6 214 rfl) rfl
theorem q1641 : (Jvm.Cond.fieldLink "RingHouse$Assembler" (23 : Nat) "RingHouse$Assembler" "labelPlaces" "[I") ∈ lw_all := lw_g (lw_at lw_m6 215 rfl) rfl
theorem q1642 : (Jvm.Cond.fieldLink "RingHouse$Assembler" (103 : Nat) "RingHouse$Assembler" "labelled" "I") ∈ lw_all := lw_g (lw_at lw_m6 216 rfl) rfl
theorem q1643 : (Jvm.Cond.fieldLink "RingHouse$Assembler" (26 : Nat) "RingHouse$Assembler" "linkSegments" "[J") ∈ lw_all := lw_g (lw_at lw_m6 217 rfl) rfl
theorem q1644 : (Jvm.Cond.fieldLink "RingHouse$Assembler" (29 : Nat) "RingHouse$Assembler" "linkNames" "[J") ∈ lw_all := lw_g (lw_at lw_m6 218 rfl) rfl
theorem q1645 : (Jvm.Cond.fieldLink "RingHouse$Assembler" (156 : Nat) "RingHouse$Assembler" "links" "I") ∈ lw_all := lw_g (lw_at lw_m6 219 rfl) rfl
theorem q1646 : (Jvm.Cond.fieldLink "RingHouse$Assembler" (32 : Nat) "RingHouse$Assembler" "definitionAt" "[I") ∈ lw_all := lw_g (lw_at lw_m6 220 rfl) rfl
theorem q1647 : (Jvm.Cond.fieldLink "RingHouse$Assembler" (35 : Nat) "RingHouse$Assembler" "definitions" "[J") ∈ lw_all := lw_g (lw_at lw_m6 221 rfl) rfl
theorem q1648 : (Jvm.Cond.fieldLink "RingHouse$Assembler" (206 : Nat) "RingHouse$Assembler" "defined" "I") ∈ lw_all := lw_g (lw_at lw_m6 222 rfl) rfl
theorem q1649 : (Jvm.Cond.fieldLink "RingHouse$Assembler" (117 : Nat) "RingHouse$Assembler" "isSecond" "Z") ∈ lw_all := lw_g (lw_at lw_m6 223 rfl) rfl
theorem q1650 : (Jvm.Cond.fieldLink "RingHouse$Assembler" (133 : Nat) "RingHouse$Assembler" "place" "I") ∈ lw_all := lw_g (lw_at lw_m6 224 rfl) rfl
theorem q1651 : (Jvm.Cond.fieldLink "RingHouse$Assembler" (38 : Nat) "RingHouse$Assembler" "words" "[J") ∈ lw_all := lw_g (lw_at lw_m6 225 rfl) rfl
theorem q1652 : (Jvm.Cond.fieldLink "RingHouse$Assembler" (106 : Nat) "RingHouse$Assembler" "expressed" "J") ∈ lw_all := lw_g (lw_at lw_m6 226 rfl) rfl
theorem q1653 : (Jvm.Cond.fieldLink "RingHouse$Assembler" (159 : Nat) "RingHouse$Assembler" "mode" "I") ∈ lw_all := lw_g (lw_at lw_m6 227 rfl) rfl
theorem q1654 : (Jvm.Cond.fieldLink "RingHouse$Assembler" (162 : Nat) "RingHouse$Assembler" "base" "I") ∈ lw_all := lw_g (lw_at lw_m6 228 rfl) rfl
theorem q1655 : (Jvm.Cond.laysFinal "RingHouse$Assembler" "RingHouse$Assembler" "tree" "LRingHouse$Tree;") ∈ lw_all := lw_g (lw_at lw_m6 229 rfl) rfl
theorem q1656 : (Jvm.Cond.soleField "RingHouse$Assembler" "tree") ∈ lw_all := lw_g (lw_at lw_m6 230 rfl) rfl
theorem q1657 : (Jvm.Cond.laysFinal "RingHouse$Assembler" "RingHouse$Assembler" "operations" "[LRingHouse$Operation;") ∈ lw_all := lw_g (lw_at lw_m6 231 rfl) rfl
theorem q1658 : (Jvm.Cond.soleField "RingHouse$Assembler" "operations") ∈ lw_all := lw_g (lw_at lw_m6 232 rfl) rfl
theorem q1659 : (Jvm.Cond.laysFinal "RingHouse$Assembler" "RingHouse$Assembler" "text" "[I") ∈ lw_all := lw_g (lw_at lw_m6 233 rfl) rfl
theorem q1660 : (Jvm.Cond.soleField "RingHouse$Assembler" "text") ∈ lw_all := lw_g (lw_at lw_m6 234 rfl) rfl
theorem q1661 : (Jvm.Cond.lays "RingHouse$Assembler" "RingHouse$Assembler" "size" "I") ∈ lw_all := lw_g (lw_at lw_m6 235 rfl) rfl
theorem q1662 : (Jvm.Cond.soleField "RingHouse$Assembler" "size") ∈ lw_all := lw_g (lw_at lw_m6 236 rfl) rfl
theorem q1663 : (Jvm.Cond.lays "RingHouse$Assembler" "RingHouse$Assembler" "kind" "I") ∈ lw_all := lw_g (lw_at lw_m6 237 rfl) rfl
theorem q1664 : (Jvm.Cond.soleField "RingHouse$Assembler" "kind") ∈ lw_all := lw_g (lw_at lw_m6 238 rfl) rfl
theorem q1665 : (Jvm.Cond.lays "RingHouse$Assembler" "RingHouse$Assembler" "from" "I") ∈ lw_all := lw_g (lw_at lw_m6 239 rfl) rfl
theorem q1666 : (Jvm.Cond.soleField "RingHouse$Assembler" "from") ∈ lw_all := lw_g (lw_at lw_m7 0 rfl) rfl
theorem q1667 : (Jvm.Cond.lays "RingHouse$Assembler" "RingHouse$Assembler" "to" "I") ∈ lw_all := lw_g (lw_at lw_m7 1 rfl) rfl
theorem q1668 : (Jvm.Cond.soleField "RingHouse$Assembler" "to") ∈ lw_all := lw_g (lw_at lw_m7 2 rfl) rfl
theorem q1669 : (Jvm.Cond.lays "RingHouse$Assembler" "RingHouse$Assembler" "lineEnd" "I") ∈ lw_all := lw_g (lw_at lw_m7 3 rfl) rfl
theorem q1670 : (Jvm.Cond.soleField "RingHouse$Assembler" "lineEnd") ∈ lw_all := lw_g (lw_at lw_m7 4 rfl) rfl
theorem q1671 : (Jvm.Cond.lays "RingHouse$Assembler" "RingHouse$Assembler" "fault" "I") ∈ lw_all := lw_g (lw_at lw_m7 5 rfl) rfl
theorem q1672 : (Jvm.Cond.soleField "RingHouse$Assembler" "fault") ∈ lw_all := lw_g (lw_at lw_m7 6 rfl) rfl
theorem q1673 : (Jvm.Cond.lays "RingHouse$Assembler" "RingHouse$Assembler" "faultPlace" "I") ∈ lw_all := lw_g (lw_at lw_m7 7 rfl) rfl
theorem q1674 : (Jvm.Cond.soleField "RingHouse$Assembler" "faultPlace") ∈ lw_all := lw_g (lw_at lw_m7 8 rfl) rfl
theorem q1675 : (Jvm.Cond.laysFinal "RingHouse$Assembler" "RingHouse$Assembler" "labels" "[J") ∈ lw_all := lw_g (lw_at lw_m7 9 rfl) rfl
theorem q1676 : (Jvm.Cond.soleField "RingHouse$Assembler" "labels") ∈ lw_all := lw_g (lw_at lw_m7 10 rfl) rfl
theorem q1677 : (Jvm.Cond.laysFinal "RingHouse$Assembler" "RingHouse$Assembler" "labelPlaces" "[I") ∈ lw_all := lw_g (lw_at lw_m7 11 rfl) rfl
theorem q1678 : (Jvm.Cond.soleField "RingHouse$Assembler" "labelPlaces") ∈ lw_all := lw_g (lw_at lw_m7 12 rfl) rfl
theorem q1679 : (Jvm.Cond.lays "RingHouse$Assembler" "RingHouse$Assembler" "labelled" "I") ∈ lw_all := lw_g (lw_at lw_m7 13 rfl) rfl
theorem q1680 : (Jvm.Cond.soleField "RingHouse$Assembler" "labelled") ∈ lw_all := lw_g (lw_at lw_m7 14 rfl) rfl
theorem q1681 : (Jvm.Cond.laysFinal "RingHouse$Assembler" "RingHouse$Assembler" "linkSegments" "[J") ∈ lw_all := lw_g (lw_at lw_m7 15 rfl) rfl
theorem q1682 : (Jvm.Cond.soleField "RingHouse$Assembler" "linkSegments") ∈ lw_all := lw_g (lw_at lw_m7 16 rfl) rfl
theorem q1683 : (Jvm.Cond.laysFinal "RingHouse$Assembler" "RingHouse$Assembler" "linkNames" "[J") ∈ lw_all := lw_g (lw_at lw_m7 17 rfl) rfl
theorem q1684 : (Jvm.Cond.soleField "RingHouse$Assembler" "linkNames") ∈ lw_all := lw_g (lw_at lw_m7 18 rfl) rfl
theorem q1685 : (Jvm.Cond.lays "RingHouse$Assembler" "RingHouse$Assembler" "links" "I") ∈ lw_all := lw_g (lw_at lw_m7 19 rfl) rfl
theorem q1686 : (Jvm.Cond.soleField "RingHouse$Assembler" "links") ∈ lw_all := lw_g (lw_at lw_m7 20 rfl) rfl
theorem q1687 : (Jvm.Cond.laysFinal "RingHouse$Assembler" "RingHouse$Assembler" "definitionAt" "[I") ∈ lw_all := lw_g (lw_at lw_m7 21 rfl) rfl
theorem q1688 : (Jvm.Cond.soleField "RingHouse$Assembler" "definitionAt") ∈ lw_all := lw_g (lw_at lw_m7 22 rfl) rfl
theorem q1689 : (Jvm.Cond.laysFinal "RingHouse$Assembler" "RingHouse$Assembler" "definitions" "[J") ∈ lw_all := lw_g (lw_at lw_m7 23 rfl) rfl
theorem q1690 : (Jvm.Cond.soleField "RingHouse$Assembler" "definitions") ∈ lw_all := lw_g (lw_at lw_m7 24 rfl) rfl
theorem q1691 : (Jvm.Cond.lays "RingHouse$Assembler" "RingHouse$Assembler" "defined" "I") ∈ lw_all := lw_g (lw_at lw_m7 25 rfl) rfl
theorem q1692 : (Jvm.Cond.soleField "RingHouse$Assembler" "defined") ∈ lw_all := lw_g (lw_at lw_m7 26 rfl) rfl
theorem q1693 : (Jvm.Cond.lays "RingHouse$Assembler" "RingHouse$Assembler" "isSecond" "Z") ∈ lw_all := lw_g (lw_at lw_m7 27 rfl) rfl
theorem q1694 : (Jvm.Cond.soleField "RingHouse$Assembler" "isSecond") ∈ lw_all := lw_g (lw_at lw_m7 28 rfl) rfl
theorem q1695 : (Jvm.Cond.lays "RingHouse$Assembler" "RingHouse$Assembler" "place" "I") ∈ lw_all := lw_g (lw_at lw_m7 29 rfl) rfl
theorem q1696 : (Jvm.Cond.soleField "RingHouse$Assembler" "place") ∈ lw_all := lw_g (lw_at lw_m7 30 rfl) rfl
theorem q1697 : (Jvm.Cond.laysFinal "RingHouse$Assembler" "RingHouse$Assembler" "words" "[J") ∈ lw_all := lw_g (lw_at lw_m7 31 rfl) rfl
theorem q1698 : (Jvm.Cond.soleField "RingHouse$Assembler" "words") ∈ lw_all := lw_g (lw_at lw_m7 32 rfl) rfl
theorem q1699 : (Jvm.Cond.lays "RingHouse$Assembler" "RingHouse$Assembler" "expressed" "J") ∈ lw_all := lw_g (lw_at lw_m7 33 rfl) rfl
theorem q1700 : (Jvm.Cond.soleField "RingHouse$Assembler" "expressed") ∈ lw_all := lw_g (lw_at lw_m7 34 rfl) rfl
theorem q1701 : (Jvm.Cond.lays "RingHouse$Assembler" "RingHouse$Assembler" "mode" "I") ∈ lw_all := lw_g (lw_at lw_m7 35 rfl) rfl
theorem q1702 : (Jvm.Cond.soleField "RingHouse$Assembler" "mode") ∈ lw_all := lw_g (lw_at lw_m7 36 rfl) rfl
theorem q1703 : (Jvm.Cond.lays "RingHouse$Assembler" "RingHouse$Assembler" "base" "I") ∈ lw_all := lw_g (lw_at lw_m7 37 rfl) rfl
theorem q1704 : (Jvm.Cond.soleField "RingHouse$Assembler" "base") ∈ lw_all := lw_g (lw_at lw_m7 38 rfl) rfl
theorem q1705 : (Jvm.Cond.superclass "RingHouse$Assembler" "java/lang/Object") ∈ lw_all := lw_g (lw_at lw_m7 39 rfl) rfl
theorem q2785 : (Jvm.Cond.instanceMethod ({ cls := "RingHouse$Assembler", name := "into", desc := "(LRingHouse$Node;)I" } : Jvm.MethodName)) ∈ lw_all := lw_g (lw_at lw_m11 159 rfl) rfl
theorem q2786 : (Jvm.Cond.selects "RingHouse$Assembler" ({ cls := "RingHouse$Assembler", name := "into", desc := "(LRingHouse$Node;)I" } : Jvm.MethodName) ({ cls := "RingHouse$Assembler", name := "into", desc := "(LRingHouse$Node;)I" } : Jvm.MethodName)) ∈ lw_all := lw_g (lw_at lw_m11 160 rfl) rfl
theorem q2787 : (Jvm.Cond.code ({ cls := "RingHouse$Assembler", name := "into", desc := "(LRingHouse$Node;)I" } : Jvm.MethodName) prog_4_method_35_code (3 : Nat) (Option.some Jvm.ClassFile.FieldType.int)) ∈ lw_all := lw_g (lw_at lw_m11 161 rfl) rfl
theorem q2788 : (Jvm.Cond.methodLink "RingHouse$Assembler" (256 : Nat) ({ cls := "RingHouse$Assembler", name := "goOver", desc := "()V" } : Jvm.MethodName)) ∈ lw_all := lw_g (lw_at lw_m11 162 rfl) rfl
theorem q2789 : (Jvm.Cond.privateMethod ({ cls := "RingHouse$Assembler", name := "goOver", desc := "()V" } : Jvm.MethodName)) ∈ lw_tbl := lw_at lw_m11 163 rfl
theorem q2790 : (Jvm.Cond.instanceMethod ({ cls := "RingHouse$Assembler", name := "goOver", desc := "()V" } : Jvm.MethodName)) ∈ lw_all := lw_g (lw_at lw_m11 164 rfl) rfl
theorem q2791 : (Jvm.Cond.code ({ cls := "RingHouse$Assembler", name := "goOver", desc := "()V" } : Jvm.MethodName) prog_4_method_33_code (3 : Nat) (Option.none : Option Jvm.ClassFile.FieldType)) ∈ lw_all := lw_g (lw_at lw_m11 165 rfl) rfl
theorem q2792 : (Jvm.Cond.methodLink "RingHouse$Assembler" (250 : Nat) ({ cls := "RingHouse$Assembler", name := "line", desc := "()V" } : Jvm.MethodName)) ∈ lw_all := lw_g (lw_at lw_m11 166 rfl) rfl
theorem q2793 : (Jvm.Cond.privateMethod ({ cls := "RingHouse$Assembler", name := "line", desc := "()V" } : Jvm.MethodName)) ∈ lw_tbl := lw_at lw_m11 167 rfl
theorem q2794 : (Jvm.Cond.instanceMethod ({ cls := "RingHouse$Assembler", name := "line", desc := "()V" } : Jvm.MethodName)) ∈ lw_all := lw_g (lw_at lw_m11 168 rfl) rfl
theorem q2795 : (Jvm.Cond.code ({ cls := "RingHouse$Assembler", name := "line", desc := "()V" } : Jvm.MethodName) prog_4_method_32_code (3 : Nat) (Option.none : Option Jvm.ClassFile.FieldType)) ∈ lw_all := lw_g (lw_at lw_m11 169 rfl) rfl
theorem q2796 : (Jvm.Cond.methodLink "RingHouse$Assembler" (76 : Nat) ({ cls := "RingHouse$Assembler", name := "next", desc := "()V" } : Jvm.MethodName)) ∈ lw_all := lw_g (lw_at lw_m11 170 rfl) rfl
theorem q2797 : (Jvm.Cond.privateMethod ({ cls := "RingHouse$Assembler", name := "next", desc := "()V" } : Jvm.MethodName)) ∈ lw_tbl := lw_at lw_m11 171 rfl
theorem q2798 : (Jvm.Cond.instanceMethod ({ cls := "RingHouse$Assembler", name := "next", desc := "()V" } : Jvm.MethodName)) ∈ lw_all := lw_g (lw_at lw_m11 172 rfl) rfl
theorem q2799 : (Jvm.Cond.code ({ cls := "RingHouse$Assembler", name := "next", desc := "()V" } : Jvm.MethodName) prog_4_method_3_code (1 : Nat) (Option.none : Option Jvm.ClassFile.FieldType)) ∈ lw_all := lw_g (lw_at lw_m11 173 rfl) rfl
theorem q2800 : (Jvm.Cond.methodLinkNest "RingHouse$Assembler" (64 : Nat) ({ cls := "RingHouse", name := "sign", desc := "(I)I" } : Jvm.MethodName) "RingHouse") ∈ lw_tbl := lw_at lw_m11 174 rfl
theorem q2803 : (Jvm.Cond.methodLink "RingHouse$Assembler" (68 : Nat) ({ cls := "RingHouse$Assembler", name := "wrong", desc := "(II)Z" } : Jvm.MethodName)) ∈ lw_all := lw_g (lw_at lw_m11 177 rfl) rfl
theorem q2804 : (Jvm.Cond.privateMethod ({ cls := "RingHouse$Assembler", name := "wrong", desc := "(II)Z" } : Jvm.MethodName)) ∈ lw_tbl := lw_at lw_m11 178 rfl
theorem q2805 : (Jvm.Cond.instanceMethod ({ cls := "RingHouse$Assembler", name := "wrong", desc := "(II)Z" } : Jvm.MethodName)) ∈ lw_all := lw_g (lw_at lw_m11 179 rfl) rfl
theorem q2806 : (Jvm.Cond.code ({ cls := "RingHouse$Assembler", name := "wrong", desc := "(II)Z" } : Jvm.MethodName) prog_4_method_2_code (3 : Nat) (Option.some Jvm.ClassFile.FieldType.boolean)) ∈ lw_all := lw_g (lw_at lw_m11 180 rfl) rfl
theorem q2807 : (Jvm.Cond.methodLink "RingHouse$Assembler" (72 : Nat) ({ cls := "RingHouse$Assembler", name := "is", desc := "(I)Z" } : Jvm.MethodName)) ∈ lw_all := lw_g (lw_at lw_m11 181 rfl) rfl
theorem q2808 : (Jvm.Cond.privateMethod ({ cls := "RingHouse$Assembler", name := "is", desc := "(I)Z" } : Jvm.MethodName)) ∈ lw_tbl := lw_at lw_m11 182 rfl
theorem q2809 : (Jvm.Cond.instanceMethod ({ cls := "RingHouse$Assembler", name := "is", desc := "(I)Z" } : Jvm.MethodName)) ∈ lw_all := lw_g (lw_at lw_m11 183 rfl) rfl
theorem q2810 : (Jvm.Cond.code ({ cls := "RingHouse$Assembler", name := "is", desc := "(I)Z" } : Jvm.MethodName) prog_4_method_4_code (2 : Nat) (Option.some Jvm.ClassFile.FieldType.boolean)) ∈ lw_all := lw_g (lw_at lw_m11 184 rfl) rfl
theorem q2811 : (Jvm.Cond.methodLink "RingHouse$Assembler" (241 : Nat) ({ cls := "RingHouse$Assembler", name := "labelHere", desc := "(II)Z" } : Jvm.MethodName)) ∈ lw_all := lw_g (lw_at lw_m11 185 rfl) rfl
theorem q2812 : (Jvm.Cond.privateMethod ({ cls := "RingHouse$Assembler", name := "labelHere", desc := "(II)Z" } : Jvm.MethodName)) ∈ lw_tbl := lw_at lw_m11 186 rfl
theorem q2813 : (Jvm.Cond.instanceMethod ({ cls := "RingHouse$Assembler", name := "labelHere", desc := "(II)Z" } : Jvm.MethodName)) ∈ lw_all := lw_g (lw_at lw_m11 187 rfl) rfl
theorem q2814 : (Jvm.Cond.code ({ cls := "RingHouse$Assembler", name := "labelHere", desc := "(II)Z" } : Jvm.MethodName) prog_4_method_31_code (5 : Nat) (Option.some Jvm.ClassFile.FieldType.boolean)) ∈ lw_all := lw_g (lw_at lw_m11 188 rfl) rfl
theorem q2815 : (Jvm.Cond.methodLink "RingHouse$Assembler" (86 : Nat) ({ cls := "RingHouse$Assembler", name := "packed", desc := "(II)J" } : Jvm.MethodName)) ∈ lw_all := lw_g (lw_at lw_m11 189 rfl) rfl
theorem q2816 : (Jvm.Cond.privateMethod ({ cls := "RingHouse$Assembler", name := "packed", desc := "(II)J" } : Jvm.MethodName)) ∈ lw_tbl := lw_at lw_m11 190 rfl
theorem q2817 : (Jvm.Cond.instanceMethod ({ cls := "RingHouse$Assembler", name := "packed", desc := "(II)J" } : Jvm.MethodName)) ∈ lw_all := lw_g (lw_at lw_m11 191 rfl) rfl
theorem q2818 : (Jvm.Cond.code ({ cls := "RingHouse$Assembler", name := "packed", desc := "(II)J" } : Jvm.MethodName) prog_4_method_10_code (6 : Nat) (Option.some Jvm.ClassFile.FieldType.long)) ∈ lw_all := lw_g (lw_at lw_m11 192 rfl) rfl
theorem q2819 : (Jvm.Cond.methodLink "RingHouse$Assembler" (113 : Nat) ({ cls := "RingHouse$Assembler", name := "findLabel", desc := "(J)I" } : Jvm.MethodName)) ∈ lw_all := lw_g (lw_at lw_m11 193 rfl) rfl
theorem q2820 : (Jvm.Cond.privateMethod ({ cls := "RingHouse$Assembler", name := "findLabel", desc := "(J)I" } : Jvm.MethodName)) ∈ lw_tbl := lw_at lw_m11 194 rfl
theorem q2821 : (Jvm.Cond.instanceMethod ({ cls := "RingHouse$Assembler", name := "findLabel", desc := "(J)I" } : Jvm.MethodName)) ∈ lw_all := lw_g (lw_at lw_m11 195 rfl) rfl
theorem q2822 : (Jvm.Cond.code ({ cls := "RingHouse$Assembler", name := "findLabel", desc := "(J)I" } : Jvm.MethodName) prog_4_method_15_code (4 : Nat) (Option.some Jvm.ClassFile.FieldType.int)) ∈ lw_all := lw_g (lw_at lw_m11 196 rfl) rfl
theorem q2823 : (Jvm.Cond.methodLink "RingHouse$Assembler" (244 : Nat) ({ cls := "RingHouse$Assembler", name := "statement", desc := "(II)Z" } : Jvm.MethodName)) ∈ lw_all := lw_g (lw_at lw_m11 197 rfl) rfl
theorem q2824 : (Jvm.Cond.privateMethod ({ cls := "RingHouse$Assembler", name := "statement", desc := "(II)Z" } : Jvm.MethodName)) ∈ lw_tbl := lw_at lw_m11 198 rfl
theorem q2825 : (Jvm.Cond.instanceMethod ({ cls := "RingHouse$Assembler", name := "statement", desc := "(II)Z" } : Jvm.MethodName)) ∈ lw_all := lw_g (lw_at lw_m11 199 rfl) rfl
theorem q2826 : (Jvm.Cond.code ({ cls := "RingHouse$Assembler", name := "statement", desc := "(II)Z" } : Jvm.MethodName) prog_4_method_30_code (4 : Nat) (Option.some Jvm.ClassFile.FieldType.boolean)) ∈ lw_all := lw_g (lw_at lw_m11 200 rfl) rfl
theorem q2827 : (Jvm.Cond.methodLink "RingHouse$Assembler" (209 : Nat) ({ cls := "RingHouse$Assembler", name := "operation", desc := "(II)LRingHouse$Operation;" } : Jvm.MethodName)) ∈ lw_all := lw_g (lw_at lw_m11 201 rfl) rfl
theorem q2828 : (Jvm.Cond.privateMethod ({ cls := "RingHouse$Assembler", name := "operation", desc := "(II)LRingHouse$Operation;" } : Jvm.MethodName)) ∈ lw_tbl := lw_at lw_m11 202 rfl
theorem q2829 : (Jvm.Cond.instanceMethod ({ cls := "RingHouse$Assembler", name := "operation", desc := "(II)LRingHouse$Operation;" } : Jvm.MethodName)) ∈ lw_all := lw_g (lw_at lw_m11 203 rfl) rfl
theorem q2830 : (Jvm.Cond.code ({ cls := "RingHouse$Assembler", name := "operation", desc := "(II)LRingHouse$Operation;" } : Jvm.MethodName) prog_4_method_20_code (8 : Nat) (Option.some (Jvm.ClassFile.FieldType.object "RingHouse$Operation"))) ∈ lw_all := lw_g (lw_at lw_m11 204 rfl) rfl
theorem q2831 : (Jvm.Cond.methodLink "RingHouse$Assembler" (143 : Nat) ({ cls := "java/lang/String", name := "length", desc := "()I" } : Jvm.MethodName)) ∈ lw_all := lw_g (lw_at lw_m11 205 rfl) rfl
theorem q2841 : (Jvm.Cond.methodLink "RingHouse$Assembler" (152 : Nat) ({ cls := "java/lang/String", name := "charAt", desc := "(I)C" } : Jvm.MethodName)) ∈ lw_all := lw_g (lw_at lw_m11 215 rfl) rfl
theorem q2879 : (Jvm.Cond.methodLink "RingHouse$Assembler" (213 : Nat) ({ cls := "RingHouse$Assembler", name := "operand", desc := "(LRingHouse$Operation;I)Z" } : Jvm.MethodName)) ∈ lw_all := lw_g (lw_at lw_m12 13 rfl) rfl
theorem q2880 : (Jvm.Cond.privateMethod ({ cls := "RingHouse$Assembler", name := "operand", desc := "(LRingHouse$Operation;I)Z" } : Jvm.MethodName)) ∈ lw_tbl := lw_at lw_m12 14 rfl
theorem q2881 : (Jvm.Cond.instanceMethod ({ cls := "RingHouse$Assembler", name := "operand", desc := "(LRingHouse$Operation;I)Z" } : Jvm.MethodName)) ∈ lw_all := lw_g (lw_at lw_m12 15 rfl) rfl
theorem q2882 : (Jvm.Cond.code ({ cls := "RingHouse$Assembler", name := "operand", desc := "(LRingHouse$Operation;I)Z" } : Jvm.MethodName) prog_4_method_24_code (8 : Nat) (Option.some Jvm.ClassFile.FieldType.boolean)) ∈ lw_all := lw_g (lw_at lw_m12 16 rfl) rfl
theorem q2883 : (Jvm.Cond.methodLink "RingHouse$Assembler" (175 : Nat) ({ cls := "RingHouse$Assembler", name := "which", desc := "(LRingHouse$Operation;)I" } : Jvm.MethodName)) ∈ lw_all := lw_g (lw_at lw_m12 17 rfl) rfl
theorem q2884 : (Jvm.Cond.privateMethod ({ cls := "RingHouse$Assembler", name := "which", desc := "(LRingHouse$Operation;)I" } : Jvm.MethodName)) ∈ lw_tbl := lw_at lw_m12 18 rfl
theorem q2885 : (Jvm.Cond.instanceMethod ({ cls := "RingHouse$Assembler", name := "which", desc := "(LRingHouse$Operation;)I" } : Jvm.MethodName)) ∈ lw_all := lw_g (lw_at lw_m12 19 rfl) rfl
theorem q2886 : (Jvm.Cond.code ({ cls := "RingHouse$Assembler", name := "which", desc := "(LRingHouse$Operation;)I" } : Jvm.MethodName) prog_4_method_21_code (3 : Nat) (Option.some Jvm.ClassFile.FieldType.int)) ∈ lw_all := lw_g (lw_at lw_m12 20 rfl) rfl
theorem q2887 : (Jvm.Cond.methodLink "RingHouse$Assembler" (182 : Nat) ({ cls := "RingHouse$Assembler", name := "put", desc := "(J)V" } : Jvm.MethodName)) ∈ lw_all := lw_g (lw_at lw_m12 21 rfl) rfl
theorem q2888 : (Jvm.Cond.privateMethod ({ cls := "RingHouse$Assembler", name := "put", desc := "(J)V" } : Jvm.MethodName)) ∈ lw_tbl := lw_at lw_m12 22 rfl
theorem q2889 : (Jvm.Cond.instanceMethod ({ cls := "RingHouse$Assembler", name := "put", desc := "(J)V" } : Jvm.MethodName)) ∈ lw_all := lw_g (lw_at lw_m12 23 rfl) rfl
theorem q2890 : (Jvm.Cond.code ({ cls := "RingHouse$Assembler", name := "put", desc := "(J)V" } : Jvm.MethodName) prog_4_method_19_code (3 : Nat) (Option.none : Option Jvm.ClassFile.FieldType)) ∈ lw_all := lw_g (lw_at lw_m12 24 rfl) rfl
theorem q2891 : (Jvm.Cond.constantLong "RingHouse$Assembler" (136 : Nat) (68719476735 : Int64)) ∈ lw_all := lw_g (lw_at lw_m12 25 rfl) rfl
theorem q2892 : (Jvm.Cond.methodLink "RingHouse$Assembler" (186 : Nat) ({ cls := "RingHouse$Assembler", name := "isEnd", desc := "()Z" } : Jvm.MethodName)) ∈ lw_all := lw_g (lw_at lw_m12 26 rfl) rfl
theorem q2893 : (Jvm.Cond.privateMethod ({ cls := "RingHouse$Assembler", name := "isEnd", desc := "()Z" } : Jvm.MethodName)) ∈ lw_tbl := lw_at lw_m12 27 rfl
theorem q2894 : (Jvm.Cond.instanceMethod ({ cls := "RingHouse$Assembler", name := "isEnd", desc := "()Z" } : Jvm.MethodName)) ∈ lw_all := lw_g (lw_at lw_m12 28 rfl) rfl
theorem q2895 : (Jvm.Cond.code ({ cls := "RingHouse$Assembler", name := "isEnd", desc := "()Z" } : Jvm.MethodName) prog_4_method_6_code (1 : Nat) (Option.some Jvm.ClassFile.FieldType.boolean)) ∈ lw_all := lw_g (lw_at lw_m12 29 rfl) rfl
theorem q2896 : (Jvm.Cond.methodLink "RingHouse$Assembler" (189 : Nat) ({ cls := "RingHouse$Assembler", name := "addressed", desc := "()Z" } : Jvm.MethodName)) ∈ lw_all := lw_g (lw_at lw_m12 30 rfl) rfl
theorem q2897 : (Jvm.Cond.privateMethod ({ cls := "RingHouse$Assembler", name := "addressed", desc := "()Z" } : Jvm.MethodName)) ∈ lw_tbl := lw_at lw_m12 31 rfl
theorem q2898 : (Jvm.Cond.instanceMethod ({ cls := "RingHouse$Assembler", name := "addressed", desc := "()Z" } : Jvm.MethodName)) ∈ lw_all := lw_g (lw_at lw_m12 32 rfl) rfl
theorem q2899 : (Jvm.Cond.code ({ cls := "RingHouse$Assembler", name := "addressed", desc := "()Z" } : Jvm.MethodName) prog_4_method_23_code (6 : Nat) (Option.some Jvm.ClassFile.FieldType.boolean)) ∈ lw_all := lw_g (lw_at lw_m12 33 rfl) rfl
theorem q2900 : (Jvm.Cond.methodLink "RingHouse$Assembler" (165 : Nat) ({ cls := "RingHouse$Assembler", name := "offset", desc := "()Z" } : Jvm.MethodName)) ∈ lw_all := lw_g (lw_at lw_m12 34 rfl) rfl
theorem q2901 : (Jvm.Cond.privateMethod ({ cls := "RingHouse$Assembler", name := "offset", desc := "()Z" } : Jvm.MethodName)) ∈ lw_tbl := lw_at lw_m12 35 rfl
theorem q2902 : (Jvm.Cond.instanceMethod ({ cls := "RingHouse$Assembler", name := "offset", desc := "()Z" } : Jvm.MethodName)) ∈ lw_all := lw_g (lw_at lw_m12 36 rfl) rfl
theorem q2903 : (Jvm.Cond.code ({ cls := "RingHouse$Assembler", name := "offset", desc := "()Z" } : Jvm.MethodName) prog_4_method_18_code (1 : Nat) (Option.some Jvm.ClassFile.FieldType.boolean)) ∈ lw_all := lw_g (lw_at lw_m12 37 rfl) rfl
theorem q2904 : (Jvm.Cond.constantLong "RingHouse$Assembler" (125 : Nat) (-131072 : Int64)) ∈ lw_all := lw_g (lw_at lw_m12 38 rfl) rfl
theorem q2905 : (Jvm.Cond.constantLong "RingHouse$Assembler" (127 : Nat) (262143 : Int64)) ∈ lw_all := lw_g (lw_at lw_m12 39 rfl) rfl
theorem q2906 : (Jvm.Cond.methodLink "RingHouse$Assembler" (129 : Nat) ({ cls := "RingHouse$Assembler", name := "expression", desc := "(JJ)Z" } : Jvm.MethodName)) ∈ lw_all := lw_g (lw_at lw_m12 40 rfl) rfl
theorem q2907 : (Jvm.Cond.privateMethod ({ cls := "RingHouse$Assembler", name := "expression", desc := "(JJ)Z" } : Jvm.MethodName)) ∈ lw_tbl := lw_at lw_m12 41 rfl
theorem q2908 : (Jvm.Cond.instanceMethod ({ cls := "RingHouse$Assembler", name := "expression", desc := "(JJ)Z" } : Jvm.MethodName)) ∈ lw_all := lw_g (lw_at lw_m12 42 rfl) rfl
theorem q2909 : (Jvm.Cond.code ({ cls := "RingHouse$Assembler", name := "expression", desc := "(JJ)Z" } : Jvm.MethodName) prog_4_method_17_code (9 : Nat) (Option.some Jvm.ClassFile.FieldType.boolean)) ∈ lw_all := lw_g (lw_at lw_m12 43 rfl) rfl
theorem q2910 : (Jvm.Cond.constantLong "RingHouse$Assembler" (97 : Nat) (-1 : Int64)) ∈ lw_all := lw_g (lw_at lw_m12 44 rfl) rfl
theorem q2911 : (Jvm.Cond.methodLink "RingHouse$Assembler" (121 : Nat) ({ cls := "RingHouse$Assembler", name := "term", desc := "(J)Z" } : Jvm.MethodName)) ∈ lw_all := lw_g (lw_at lw_m12 45 rfl) rfl
theorem q2912 : (Jvm.Cond.privateMethod ({ cls := "RingHouse$Assembler", name := "term", desc := "(J)Z" } : Jvm.MethodName)) ∈ lw_tbl := lw_at lw_m12 46 rfl
theorem q2913 : (Jvm.Cond.instanceMethod ({ cls := "RingHouse$Assembler", name := "term", desc := "(J)Z" } : Jvm.MethodName)) ∈ lw_all := lw_g (lw_at lw_m12 47 rfl) rfl
theorem q2914 : (Jvm.Cond.code ({ cls := "RingHouse$Assembler", name := "term", desc := "(J)Z" } : Jvm.MethodName) prog_4_method_16_code (7 : Nat) (Option.some Jvm.ClassFile.FieldType.boolean)) ∈ lw_all := lw_g (lw_at lw_m12 48 rfl) rfl
theorem q2915 : (Jvm.Cond.methodLink "RingHouse$Assembler" (90 : Nat) ({ cls := "RingHouse$Assembler", name := "isNumber", desc := "()Z" } : Jvm.MethodName)) ∈ lw_all := lw_g (lw_at lw_m12 49 rfl) rfl
theorem q2916 : (Jvm.Cond.privateMethod ({ cls := "RingHouse$Assembler", name := "isNumber", desc := "()Z" } : Jvm.MethodName)) ∈ lw_tbl := lw_at lw_m12 50 rfl
theorem q2917 : (Jvm.Cond.instanceMethod ({ cls := "RingHouse$Assembler", name := "isNumber", desc := "()Z" } : Jvm.MethodName)) ∈ lw_all := lw_g (lw_at lw_m12 51 rfl) rfl
theorem q2918 : (Jvm.Cond.code ({ cls := "RingHouse$Assembler", name := "isNumber", desc := "()Z" } : Jvm.MethodName) prog_4_method_9_code (1 : Nat) (Option.some Jvm.ClassFile.FieldType.boolean)) ∈ lw_all := lw_g (lw_at lw_m12 52 rfl) rfl
theorem q2919 : (Jvm.Cond.methodLink "RingHouse$Assembler" (79 : Nat) ({ cls := "RingHouse$Assembler", name := "isDigits", desc := "(II)Z" } : Jvm.MethodName)) ∈ lw_all := lw_g (lw_at lw_m12 53 rfl) rfl
theorem q2920 : (Jvm.Cond.privateMethod ({ cls := "RingHouse$Assembler", name := "isDigits", desc := "(II)Z" } : Jvm.MethodName)) ∈ lw_tbl := lw_at lw_m12 54 rfl
theorem q2921 : (Jvm.Cond.instanceMethod ({ cls := "RingHouse$Assembler", name := "isDigits", desc := "(II)Z" } : Jvm.MethodName)) ∈ lw_all := lw_g (lw_at lw_m12 55 rfl) rfl
theorem q2922 : (Jvm.Cond.code ({ cls := "RingHouse$Assembler", name := "isDigits", desc := "(II)Z" } : Jvm.MethodName) prog_4_method_8_code (5 : Nat) (Option.some Jvm.ClassFile.FieldType.boolean)) ∈ lw_all := lw_g (lw_at lw_m12 56 rfl) rfl
theorem q2923 : (Jvm.Cond.methodLink "RingHouse$Assembler" (93 : Nat) ({ cls := "RingHouse$Assembler", name := "digits", desc := "()J" } : Jvm.MethodName)) ∈ lw_all := lw_g (lw_at lw_m12 57 rfl) rfl
theorem q2924 : (Jvm.Cond.privateMethod ({ cls := "RingHouse$Assembler", name := "digits", desc := "()J" } : Jvm.MethodName)) ∈ lw_tbl := lw_at lw_m12 58 rfl
theorem q2925 : (Jvm.Cond.instanceMethod ({ cls := "RingHouse$Assembler", name := "digits", desc := "()J" } : Jvm.MethodName)) ∈ lw_all := lw_g (lw_at lw_m12 59 rfl) rfl
theorem q2926 : (Jvm.Cond.code ({ cls := "RingHouse$Assembler", name := "digits", desc := "()J" } : Jvm.MethodName) prog_4_method_14_code (4 : Nat) (Option.some Jvm.ClassFile.FieldType.long)) ∈ lw_all := lw_g (lw_at lw_m12 60 rfl) rfl
theorem q2927 : (Jvm.Cond.constantLong "RingHouse$Assembler" (99 : Nat) (10 : Int64)) ∈ lw_all := lw_g (lw_at lw_m12 61 rfl) rfl
theorem q2928 : (Jvm.Cond.constantLong "RingHouse$Assembler" (101 : Nat) (48 : Int64)) ∈ lw_all := lw_g (lw_at lw_m12 62 rfl) rfl
theorem q2929 : (Jvm.Cond.methodLink "RingHouse$Assembler" (110 : Nat) ({ cls := "RingHouse$Assembler", name := "name", desc := "()J" } : Jvm.MethodName)) ∈ lw_all := lw_g (lw_at lw_m12 63 rfl) rfl
theorem q2930 : (Jvm.Cond.privateMethod ({ cls := "RingHouse$Assembler", name := "name", desc := "()J" } : Jvm.MethodName)) ∈ lw_tbl := lw_at lw_m12 64 rfl
theorem q2931 : (Jvm.Cond.instanceMethod ({ cls := "RingHouse$Assembler", name := "name", desc := "()J" } : Jvm.MethodName)) ∈ lw_all := lw_g (lw_at lw_m12 65 rfl) rfl
theorem q2932 : (Jvm.Cond.code ({ cls := "RingHouse$Assembler", name := "name", desc := "()J" } : Jvm.MethodName) prog_4_method_12_code (3 : Nat) (Option.some Jvm.ClassFile.FieldType.long)) ∈ lw_all := lw_g (lw_at lw_m12 66 rfl) rfl
theorem q2933 : (Jvm.Cond.methodLink "RingHouse$Assembler" (82 : Nat) ({ cls := "RingHouse$Assembler", name := "isLabelWord", desc := "()Z" } : Jvm.MethodName)) ∈ lw_all := lw_g (lw_at lw_m12 67 rfl) rfl
theorem q2934 : (Jvm.Cond.privateMethod ({ cls := "RingHouse$Assembler", name := "isLabelWord", desc := "()Z" } : Jvm.MethodName)) ∈ lw_tbl := lw_at lw_m12 68 rfl
theorem q2935 : (Jvm.Cond.instanceMethod ({ cls := "RingHouse$Assembler", name := "isLabelWord", desc := "()Z" } : Jvm.MethodName)) ∈ lw_all := lw_g (lw_at lw_m12 69 rfl) rfl
theorem q2936 : (Jvm.Cond.code ({ cls := "RingHouse$Assembler", name := "isLabelWord", desc := "()Z" } : Jvm.MethodName) prog_4_method_11_code (1 : Nat) (Option.some Jvm.ClassFile.FieldType.boolean)) ∈ lw_all := lw_g (lw_at lw_m12 70 rfl) rfl
theorem q2937 : (Jvm.Cond.methodLink "RingHouse$Assembler" (168 : Nat) ({ cls := "RingHouse$Assembler", name := "ahead", desc := "()I" } : Jvm.MethodName)) ∈ lw_all := lw_g (lw_at lw_m12 71 rfl) rfl
theorem q2938 : (Jvm.Cond.privateMethod ({ cls := "RingHouse$Assembler", name := "ahead", desc := "()I" } : Jvm.MethodName)) ∈ lw_tbl := lw_at lw_m12 72 rfl
theorem q2939 : (Jvm.Cond.instanceMethod ({ cls := "RingHouse$Assembler", name := "ahead", desc := "()I" } : Jvm.MethodName)) ∈ lw_all := lw_g (lw_at lw_m12 73 rfl) rfl
theorem q2940 : (Jvm.Cond.code ({ cls := "RingHouse$Assembler", name := "ahead", desc := "()I" } : Jvm.MethodName) prog_4_method_5_code (2 : Nat) (Option.some Jvm.ClassFile.FieldType.int)) ∈ lw_all := lw_g (lw_at lw_m12 74 rfl) rfl
theorem q2941 : (Jvm.Cond.methodLink "RingHouse$Assembler" (171 : Nat) ({ cls := "RingHouse$Assembler", name := "linkFor", desc := "(JJI)I" } : Jvm.MethodName)) ∈ lw_all := lw_g (lw_at lw_m12 75 rfl) rfl
theorem q2942 : (Jvm.Cond.privateMethod ({ cls := "RingHouse$Assembler", name := "linkFor", desc := "(JJI)I" } : Jvm.MethodName)) ∈ lw_tbl := lw_at lw_m12 76 rfl
theorem q2943 : (Jvm.Cond.instanceMethod ({ cls := "RingHouse$Assembler", name := "linkFor", desc := "(JJI)I" } : Jvm.MethodName)) ∈ lw_all := lw_g (lw_at lw_m12 77 rfl) rfl
theorem q2944 : (Jvm.Cond.code ({ cls := "RingHouse$Assembler", name := "linkFor", desc := "(JJI)I" } : Jvm.MethodName) prog_4_method_22_code (7 : Nat) (Option.some Jvm.ClassFile.FieldType.int)) ∈ lw_all := lw_g (lw_at lw_m12 78 rfl) rfl
theorem q2945 : (Jvm.Cond.stringRef "RingHouse$Assembler" (217 : Nat) ".word") ∈ lw_tbl := lw_at lw_m12 79 rfl
theorem q2946 : (Jvm.Cond.methodLink "RingHouse$Assembler" (219 : Nat) ({ cls := "RingHouse$Assembler", name := "isDirective", desc := "(IILjava/lang/String;)Z" } : Jvm.MethodName)) ∈ lw_all := lw_g (lw_at lw_m12 80 rfl) rfl
theorem q2947 : (Jvm.Cond.privateMethod ({ cls := "RingHouse$Assembler", name := "isDirective", desc := "(IILjava/lang/String;)Z" } : Jvm.MethodName)) ∈ lw_tbl := lw_at lw_m12 81 rfl
theorem q2948 : (Jvm.Cond.instanceMethod ({ cls := "RingHouse$Assembler", name := "isDirective", desc := "(IILjava/lang/String;)Z" } : Jvm.MethodName)) ∈ lw_all := lw_g (lw_at lw_m12 82 rfl) rfl
theorem q2949 : (Jvm.Cond.code ({ cls := "RingHouse$Assembler", name := "isDirective", desc := "(IILjava/lang/String;)Z" } : Jvm.MethodName) prog_4_method_25_code (6 : Nat) (Option.some Jvm.ClassFile.FieldType.boolean)) ∈ lw_all := lw_g (lw_at lw_m12 83 rfl) rfl
theorem q2950 : (Jvm.Cond.methodLink "RingHouse$Assembler" (223 : Nat) ({ cls := "RingHouse$Assembler", name := "wordList", desc := "()Z" } : Jvm.MethodName)) ∈ lw_all := lw_g (lw_at lw_m12 84 rfl) rfl
theorem q2951 : (Jvm.Cond.privateMethod ({ cls := "RingHouse$Assembler", name := "wordList", desc := "()Z" } : Jvm.MethodName)) ∈ lw_tbl := lw_at lw_m12 85 rfl
theorem q2952 : (Jvm.Cond.instanceMethod ({ cls := "RingHouse$Assembler", name := "wordList", desc := "()Z" } : Jvm.MethodName)) ∈ lw_all := lw_g (lw_at lw_m12 86 rfl) rfl
theorem q2953 : (Jvm.Cond.code ({ cls := "RingHouse$Assembler", name := "wordList", desc := "()Z" } : Jvm.MethodName) prog_4_method_26_code (2 : Nat) (Option.some Jvm.ClassFile.FieldType.boolean)) ∈ lw_all := lw_g (lw_at lw_m12 87 rfl) rfl
theorem q2954 : (Jvm.Cond.constantLong "RingHouse$Assembler" (192 : Nat) (-34359738368 : Int64)) ∈ lw_all := lw_g (lw_at lw_m12 88 rfl) rfl
theorem q2955 : (Jvm.Cond.stringRef "RingHouse$Assembler" (226 : Nat) ".ptr") ∈ lw_tbl := lw_at lw_m12 89 rfl
theorem q2956 : (Jvm.Cond.methodLink "RingHouse$Assembler" (228 : Nat) ({ cls := "RingHouse$Assembler", name := "pointer", desc := "()Z" } : Jvm.MethodName)) ∈ lw_all := lw_g (lw_at lw_m12 90 rfl) rfl
theorem q2957 : (Jvm.Cond.privateMethod ({ cls := "RingHouse$Assembler", name := "pointer", desc := "()Z" } : Jvm.MethodName)) ∈ lw_tbl := lw_at lw_m12 91 rfl
theorem q2958 : (Jvm.Cond.instanceMethod ({ cls := "RingHouse$Assembler", name := "pointer", desc := "()Z" } : Jvm.MethodName)) ∈ lw_all := lw_g (lw_at lw_m12 92 rfl) rfl
theorem q2959 : (Jvm.Cond.code ({ cls := "RingHouse$Assembler", name := "pointer", desc := "()Z" } : Jvm.MethodName) prog_4_method_27_code (5 : Nat) (Option.some Jvm.ClassFile.FieldType.boolean)) ∈ lw_all := lw_g (lw_at lw_m12 93 rfl) rfl
theorem q2960 : (Jvm.Cond.methodLink "RingHouse$Assembler" (194 : Nat) ({ cls := "RingHouse$Assembler", name := "number", desc := "(I)I" } : Jvm.MethodName)) ∈ lw_all := lw_g (lw_at lw_m12 94 rfl) rfl
theorem q2961 : (Jvm.Cond.privateMethod ({ cls := "RingHouse$Assembler", name := "number", desc := "(I)I" } : Jvm.MethodName)) ∈ lw_tbl := lw_at lw_m12 95 rfl
theorem q2962 : (Jvm.Cond.instanceMethod ({ cls := "RingHouse$Assembler", name := "number", desc := "(I)I" } : Jvm.MethodName)) ∈ lw_all := lw_g (lw_at lw_m12 96 rfl) rfl
theorem q2963 : (Jvm.Cond.code ({ cls := "RingHouse$Assembler", name := "number", desc := "(I)I" } : Jvm.MethodName) prog_4_method_13_code (4 : Nat) (Option.some Jvm.ClassFile.FieldType.int)) ∈ lw_all := lw_g (lw_at lw_m12 97 rfl) rfl
theorem q2964 : (Jvm.Cond.methodLink "RingHouse$Assembler" (197 : Nat) ({ cls := "RingHouse$Assembler", name := "takes", desc := "(I)Z" } : Jvm.MethodName)) ∈ lw_all := lw_g (lw_at lw_m12 98 rfl) rfl
theorem q2965 : (Jvm.Cond.privateMethod ({ cls := "RingHouse$Assembler", name := "takes", desc := "(I)Z" } : Jvm.MethodName)) ∈ lw_tbl := lw_at lw_m12 99 rfl
theorem q2966 : (Jvm.Cond.instanceMethod ({ cls := "RingHouse$Assembler", name := "takes", desc := "(I)Z" } : Jvm.MethodName)) ∈ lw_all := lw_g (lw_at lw_m12 100 rfl) rfl
theorem q2967 : (Jvm.Cond.code ({ cls := "RingHouse$Assembler", name := "takes", desc := "(I)Z" } : Jvm.MethodName) prog_4_method_7_code (2 : Nat) (Option.some Jvm.ClassFile.FieldType.boolean)) ∈ lw_all := lw_g (lw_at lw_m12 101 rfl) rfl
theorem q2968 : (Jvm.Cond.methodLinkNest "RingHouse$Assembler" (200 : Nat) ({ cls := "RingHouse", name := "pointerWord", desc := "(III)J" } : Jvm.MethodName) "RingHouse") ∈ lw_tbl := lw_at lw_m12 102 rfl
theorem q2969 : (Jvm.Cond.constantLong "RingHouse$Assembler" (204 : Nat) (536870912 : Int64)) ∈ lw_all := lw_g (lw_at lw_m12 103 rfl) rfl
theorem q2970 : (Jvm.Cond.stringRef "RingHouse$Assembler" (231 : Nat) ".space") ∈ lw_tbl := lw_at lw_m12 104 rfl
theorem q2971 : (Jvm.Cond.methodLink "RingHouse$Assembler" (233 : Nat) ({ cls := "RingHouse$Assembler", name := "space", desc := "()Z" } : Jvm.MethodName)) ∈ lw_all := lw_g (lw_at lw_m12 105 rfl) rfl
theorem q2972 : (Jvm.Cond.privateMethod ({ cls := "RingHouse$Assembler", name := "space", desc := "()Z" } : Jvm.MethodName)) ∈ lw_tbl := lw_at lw_m12 106 rfl
theorem q2973 : (Jvm.Cond.instanceMethod ({ cls := "RingHouse$Assembler", name := "space", desc := "()Z" } : Jvm.MethodName)) ∈ lw_all := lw_g (lw_at lw_m12 107 rfl) rfl
theorem q2974 : (Jvm.Cond.code ({ cls := "RingHouse$Assembler", name := "space", desc := "()Z" } : Jvm.MethodName) prog_4_method_28_code (3 : Nat) (Option.some Jvm.ClassFile.FieldType.boolean)) ∈ lw_all := lw_g (lw_at lw_m12 108 rfl) rfl
theorem q2975 : (Jvm.Cond.stringRef "RingHouse$Assembler" (236 : Nat) ".def") ∈ lw_tbl := lw_at lw_m12 109 rfl
theorem q2976 : (Jvm.Cond.methodLink "RingHouse$Assembler" (238 : Nat) ({ cls := "RingHouse$Assembler", name := "define", desc := "()Z" } : Jvm.MethodName)) ∈ lw_all := lw_g (lw_at lw_m12 110 rfl) rfl
theorem q2977 : (Jvm.Cond.privateMethod ({ cls := "RingHouse$Assembler", name := "define", desc := "()Z" } : Jvm.MethodName)) ∈ lw_tbl := lw_at lw_m12 111 rfl
theorem q2978 : (Jvm.Cond.instanceMethod ({ cls := "RingHouse$Assembler", name := "define", desc := "()Z" } : Jvm.MethodName)) ∈ lw_all := lw_g (lw_at lw_m12 112 rfl) rfl
theorem q2979 : (Jvm.Cond.code ({ cls := "RingHouse$Assembler", name := "define", desc := "()Z" } : Jvm.MethodName) prog_4_method_29_code (4 : Nat) (Option.some Jvm.ClassFile.FieldType.boolean)) ∈ lw_all := lw_g (lw_at lw_m12 113 rfl) rfl
theorem q2980 : (Jvm.Cond.methodLink "RingHouse$Assembler" (259 : Nat) ({ cls := "RingHouse$Assembler", name := "putTables", desc := "()V" } : Jvm.MethodName)) ∈ lw_all := lw_g (lw_at lw_m12 114 rfl) rfl
theorem q2981 : (Jvm.Cond.privateMethod ({ cls := "RingHouse$Assembler", name := "putTables", desc := "()V" } : Jvm.MethodName)) ∈ lw_tbl := lw_at lw_m12 115 rfl
theorem q2982 : (Jvm.Cond.instanceMethod ({ cls := "RingHouse$Assembler", name := "putTables", desc := "()V" } : Jvm.MethodName)) ∈ lw_all := lw_g (lw_at lw_m12 116 rfl) rfl
theorem q2983 : (Jvm.Cond.code ({ cls := "RingHouse$Assembler", name := "putTables", desc := "()V" } : Jvm.MethodName) prog_4_method_34_code (4 : Nat) (Option.none : Option Jvm.ClassFile.FieldType)) ∈ lw_all := lw_g (lw_at lw_m12 117 rfl) rfl
theorem q2984 : (Jvm.Cond.constantLong "RingHouse$Assembler" (253 : Nat) (48989470720 : Int64)) ∈ lw_all := lw_g (lw_at lw_m12 118 rfl) rfl
theorem q2985 : (Jvm.Cond.constant "RingHouse$Assembler" (255 : Nat) (262143 : Int32)) ∈ lw_all := lw_g (lw_at lw_m12 119 rfl) rfl
theorem q2986 : (Jvm.Cond.methodLink "RingHouse$Assembler" (266 : Nat) ({ cls := "RingHouse$Tree", name := "put", desc := "(LRingHouse$Node;IJ)V" } : Jvm.MethodName)) ∈ lw_all := lw_g (lw_at lw_m12 120 rfl) rfl
theorem in_X64 : ∀ w ∈ wsX640, w ∈ lw_all := lw_in wsX640 [1655, 1657, 1659, 1661, 1663, 1665, 1667, 1669, 1671, 1673, 1675, 1677, 1679, 1681, 1683, 1685, 1687, 1689, 1691, 1693, 1695, 1697, 1699, 1701, 1703] (by decide +kernel) (by decide +kernel)
/-! RingHouse$Tape -/
def RX65 : String := "RingHouse$Tape"
def TX65 : u_T := fun k => match k with
  | 0 => ("RingHouse$Tape", "tree", "LRingHouse$Tree;", true)
  | 1 => ("RingHouse$Tape", "bytes", "[B", true)
  | 2 => ("RingHouse$Tape", "size", "I", false)
  | 3 => ("RingHouse$Tape", "at", "I", false)
  | 4 => ("RingHouse$Tape", "fault", "I", false)
  | 5 => ("RingHouse$Tape", "faultPlace", "I", false)
  | 6 => ("RingHouse$Tape", "left", "[I", true)
  | 7 => ("RingHouse$Tape", "labels", "[I", true)
  | 8 => ("RingHouse$Tape", "limits", "[I", true)
  | 9 => ("RingHouse$Tape", "costs", "[I", true)
  | 10 => ("RingHouse$Tape", "namesAt", "[I", true)
  | 11 => ("RingHouse$Tape", "names", "[J", true)
  | 12 => ("RingHouse$Tape", "open", "I", false)
  | 13 => ("RingHouse$Tape", "named", "I", false)
  | 14 => ("RingHouse$Tape", "isShort", "Z", false)
  | 15 => ("RingHouse$Tape", "items", "[I", true)
  | 16 => ("RingHouse$Tape", "alike", "[I", true)
  | _ => ("RingHouse$Tape", "topCost", "I", false)
def tyX65 : Nat → FieldType := fun k => match k with
  | 0 => .object "RingHouse$Tree"
  | 1 => .array .byte
  | 2 => .int
  | 3 => .int
  | 4 => .int
  | 5 => .int
  | 6 => .array .int
  | 7 => .array .int
  | 8 => .array .int
  | 9 => .array .int
  | 10 => .array .int
  | 11 => .array .long
  | 12 => .int
  | 13 => .int
  | 14 => .boolean
  | 15 => .array .int
  | 16 => .array .int
  | _ => .int
abbrev wsX650 : List Cond := u_ws RX65 TX65 18
theorem nmX65 : ∀ a, a < 18 → ∀ b, b < 18 → a ≠ b → (TX65 a).2.1 ≠ (TX65 b).2.1 := by decide +kernel
theorem tyX65_ok : ∀ k, k < 18 → parseFieldDescriptor (TX65 k).2.2.1 = some (tyX65 k) := by decide +kernel
abbrev cX65_init : ByteArray := prog_64_method_1_code
def yX65_init : MethodName := ⟨RX65, "<init>", "(LRingHouse$Tree;)V"⟩
abbrev cX65_dump : ByteArray := prog_64_method_7_code
def yX65_dump : MethodName := ⟨RX65, "dump", "(LRingHouse$Node;)I"⟩
abbrev cX65_put : ByteArray := prog_64_method_2_code
def yX65_put : MethodName := ⟨RX65, "put", "(I)V"⟩
abbrev cX65_putNode : ByteArray := prog_64_method_5_code
def yX65_putNode : MethodName := ⟨RX65, "putNode", "(LRingHouse$Node;)V"⟩
abbrev cX65_putWord : ByteArray := prog_64_method_3_code
def yX65_putWord : MethodName := ⟨RX65, "putWord", "(J)V"⟩
abbrev cX65_putItems : ByteArray := prog_64_method_4_code
def yX65_putItems : MethodName := ⟨RX65, "putItems", "(LRingHouse$Acl;)V"⟩
abbrev cX65_checkTo : ByteArray := prog_64_method_6_code
def yX65_checkTo : MethodName := ⟨RX65, "checkTo", "(I)I"⟩
abbrev cX65_reload : ByteArray := prog_64_method_24_code
def yX65_reload : MethodName := ⟨RX65, "reload", "(LRingHouse$Node;J)I"⟩
abbrev cX65_isSound : ByteArray := prog_64_method_20_code
def yX65_isSound : MethodName := ⟨RX65, "isSound", "(LRingHouse$Node;)Z"⟩
abbrev cX65_take : ByteArray := prog_64_method_9_code
def yX65_take : MethodName := ⟨RX65, "take", "()I"⟩
abbrev cX65_wrong : ByteArray := prog_64_method_8_code
def yX65_wrong : MethodName := ⟨RX65, "wrong", "(II)Z"⟩
abbrev cX65_lookNode : ByteArray := prog_64_method_19_code
def yX65_lookNode : MethodName := ⟨RX65, "lookNode", "(I)V"⟩
abbrev cX65_take_2 : ByteArray := prog_64_method_10_code
def yX65_take_2 : MethodName := ⟨RX65, "take", "(II)I"⟩
abbrev cX65_lookName : ByteArray := prog_64_method_12_code
def yX65_lookName : MethodName := ⟨RX65, "lookName", "()V"⟩
abbrev cX65_takeWord : ByteArray := prog_64_method_11_code
def yX65_takeWord : MethodName := ⟨RX65, "takeWord", "()J"⟩
abbrev cX65_lookItems : ByteArray := prog_64_method_13_code
def yX65_lookItems : MethodName := ⟨RX65, "lookItems", "(I)V"⟩
abbrev cX65_lookDirectory : ByteArray := prog_64_method_15_code
def yX65_lookDirectory : MethodName := ⟨RX65, "lookDirectory", "(I)V"⟩
abbrev cX65_lookSegment : ByteArray := prog_64_method_16_code
def yX65_lookSegment : MethodName := ⟨RX65, "lookSegment", "()V"⟩
abbrev cX65_charge : ByteArray := prog_64_method_14_code
def yX65_charge : MethodName := ⟨RX65, "charge", "(I)V"⟩
abbrev cX65_lookMailbox : ByteArray := prog_64_method_17_code
def yX65_lookMailbox : MethodName := ⟨RX65, "lookMailbox", "(I)V"⟩
abbrev cX65_shut : ByteArray := prog_64_method_18_code
def yX65_shut : MethodName := ⟨RX65, "shut", "()V"⟩
abbrev cX65_makeNode : ByteArray := prog_64_method_23_code
def yX65_makeNode : MethodName := ⟨RX65, "makeNode", "(LRingHouse$Node;J)LRingHouse$Node;"⟩
abbrev cX65_skipItems : ByteArray := prog_64_method_21_code
def yX65_skipItems : MethodName := ⟨RX65, "skipItems", "()V"⟩
abbrev cX65_setItems : ByteArray := prog_64_method_22_code
def yX65_setItems : MethodName := ⟨RX65, "setItems", "(LRingHouse$Acl;I)V"⟩
theorem q292 : (Jvm.Cond.initialized "RingHouse$Tape") ∈ lw_all := lw_g (lw_at lw_m1 66 rfl) rfl
theorem q360 : (Jvm.Cond.fieldLinkNest "RingHouse$Tape" (65 : Nat) "RingHouse$Acl" "modes" "[I" "RingHouse") ∈ lw_tbl := lw_at lw_m1 134 rfl
theorem q362 : (Jvm.Cond.fieldLinkNest "RingHouse$Tape" (54 : Nat) "RingHouse$Acl" "items" "I" "RingHouse") ∈ lw_tbl := lw_at lw_m1 136 rfl
theorem q375 : (Jvm.Cond.fieldLinkNest "RingHouse$Tape" (285 : Nat) "RingHouse$Node" "number" "I" "RingHouse") ∈ lw_tbl := lw_at lw_m1 149 rfl
theorem q380 : (Jvm.Cond.fieldLinkNest "RingHouse$Tape" (68 : Nat) "RingHouse$Node" "kind" "I" "RingHouse") ∈ lw_tbl := lw_at lw_m1 154 rfl
theorem q384 : (Jvm.Cond.fieldLinkNest "RingHouse$Tape" (73 : Nat) "RingHouse$Node" "name" "J" "RingHouse") ∈ lw_tbl := lw_at lw_m1 158 rfl
theorem q391 : (Jvm.Cond.fieldLinkNest "RingHouse$Tape" (118 : Nat) "RingHouse$Node" "label" "I" "RingHouse") ∈ lw_tbl := lw_at lw_m1 165 rfl
theorem q404 : (Jvm.Cond.fieldLinkNest "RingHouse$Tape" (141 : Nat) "RingHouse$Node" "behind" "LRingHouse$Node;" "RingHouse") ∈ lw_tbl := lw_at lw_m1 178 rfl
theorem q412 : (Jvm.Cond.fieldLinkNest "RingHouse$Tape" (90 : Nat) "RingHouse$Node" "acl" "LRingHouse$Acl;" "RingHouse") ∈ lw_tbl := lw_at lw_m1 186 rfl
theorem q423 : (Jvm.Cond.fieldLinkNest "RingHouse$Tape" (81 : Nat) "RingHouse$Node" "r1" "I" "RingHouse") ∈ lw_tbl := lw_at lw_m1 197 rfl
theorem q430 : (Jvm.Cond.fieldLinkNest "RingHouse$Tape" (84 : Nat) "RingHouse$Node" "r2" "I" "RingHouse") ∈ lw_tbl := lw_at lw_m1 204 rfl
theorem q436 : (Jvm.Cond.fieldLinkNest "RingHouse$Tape" (87 : Nat) "RingHouse$Node" "r3" "I" "RingHouse") ∈ lw_tbl := lw_at lw_m1 210 rfl
theorem q443 : (Jvm.Cond.fieldLinkNest "RingHouse$Tape" (133 : Nat) "RingHouse$Node" "first" "LRingHouse$Node;" "RingHouse") ∈ lw_tbl := lw_at lw_m1 217 rfl
theorem q448 : (Jvm.Cond.fieldLinkNest "RingHouse$Tape" (130 : Nat) "RingHouse$Node" "entries" "I" "RingHouse") ∈ lw_tbl := lw_at lw_m1 222 rfl
theorem q453 : (Jvm.Cond.fieldLinkNest "RingHouse$Tape" (121 : Nat) "RingHouse$Node" "limit" "I" "RingHouse") ∈ lw_tbl := lw_at lw_m1 227 rfl
theorem q460 : (Jvm.Cond.fieldLinkNest "RingHouse$Tape" (124 : Nat) "RingHouse$Node" "forSegments" "LRingHouse$Acl;" "RingHouse") ∈ lw_tbl := lw_at lw_m1 234 rfl
theorem q463 : (Jvm.Cond.fieldLinkNest "RingHouse$Tape" (127 : Nat) "RingHouse$Node" "forDirectories" "LRingHouse$Acl;" "RingHouse") ∈ lw_tbl := lw_at lw_m1 237 rfl
theorem q466 : (Jvm.Cond.fieldLinkNest "RingHouse$Tape" (102 : Nat) "RingHouse$Node" "box" "LRingHouse$Box;" "RingHouse") ∈ lw_tbl := lw_at lw_m2 0 rfl
theorem q472 : (Jvm.Cond.fieldLinkNest "RingHouse$Tape" (144 : Nat) "RingHouse$Node" "gates" "I" "RingHouse") ∈ lw_tbl := lw_at lw_m2 6 rfl
theorem q477 : (Jvm.Cond.fieldLinkNest "RingHouse$Tape" (147 : Nat) "RingHouse$Node" "length" "I" "RingHouse") ∈ lw_tbl := lw_at lw_m2 11 rfl
theorem q540 : (Jvm.Cond.fieldLinkNest "RingHouse$Tape" (112 : Nat) "RingHouse$Box" "words" "[J" "RingHouse") ∈ lw_tbl := lw_at lw_m2 74 rfl
theorem q544 : (Jvm.Cond.fieldLinkNest "RingHouse$Tape" (111 : Nat) "RingHouse$Box" "labels" "[I" "RingHouse") ∈ lw_tbl := lw_at lw_m2 78 rfl
theorem q547 : (Jvm.Cond.fieldLinkNest "RingHouse$Tape" (106 : Nat) "RingHouse$Box" "letters" "I" "RingHouse") ∈ lw_tbl := lw_at lw_m2 81 rfl
theorem q605 : (Jvm.Cond.fieldLinkNest "RingHouse$Tape" (282 : Nat) "RingHouse$Tree" "version" "I" "RingHouse") ∈ lw_tbl := lw_at lw_m2 139 rfl
theorem q1707 : (Jvm.Cond.instantiable "RingHouse$Tape" (18 : Nat)) ∈ lw_all := lw_g (lw_at lw_m7 41 rfl) rfl
theorem q1709 : (Jvm.Cond.instanceMethod ({ cls := "RingHouse$Tape", name := "<init>", desc := "(LRingHouse$Tree;)V" } : Jvm.MethodName)) ∈ lw_all := lw_g (lw_at lw_m7 43 rfl) rfl
theorem q1710 : (Jvm.Cond.code ({ cls := "RingHouse$Tape", name := "<init>", desc := "(LRingHouse$Tree;)V" } : Jvm.MethodName) prog_64_method_1_code (2 : Nat) (Option.none : Option Jvm.ClassFile.FieldType)) ∈ lw_all := lw_g (lw_at lw_m7 44 rfl) rfl
theorem q1711 : (Jvm.Cond.methodLink "RingHouse$Tape" (3 : Nat) ({ cls := "java/lang/Object", name := "<init>", desc := "()V" } : Jvm.MethodName)) ∈ lw_all := lw_g (lw_at lw_m7 45 rfl) rfl
theorem q1712 : (Jvm.Cond.constant "RingHouse$Tape" (9 : Nat) (98304 : Int32)) ∈ lw_all := lw_g (lw_at lw_m7 46 rfl) rfl
theorem q1713 : (Jvm.Cond.fieldLink "RingHouse$Tape" (42 : Nat) "RingHouse$Tape" "tree" "LRingHouse$Tree;") ∈ lw_all := lw_g (lw_at lw_m7 47 rfl) rfl
theorem q1714 : (Jvm.Cond.fieldLink "RingHouse$Tape" (10 : Nat) "RingHouse$Tape" "bytes" "[B") ∈ lw_all := lw_g (lw_at lw_m7 48 rfl) rfl
theorem q1716 : (Jvm.Cond.fieldLink "RingHouse$Tape" (46 : Nat) "RingHouse$Tape" "size" "I") ∈ lw_all := lw_g (lw_at lw_m7 50 rfl) rfl
theorem q1718 : (Jvm.Cond.fieldLink "RingHouse$Tape" (166 : Nat) "RingHouse$Tape" "at" "I") ∈ lw_all := lw_g (lw_at lw_m7 52 rfl) rfl
theorem q1719 : (Jvm.Cond.fieldLink "RingHouse$Tape" (160 : Nat) "RingHouse$Tape" "fault" "I") ∈ lw_all := lw_g (lw_at lw_m7 53 rfl) rfl
theorem q1720 : (Jvm.Cond.fieldLink "RingHouse$Tape" (163 : Nat) "RingHouse$Tape" "faultPlace" "I") ∈ lw_all := lw_g (lw_at lw_m7 54 rfl) rfl
theorem q1722 : (Jvm.Cond.fieldLink "RingHouse$Tape" (16 : Nat) "RingHouse$Tape" "left" "[I") ∈ lw_all := lw_g (lw_at lw_m7 56 rfl) rfl
theorem q1723 : (Jvm.Cond.fieldLink "RingHouse$Tape" (20 : Nat) "RingHouse$Tape" "labels" "[I") ∈ lw_all := lw_g (lw_at lw_m7 57 rfl) rfl
theorem q1724 : (Jvm.Cond.fieldLink "RingHouse$Tape" (23 : Nat) "RingHouse$Tape" "limits" "[I") ∈ lw_all := lw_g (lw_at lw_m7 58 rfl) rfl
theorem q1725 : (Jvm.Cond.fieldLink "RingHouse$Tape" (26 : Nat) "RingHouse$Tape" "costs" "[I") ∈ lw_all := lw_g (lw_at lw_m7 59 rfl) rfl
theorem q1726 : (Jvm.Cond.fieldLink "RingHouse$Tape" (29 : Nat) "RingHouse$Tape" "namesAt" "[I") ∈ lw_all := lw_g (lw_at lw_m7 60 rfl) rfl
theorem q1727 : (Jvm.Cond.fieldLink "RingHouse$Tape" (32 : Nat) "RingHouse$Tape" "names" "[J") ∈ lw_all := lw_g (lw_at lw_m7 61 rfl) rfl
theorem q1728 : (Jvm.Cond.fieldLink "RingHouse$Tape" (185 : Nat) "RingHouse$Tape" "open" "I") ∈ lw_all := lw_g (lw_at lw_m7 62 rfl) rfl
theorem q1729 : (Jvm.Cond.fieldLink "RingHouse$Tape" (188 : Nat) "RingHouse$Tape" "named" "I") ∈ lw_all := lw_g (lw_at lw_m7 63 rfl) rfl
theorem q1730 : (Jvm.Cond.fieldLink "RingHouse$Tape" (212 : Nat) "RingHouse$Tape" "isShort" "Z") ∈ lw_all := lw_g (lw_at lw_m7 64 rfl) rfl
theorem q1731 : (Jvm.Cond.fieldLink "RingHouse$Tape" (36 : Nat) "RingHouse$Tape" "items" "[I") ∈ lw_all := lw_g (lw_at lw_m7 65 rfl) rfl
theorem q1732 : (Jvm.Cond.fieldLink "RingHouse$Tape" (39 : Nat) "RingHouse$Tape" "alike" "[I") ∈ lw_all := lw_g (lw_at lw_m7 66 rfl) rfl
theorem q1733 : (Jvm.Cond.fieldLink "RingHouse$Tape" (209 : Nat) "RingHouse$Tape" "topCost" "I") ∈ lw_all := lw_g (lw_at lw_m7 67 rfl) rfl
theorem q1734 : (Jvm.Cond.laysFinal "RingHouse$Tape" "RingHouse$Tape" "tree" "LRingHouse$Tree;") ∈ lw_all := lw_g (lw_at lw_m7 68 rfl) rfl
theorem q1735 : (Jvm.Cond.soleField "RingHouse$Tape" "tree") ∈ lw_all := lw_g (lw_at lw_m7 69 rfl) rfl
theorem q1736 : (Jvm.Cond.laysFinal "RingHouse$Tape" "RingHouse$Tape" "bytes" "[B") ∈ lw_all := lw_g (lw_at lw_m7 70 rfl) rfl
theorem q1737 : (Jvm.Cond.soleField "RingHouse$Tape" "bytes") ∈ lw_all := lw_g (lw_at lw_m7 71 rfl) rfl
theorem q1738 : (Jvm.Cond.lays "RingHouse$Tape" "RingHouse$Tape" "size" "I") ∈ lw_all := lw_g (lw_at lw_m7 72 rfl) rfl
theorem q1739 : (Jvm.Cond.soleField "RingHouse$Tape" "size") ∈ lw_all := lw_g (lw_at lw_m7 73 rfl) rfl
theorem q1740 : (Jvm.Cond.lays "RingHouse$Tape" "RingHouse$Tape" "at" "I") ∈ lw_all := lw_g (lw_at lw_m7 74 rfl) rfl
theorem q1741 : (Jvm.Cond.soleField "RingHouse$Tape" "at") ∈ lw_all := lw_g (lw_at lw_m7 75 rfl) rfl
theorem q1742 : (Jvm.Cond.lays "RingHouse$Tape" "RingHouse$Tape" "fault" "I") ∈ lw_all := lw_g (lw_at lw_m7 76 rfl) rfl
theorem q1743 : (Jvm.Cond.soleField "RingHouse$Tape" "fault") ∈ lw_all := lw_g (lw_at lw_m7 77 rfl) rfl
theorem q1744 : (Jvm.Cond.lays "RingHouse$Tape" "RingHouse$Tape" "faultPlace" "I") ∈ lw_all := lw_g (lw_at lw_m7 78 rfl) rfl
theorem q1745 : (Jvm.Cond.soleField "RingHouse$Tape" "faultPlace") ∈ lw_all := lw_g (lw_at lw_m7 79 rfl) rfl
theorem q1746 : (Jvm.Cond.laysFinal "RingHouse$Tape" "RingHouse$Tape" "left" "[I") ∈ lw_all := lw_g (lw_at lw_m7 80 rfl) rfl
theorem q1747 : (Jvm.Cond.soleField "RingHouse$Tape" "left") ∈ lw_all := lw_g (lw_at lw_m7 81 rfl) rfl
theorem q1748 : (Jvm.Cond.laysFinal "RingHouse$Tape" "RingHouse$Tape" "labels" "[I") ∈ lw_all := lw_g (lw_at lw_m7 82 rfl) rfl
theorem q1749 : (Jvm.Cond.soleField "RingHouse$Tape" "labels") ∈ lw_all := lw_g (lw_at lw_m7 83 rfl) rfl
theorem q1750 : (Jvm.Cond.laysFinal "RingHouse$Tape" "RingHouse$Tape" "limits" "[I") ∈ lw_all := lw_g (lw_at lw_m7 84 rfl) rfl
theorem q1751 : (Jvm.Cond.soleField "RingHouse$Tape" "limits") ∈ lw_all := lw_g (lw_at lw_m7 85 rfl) rfl
theorem q1752 : (Jvm.Cond.laysFinal "RingHouse$Tape" "RingHouse$Tape" "costs" "[I") ∈ lw_all := lw_g (lw_at lw_m7 86 rfl) rfl
theorem q1753 : (Jvm.Cond.soleField "RingHouse$Tape" "costs") ∈ lw_all := lw_g (lw_at lw_m7 87 rfl) rfl
theorem q1754 : (Jvm.Cond.laysFinal "RingHouse$Tape" "RingHouse$Tape" "namesAt" "[I") ∈ lw_all := lw_g (lw_at lw_m7 88 rfl) rfl
theorem q1755 : (Jvm.Cond.soleField "RingHouse$Tape" "namesAt") ∈ lw_all := lw_g (lw_at lw_m7 89 rfl) rfl
theorem q1756 : (Jvm.Cond.laysFinal "RingHouse$Tape" "RingHouse$Tape" "names" "[J") ∈ lw_all := lw_g (lw_at lw_m7 90 rfl) rfl
theorem q1757 : (Jvm.Cond.soleField "RingHouse$Tape" "names") ∈ lw_all := lw_g (lw_at lw_m7 91 rfl) rfl
theorem q1758 : (Jvm.Cond.lays "RingHouse$Tape" "RingHouse$Tape" "open" "I") ∈ lw_all := lw_g (lw_at lw_m7 92 rfl) rfl
theorem q1759 : (Jvm.Cond.soleField "RingHouse$Tape" "open") ∈ lw_all := lw_g (lw_at lw_m7 93 rfl) rfl
theorem q1760 : (Jvm.Cond.lays "RingHouse$Tape" "RingHouse$Tape" "named" "I") ∈ lw_all := lw_g (lw_at lw_m7 94 rfl) rfl
theorem q1761 : (Jvm.Cond.soleField "RingHouse$Tape" "named") ∈ lw_all := lw_g (lw_at lw_m7 95 rfl) rfl
theorem q1762 : (Jvm.Cond.lays "RingHouse$Tape" "RingHouse$Tape" "isShort" "Z") ∈ lw_all := lw_g (lw_at lw_m7 96 rfl) rfl
theorem q1763 : (Jvm.Cond.soleField "RingHouse$Tape" "isShort") ∈ lw_all := lw_g (lw_at lw_m7 97 rfl) rfl
theorem q1764 : (Jvm.Cond.laysFinal "RingHouse$Tape" "RingHouse$Tape" "items" "[I") ∈ lw_all := lw_g (lw_at lw_m7 98 rfl) rfl
theorem q1765 : (Jvm.Cond.soleField "RingHouse$Tape" "items") ∈ lw_all := lw_g (lw_at lw_m7 99 rfl) rfl
theorem q1766 : (Jvm.Cond.laysFinal "RingHouse$Tape" "RingHouse$Tape" "alike" "[I") ∈ lw_all := lw_g (lw_at lw_m7 100 rfl) rfl
theorem q1767 : (Jvm.Cond.soleField "RingHouse$Tape" "alike") ∈ lw_all := lw_g (lw_at lw_m7 101 rfl) rfl
theorem q1768 : (Jvm.Cond.lays "RingHouse$Tape" "RingHouse$Tape" "topCost" "I") ∈ lw_all := lw_g (lw_at lw_m7 102 rfl) rfl
theorem q1769 : (Jvm.Cond.soleField "RingHouse$Tape" "topCost") ∈ lw_all := lw_g (lw_at lw_m7 103 rfl) rfl
theorem q1770 : (Jvm.Cond.superclass "RingHouse$Tape" "java/lang/Object") ∈ lw_all := lw_g (lw_at lw_m7 104 rfl) rfl
theorem q3032 : (Jvm.Cond.instanceMethod ({ cls := "RingHouse$Tape", name := "dump", desc := "(LRingHouse$Node;)I" } : Jvm.MethodName)) ∈ lw_all := lw_g (lw_at lw_m12 166 rfl) rfl
theorem q3033 : (Jvm.Cond.selects "RingHouse$Tape" ({ cls := "RingHouse$Tape", name := "dump", desc := "(LRingHouse$Node;)I" } : Jvm.MethodName) ({ cls := "RingHouse$Tape", name := "dump", desc := "(LRingHouse$Node;)I" } : Jvm.MethodName)) ∈ lw_all := lw_g (lw_at lw_m12 167 rfl) rfl
theorem q3034 : (Jvm.Cond.code ({ cls := "RingHouse$Tape", name := "dump", desc := "(LRingHouse$Node;)I" } : Jvm.MethodName) prog_64_method_7_code (3 : Nat) (Option.some Jvm.ClassFile.FieldType.int)) ∈ lw_all := lw_g (lw_at lw_m12 168 rfl) rfl
theorem q3035 : (Jvm.Cond.methodLink "RingHouse$Tape" (50 : Nat) ({ cls := "RingHouse$Tape", name := "put", desc := "(I)V" } : Jvm.MethodName)) ∈ lw_all := lw_g (lw_at lw_m12 169 rfl) rfl
theorem q3036 : (Jvm.Cond.privateMethod ({ cls := "RingHouse$Tape", name := "put", desc := "(I)V" } : Jvm.MethodName)) ∈ lw_tbl := lw_at lw_m12 170 rfl
theorem q3037 : (Jvm.Cond.instanceMethod ({ cls := "RingHouse$Tape", name := "put", desc := "(I)V" } : Jvm.MethodName)) ∈ lw_all := lw_g (lw_at lw_m12 171 rfl) rfl
theorem q3038 : (Jvm.Cond.code ({ cls := "RingHouse$Tape", name := "put", desc := "(I)V" } : Jvm.MethodName) prog_64_method_2_code (2 : Nat) (Option.none : Option Jvm.ClassFile.FieldType)) ∈ lw_all := lw_g (lw_at lw_m12 172 rfl) rfl
theorem q3039 : (Jvm.Cond.methodLink "RingHouse$Tape" (137 : Nat) ({ cls := "RingHouse$Tape", name := "putNode", desc := "(LRingHouse$Node;)V" } : Jvm.MethodName)) ∈ lw_all := lw_g (lw_at lw_m12 173 rfl) rfl
theorem q3040 : (Jvm.Cond.privateMethod ({ cls := "RingHouse$Tape", name := "putNode", desc := "(LRingHouse$Node;)V" } : Jvm.MethodName)) ∈ lw_tbl := lw_at lw_m12 174 rfl
theorem q3041 : (Jvm.Cond.instanceMethod ({ cls := "RingHouse$Tape", name := "putNode", desc := "(LRingHouse$Node;)V" } : Jvm.MethodName)) ∈ lw_all := lw_g (lw_at lw_m12 175 rfl) rfl
theorem q3042 : (Jvm.Cond.code ({ cls := "RingHouse$Tape", name := "putNode", desc := "(LRingHouse$Node;)V" } : Jvm.MethodName) prog_64_method_5_code (3 : Nat) (Option.none : Option Jvm.ClassFile.FieldType)) ∈ lw_all := lw_g (lw_at lw_m12 176 rfl) rfl
theorem q3043 : (Jvm.Cond.methodLink "RingHouse$Tape" (77 : Nat) ({ cls := "RingHouse$Tape", name := "putWord", desc := "(J)V" } : Jvm.MethodName)) ∈ lw_all := lw_g (lw_at lw_m12 177 rfl) rfl
theorem q3044 : (Jvm.Cond.privateMethod ({ cls := "RingHouse$Tape", name := "putWord", desc := "(J)V" } : Jvm.MethodName)) ∈ lw_tbl := lw_at lw_m12 178 rfl
theorem q3045 : (Jvm.Cond.instanceMethod ({ cls := "RingHouse$Tape", name := "putWord", desc := "(J)V" } : Jvm.MethodName)) ∈ lw_all := lw_g (lw_at lw_m12 179 rfl) rfl
theorem q3046 : (Jvm.Cond.code ({ cls := "RingHouse$Tape", name := "putWord", desc := "(J)V" } : Jvm.MethodName) prog_64_method_3_code (4 : Nat) (Option.none : Option Jvm.ClassFile.FieldType)) ∈ lw_all := lw_g (lw_at lw_m12 180 rfl) rfl
theorem q3047 : (Jvm.Cond.methodLink "RingHouse$Tape" (94 : Nat) ({ cls := "RingHouse$Tape", name := "putItems", desc := "(LRingHouse$Acl;)V" } : Jvm.MethodName)) ∈ lw_all := lw_g (lw_at lw_m12 181 rfl) rfl
theorem q3048 : (Jvm.Cond.privateMethod ({ cls := "RingHouse$Tape", name := "putItems", desc := "(LRingHouse$Acl;)V" } : Jvm.MethodName)) ∈ lw_tbl := lw_at lw_m12 182 rfl
theorem q3049 : (Jvm.Cond.instanceMethod ({ cls := "RingHouse$Tape", name := "putItems", desc := "(LRingHouse$Acl;)V" } : Jvm.MethodName)) ∈ lw_all := lw_g (lw_at lw_m12 183 rfl) rfl
theorem q3050 : (Jvm.Cond.code ({ cls := "RingHouse$Tape", name := "putItems", desc := "(LRingHouse$Acl;)V" } : Jvm.MethodName) prog_64_method_4_code (3 : Nat) (Option.none : Option Jvm.ClassFile.FieldType)) ∈ lw_all := lw_g (lw_at lw_m12 184 rfl) rfl
theorem q3051 : (Jvm.Cond.methodLink "RingHouse$Tape" (58 : Nat) ({ cls := "RingHouse$Acl", name := "person", desc := "(I)I" } : Jvm.MethodName)) ∈ lw_all := lw_g (lw_at lw_m12 185 rfl) rfl
theorem q3052 : (Jvm.Cond.methodLink "RingHouse$Tape" (62 : Nat) ({ cls := "RingHouse$Acl", name := "project", desc := "(I)I" } : Jvm.MethodName)) ∈ lw_all := lw_g (lw_at lw_m12 186 rfl) rfl
theorem q3053 : (Jvm.Cond.methodLink "RingHouse$Tape" (98 : Nat) ({ cls := "RingHouse$Node", name := "isMailbox", desc := "()Z" } : Jvm.MethodName)) ∈ lw_all := lw_g (lw_at lw_m12 187 rfl) rfl
theorem q3054 : (Jvm.Cond.methodLink "RingHouse$Tape" (115 : Nat) ({ cls := "RingHouse$Node", name := "isDirectory", desc := "()Z" } : Jvm.MethodName)) ∈ lw_all := lw_g (lw_at lw_m12 188 rfl) rfl
theorem q3055 : (Jvm.Cond.methodLink "RingHouse$Tape" (150 : Nat) ({ cls := "RingHouse$Tree", name := "get", desc := "(LRingHouse$Node;I)J" } : Jvm.MethodName)) ∈ lw_all := lw_g (lw_at lw_m12 189 rfl) rfl
theorem q3056 : (Jvm.Cond.methodLink "RingHouse$Tape" (157 : Nat) ({ cls := "RingHouse$Tape", name := "checkTo", desc := "(I)I" } : Jvm.MethodName)) ∈ lw_all := lw_g (lw_at lw_m12 190 rfl) rfl
theorem q3057 : (Jvm.Cond.privateMethod ({ cls := "RingHouse$Tape", name := "checkTo", desc := "(I)I" } : Jvm.MethodName)) ∈ lw_tbl := lw_at lw_m12 191 rfl
theorem q3058 : (Jvm.Cond.instanceMethod ({ cls := "RingHouse$Tape", name := "checkTo", desc := "(I)I" } : Jvm.MethodName)) ∈ lw_all := lw_g (lw_at lw_m12 192 rfl) rfl
theorem q3059 : (Jvm.Cond.code ({ cls := "RingHouse$Tape", name := "checkTo", desc := "(I)I" } : Jvm.MethodName) prog_64_method_6_code (4 : Nat) (Option.some Jvm.ClassFile.FieldType.int)) ∈ lw_all := lw_g (lw_at lw_m12 193 rfl) rfl
theorem q3060 : (Jvm.Cond.constant "RingHouse$Tape" (156 : Nat) (65535 : Int32)) ∈ lw_all := lw_g (lw_at lw_m12 194 rfl) rfl
theorem q3079 : (Jvm.Cond.instanceMethod ({ cls := "RingHouse$Tape", name := "reload", desc := "(LRingHouse$Node;J)I" } : Jvm.MethodName)) ∈ lw_all := lw_g (lw_at lw_m12 213 rfl) rfl
theorem q3080 : (Jvm.Cond.selects "RingHouse$Tape" ({ cls := "RingHouse$Tape", name := "reload", desc := "(LRingHouse$Node;J)I" } : Jvm.MethodName) ({ cls := "RingHouse$Tape", name := "reload", desc := "(LRingHouse$Node;J)I" } : Jvm.MethodName)) ∈ lw_all := lw_g (lw_at lw_m12 214 rfl) rfl
theorem q3081 : (Jvm.Cond.code ({ cls := "RingHouse$Tape", name := "reload", desc := "(LRingHouse$Node;J)I" } : Jvm.MethodName) prog_64_method_24_code (5 : Nat) (Option.some Jvm.ClassFile.FieldType.int)) ∈ lw_all := lw_g (lw_at lw_m12 215 rfl) rfl
theorem q3082 : (Jvm.Cond.methodLink "RingHouse$Tape" (278 : Nat) ({ cls := "RingHouse$Tape", name := "isSound", desc := "(LRingHouse$Node;)Z" } : Jvm.MethodName)) ∈ lw_all := lw_g (lw_at lw_m12 216 rfl) rfl
theorem q3083 : (Jvm.Cond.privateMethod ({ cls := "RingHouse$Tape", name := "isSound", desc := "(LRingHouse$Node;)Z" } : Jvm.MethodName)) ∈ lw_tbl := lw_at lw_m12 217 rfl
theorem q3084 : (Jvm.Cond.instanceMethod ({ cls := "RingHouse$Tape", name := "isSound", desc := "(LRingHouse$Node;)Z" } : Jvm.MethodName)) ∈ lw_all := lw_g (lw_at lw_m12 218 rfl) rfl
theorem q3085 : (Jvm.Cond.code ({ cls := "RingHouse$Tape", name := "isSound", desc := "(LRingHouse$Node;)Z" } : Jvm.MethodName) prog_64_method_20_code (5 : Nat) (Option.some Jvm.ClassFile.FieldType.boolean)) ∈ lw_all := lw_g (lw_at lw_m12 219 rfl) rfl
theorem q3086 : (Jvm.Cond.fieldLinkNest "RingHouse$Tape" (231 : Nat) "RingHouse" "HEAD" "[I" "RingHouse") ∈ lw_tbl := lw_at lw_m12 220 rfl
theorem q3088 : (Jvm.Cond.methodLink "RingHouse$Tape" (173 : Nat) ({ cls := "RingHouse$Tape", name := "take", desc := "()I" } : Jvm.MethodName)) ∈ lw_all := lw_g (lw_at lw_m12 222 rfl) rfl
theorem q3089 : (Jvm.Cond.privateMethod ({ cls := "RingHouse$Tape", name := "take", desc := "()I" } : Jvm.MethodName)) ∈ lw_tbl := lw_at lw_m12 223 rfl
theorem q3090 : (Jvm.Cond.instanceMethod ({ cls := "RingHouse$Tape", name := "take", desc := "()I" } : Jvm.MethodName)) ∈ lw_all := lw_g (lw_at lw_m12 224 rfl) rfl
theorem q3091 : (Jvm.Cond.code ({ cls := "RingHouse$Tape", name := "take", desc := "()I" } : Jvm.MethodName) prog_64_method_9_code (1 : Nat) (Option.some Jvm.ClassFile.FieldType.int)) ∈ lw_all := lw_g (lw_at lw_m12 225 rfl) rfl
theorem q3092 : (Jvm.Cond.methodLink "RingHouse$Tape" (169 : Nat) ({ cls := "RingHouse$Tape", name := "wrong", desc := "(II)Z" } : Jvm.MethodName)) ∈ lw_all := lw_g (lw_at lw_m12 226 rfl) rfl
theorem q3093 : (Jvm.Cond.privateMethod ({ cls := "RingHouse$Tape", name := "wrong", desc := "(II)Z" } : Jvm.MethodName)) ∈ lw_tbl := lw_at lw_m12 227 rfl
theorem q3094 : (Jvm.Cond.instanceMethod ({ cls := "RingHouse$Tape", name := "wrong", desc := "(II)Z" } : Jvm.MethodName)) ∈ lw_all := lw_g (lw_at lw_m12 228 rfl) rfl
theorem q3095 : (Jvm.Cond.code ({ cls := "RingHouse$Tape", name := "wrong", desc := "(II)Z" } : Jvm.MethodName) prog_64_method_8_code (3 : Nat) (Option.some Jvm.ClassFile.FieldType.boolean)) ∈ lw_all := lw_g (lw_at lw_m12 229 rfl) rfl
theorem q3096 : (Jvm.Cond.methodLink "RingHouse$Tape" (234 : Nat) ({ cls := "RingHouse$Tape", name := "lookNode", desc := "(I)V" } : Jvm.MethodName)) ∈ lw_all := lw_g (lw_at lw_m12 230 rfl) rfl
theorem q3097 : (Jvm.Cond.privateMethod ({ cls := "RingHouse$Tape", name := "lookNode", desc := "(I)V" } : Jvm.MethodName)) ∈ lw_tbl := lw_at lw_m12 231 rfl
theorem q3098 : (Jvm.Cond.instanceMethod ({ cls := "RingHouse$Tape", name := "lookNode", desc := "(I)V" } : Jvm.MethodName)) ∈ lw_all := lw_g (lw_at lw_m12 232 rfl) rfl
theorem q3099 : (Jvm.Cond.code ({ cls := "RingHouse$Tape", name := "lookNode", desc := "(I)V" } : Jvm.MethodName) prog_64_method_19_code (5 : Nat) (Option.none : Option Jvm.ClassFile.FieldType)) ∈ lw_all := lw_g (lw_at lw_m12 233 rfl) rfl
theorem q3100 : (Jvm.Cond.methodLink "RingHouse$Tape" (191 : Nat) ({ cls := "RingHouse$Tape", name := "take", desc := "(II)I" } : Jvm.MethodName)) ∈ lw_all := lw_g (lw_at lw_m12 234 rfl) rfl
theorem q3101 : (Jvm.Cond.privateMethod ({ cls := "RingHouse$Tape", name := "take", desc := "(II)I" } : Jvm.MethodName)) ∈ lw_tbl := lw_at lw_m12 235 rfl
theorem q3102 : (Jvm.Cond.instanceMethod ({ cls := "RingHouse$Tape", name := "take", desc := "(II)I" } : Jvm.MethodName)) ∈ lw_all := lw_g (lw_at lw_m12 236 rfl) rfl
theorem q3103 : (Jvm.Cond.code ({ cls := "RingHouse$Tape", name := "take", desc := "(II)I" } : Jvm.MethodName) prog_64_method_10_code (5 : Nat) (Option.some Jvm.ClassFile.FieldType.int)) ∈ lw_all := lw_g (lw_at lw_m12 237 rfl) rfl
theorem q3104 : (Jvm.Cond.methodLink "RingHouse$Tape" (216 : Nat) ({ cls := "RingHouse$Tape", name := "lookName", desc := "()V" } : Jvm.MethodName)) ∈ lw_all := lw_g (lw_at lw_m12 238 rfl) rfl
theorem q3105 : (Jvm.Cond.privateMethod ({ cls := "RingHouse$Tape", name := "lookName", desc := "()V" } : Jvm.MethodName)) ∈ lw_tbl := lw_at lw_m12 239 rfl
theorem q3106 : (Jvm.Cond.instanceMethod ({ cls := "RingHouse$Tape", name := "lookName", desc := "()V" } : Jvm.MethodName)) ∈ lw_all := lw_g (lw_at lw_m13 0 rfl) rfl
theorem q3107 : (Jvm.Cond.code ({ cls := "RingHouse$Tape", name := "lookName", desc := "()V" } : Jvm.MethodName) prog_64_method_12_code (5 : Nat) (Option.none : Option Jvm.ClassFile.FieldType)) ∈ lw_all := lw_g (lw_at lw_m13 1 rfl) rfl
theorem q3108 : (Jvm.Cond.methodLink "RingHouse$Tape" (177 : Nat) ({ cls := "RingHouse$Tape", name := "takeWord", desc := "()J" } : Jvm.MethodName)) ∈ lw_all := lw_g (lw_at lw_m13 2 rfl) rfl
theorem q3109 : (Jvm.Cond.privateMethod ({ cls := "RingHouse$Tape", name := "takeWord", desc := "()J" } : Jvm.MethodName)) ∈ lw_tbl := lw_at lw_m13 3 rfl
theorem q3110 : (Jvm.Cond.instanceMethod ({ cls := "RingHouse$Tape", name := "takeWord", desc := "()J" } : Jvm.MethodName)) ∈ lw_all := lw_g (lw_at lw_m13 4 rfl) rfl
theorem q3111 : (Jvm.Cond.code ({ cls := "RingHouse$Tape", name := "takeWord", desc := "()J" } : Jvm.MethodName) prog_64_method_11_code (4 : Nat) (Option.some Jvm.ClassFile.FieldType.long)) ∈ lw_all := lw_g (lw_at lw_m13 5 rfl) rfl
theorem q3112 : (Jvm.Cond.methodLinkNest "RingHouse$Tape" (181 : Nat) ({ cls := "RingHouse", name := "isName", desc := "(J)Z" } : Jvm.MethodName) "RingHouse") ∈ lw_tbl := lw_at lw_m13 6 rfl
theorem q3113 : (Jvm.Cond.methodLink "RingHouse$Tape" (197 : Nat) ({ cls := "RingHouse$Tape", name := "lookItems", desc := "(I)V" } : Jvm.MethodName)) ∈ lw_all := lw_g (lw_at lw_m13 7 rfl) rfl
theorem q3114 : (Jvm.Cond.privateMethod ({ cls := "RingHouse$Tape", name := "lookItems", desc := "(I)V" } : Jvm.MethodName)) ∈ lw_tbl := lw_at lw_m13 8 rfl
theorem q3115 : (Jvm.Cond.instanceMethod ({ cls := "RingHouse$Tape", name := "lookItems", desc := "(I)V" } : Jvm.MethodName)) ∈ lw_all := lw_g (lw_at lw_m13 9 rfl) rfl
theorem q3116 : (Jvm.Cond.code ({ cls := "RingHouse$Tape", name := "lookItems", desc := "(I)V" } : Jvm.MethodName) prog_64_method_13_code (6 : Nat) (Option.none : Option Jvm.ClassFile.FieldType)) ∈ lw_all := lw_g (lw_at lw_m13 10 rfl) rfl
theorem q3117 : (Jvm.Cond.methodLink "RingHouse$Tape" (219 : Nat) ({ cls := "RingHouse$Tape", name := "lookDirectory", desc := "(I)V" } : Jvm.MethodName)) ∈ lw_all := lw_g (lw_at lw_m13 11 rfl) rfl
theorem q3118 : (Jvm.Cond.privateMethod ({ cls := "RingHouse$Tape", name := "lookDirectory", desc := "(I)V" } : Jvm.MethodName)) ∈ lw_tbl := lw_at lw_m13 12 rfl
theorem q3119 : (Jvm.Cond.instanceMethod ({ cls := "RingHouse$Tape", name := "lookDirectory", desc := "(I)V" } : Jvm.MethodName)) ∈ lw_all := lw_g (lw_at lw_m13 13 rfl) rfl
theorem q3120 : (Jvm.Cond.code ({ cls := "RingHouse$Tape", name := "lookDirectory", desc := "(I)V" } : Jvm.MethodName) prog_64_method_15_code (6 : Nat) (Option.none : Option Jvm.ClassFile.FieldType)) ∈ lw_all := lw_g (lw_at lw_m13 14 rfl) rfl
theorem q3121 : (Jvm.Cond.methodLinkNest "RingHouse$Tape" (194 : Nat) ({ cls := "RingHouse", name := "dominates", desc := "(II)Z" } : Jvm.MethodName) "RingHouse") ∈ lw_tbl := lw_at lw_m13 15 rfl
theorem q3122 : (Jvm.Cond.methodLink "RingHouse$Tape" (222 : Nat) ({ cls := "RingHouse$Tape", name := "lookSegment", desc := "()V" } : Jvm.MethodName)) ∈ lw_all := lw_g (lw_at lw_m13 16 rfl) rfl
theorem q3123 : (Jvm.Cond.privateMethod ({ cls := "RingHouse$Tape", name := "lookSegment", desc := "()V" } : Jvm.MethodName)) ∈ lw_tbl := lw_at lw_m13 17 rfl
theorem q3124 : (Jvm.Cond.instanceMethod ({ cls := "RingHouse$Tape", name := "lookSegment", desc := "()V" } : Jvm.MethodName)) ∈ lw_all := lw_g (lw_at lw_m13 18 rfl) rfl
theorem q3125 : (Jvm.Cond.code ({ cls := "RingHouse$Tape", name := "lookSegment", desc := "()V" } : Jvm.MethodName) prog_64_method_16_code (6 : Nat) (Option.none : Option Jvm.ClassFile.FieldType)) ∈ lw_all := lw_g (lw_at lw_m13 19 rfl) rfl
theorem q3126 : (Jvm.Cond.methodLinkNest "RingHouse$Tape" (200 : Nat) ({ cls := "RingHouse", name := "isWord", desc := "(J)Z" } : Jvm.MethodName) "RingHouse") ∈ lw_tbl := lw_at lw_m13 20 rfl
theorem q3127 : (Jvm.Cond.methodLinkNest "RingHouse$Tape" (203 : Nat) ({ cls := "RingHouse", name := "records", desc := "(I)I" } : Jvm.MethodName) "RingHouse") ∈ lw_tbl := lw_at lw_m13 21 rfl
theorem q3128 : (Jvm.Cond.methodLink "RingHouse$Tape" (206 : Nat) ({ cls := "RingHouse$Tape", name := "charge", desc := "(I)V" } : Jvm.MethodName)) ∈ lw_all := lw_g (lw_at lw_m13 22 rfl) rfl
theorem q3129 : (Jvm.Cond.privateMethod ({ cls := "RingHouse$Tape", name := "charge", desc := "(I)V" } : Jvm.MethodName)) ∈ lw_tbl := lw_at lw_m13 23 rfl
theorem q3130 : (Jvm.Cond.instanceMethod ({ cls := "RingHouse$Tape", name := "charge", desc := "(I)V" } : Jvm.MethodName)) ∈ lw_all := lw_g (lw_at lw_m13 24 rfl) rfl
theorem q3131 : (Jvm.Cond.code ({ cls := "RingHouse$Tape", name := "charge", desc := "(I)V" } : Jvm.MethodName) prog_64_method_14_code (2 : Nat) (Option.none : Option Jvm.ClassFile.FieldType)) ∈ lw_all := lw_g (lw_at lw_m13 25 rfl) rfl
theorem q3132 : (Jvm.Cond.methodLink "RingHouse$Tape" (225 : Nat) ({ cls := "RingHouse$Tape", name := "lookMailbox", desc := "(I)V" } : Jvm.MethodName)) ∈ lw_all := lw_g (lw_at lw_m13 26 rfl) rfl
theorem q3133 : (Jvm.Cond.privateMethod ({ cls := "RingHouse$Tape", name := "lookMailbox", desc := "(I)V" } : Jvm.MethodName)) ∈ lw_tbl := lw_at lw_m13 27 rfl
theorem q3134 : (Jvm.Cond.instanceMethod ({ cls := "RingHouse$Tape", name := "lookMailbox", desc := "(I)V" } : Jvm.MethodName)) ∈ lw_all := lw_g (lw_at lw_m13 28 rfl) rfl
theorem q3135 : (Jvm.Cond.code ({ cls := "RingHouse$Tape", name := "lookMailbox", desc := "(I)V" } : Jvm.MethodName) prog_64_method_17_code (8 : Nat) (Option.none : Option Jvm.ClassFile.FieldType)) ∈ lw_all := lw_g (lw_at lw_m13 29 rfl) rfl
theorem q3136 : (Jvm.Cond.methodLink "RingHouse$Tape" (228 : Nat) ({ cls := "RingHouse$Tape", name := "shut", desc := "()V" } : Jvm.MethodName)) ∈ lw_all := lw_g (lw_at lw_m13 30 rfl) rfl
theorem q3137 : (Jvm.Cond.privateMethod ({ cls := "RingHouse$Tape", name := "shut", desc := "()V" } : Jvm.MethodName)) ∈ lw_tbl := lw_at lw_m13 31 rfl
theorem q3138 : (Jvm.Cond.instanceMethod ({ cls := "RingHouse$Tape", name := "shut", desc := "()V" } : Jvm.MethodName)) ∈ lw_all := lw_g (lw_at lw_m13 32 rfl) rfl
theorem q3139 : (Jvm.Cond.code ({ cls := "RingHouse$Tape", name := "shut", desc := "()V" } : Jvm.MethodName) prog_64_method_18_code (2 : Nat) (Option.none : Option Jvm.ClassFile.FieldType)) ∈ lw_all := lw_g (lw_at lw_m13 33 rfl) rfl
theorem q3140 : (Jvm.Cond.methodLink "RingHouse$Tape" (237 : Nat) ({ cls := "RingHouse$Tree", name := "bears", desc := "(LRingHouse$Node;I)Z" } : Jvm.MethodName)) ∈ lw_all := lw_g (lw_at lw_m13 34 rfl) rfl
theorem q3141 : (Jvm.Cond.methodLink "RingHouse$Tape" (255 : Nat) ({ cls := "RingHouse$Tape", name := "makeNode", desc := "(LRingHouse$Node;J)LRingHouse$Node;" } : Jvm.MethodName)) ∈ lw_all := lw_g (lw_at lw_m13 35 rfl) rfl
theorem q3142 : (Jvm.Cond.privateMethod ({ cls := "RingHouse$Tape", name := "makeNode", desc := "(LRingHouse$Node;J)LRingHouse$Node;" } : Jvm.MethodName)) ∈ lw_tbl := lw_at lw_m13 36 rfl
theorem q3143 : (Jvm.Cond.instanceMethod ({ cls := "RingHouse$Tape", name := "makeNode", desc := "(LRingHouse$Node;J)LRingHouse$Node;" } : Jvm.MethodName)) ∈ lw_all := lw_g (lw_at lw_m13 37 rfl) rfl
theorem q3144 : (Jvm.Cond.code ({ cls := "RingHouse$Tape", name := "makeNode", desc := "(LRingHouse$Node;J)LRingHouse$Node;" } : Jvm.MethodName) prog_64_method_23_code (18 : Nat) (Option.some (Jvm.ClassFile.FieldType.object "RingHouse$Node"))) ∈ lw_all := lw_g (lw_at lw_m13 38 rfl) rfl
theorem q3145 : (Jvm.Cond.methodLink "RingHouse$Tape" (248 : Nat) ({ cls := "RingHouse$Tape", name := "skipItems", desc := "()V" } : Jvm.MethodName)) ∈ lw_all := lw_g (lw_at lw_m13 39 rfl) rfl
theorem q3146 : (Jvm.Cond.privateMethod ({ cls := "RingHouse$Tape", name := "skipItems", desc := "()V" } : Jvm.MethodName)) ∈ lw_tbl := lw_at lw_m13 40 rfl
theorem q3147 : (Jvm.Cond.instanceMethod ({ cls := "RingHouse$Tape", name := "skipItems", desc := "()V" } : Jvm.MethodName)) ∈ lw_all := lw_g (lw_at lw_m13 41 rfl) rfl
theorem q3148 : (Jvm.Cond.code ({ cls := "RingHouse$Tape", name := "skipItems", desc := "()V" } : Jvm.MethodName) prog_64_method_21_code (2 : Nat) (Option.none : Option Jvm.ClassFile.FieldType)) ∈ lw_all := lw_g (lw_at lw_m13 42 rfl) rfl
theorem q3149 : (Jvm.Cond.methodLink "RingHouse$Tape" (251 : Nat) ({ cls := "RingHouse$Tree", name := "make", desc := "(LRingHouse$Node;IJII)LRingHouse$Node;" } : Jvm.MethodName)) ∈ lw_all := lw_g (lw_at lw_m13 43 rfl) rfl
theorem q3150 : (Jvm.Cond.methodLink "RingHouse$Tape" (259 : Nat) ({ cls := "RingHouse$Tape", name := "setItems", desc := "(LRingHouse$Acl;I)V" } : Jvm.MethodName)) ∈ lw_all := lw_g (lw_at lw_m13 44 rfl) rfl
theorem q3151 : (Jvm.Cond.privateMethod ({ cls := "RingHouse$Tape", name := "setItems", desc := "(LRingHouse$Acl;I)V" } : Jvm.MethodName)) ∈ lw_tbl := lw_at lw_m13 45 rfl
theorem q3152 : (Jvm.Cond.instanceMethod ({ cls := "RingHouse$Tape", name := "setItems", desc := "(LRingHouse$Acl;I)V" } : Jvm.MethodName)) ∈ lw_all := lw_g (lw_at lw_m13 46 rfl) rfl
theorem q3153 : (Jvm.Cond.code ({ cls := "RingHouse$Tape", name := "setItems", desc := "(LRingHouse$Acl;I)V" } : Jvm.MethodName) prog_64_method_22_code (4 : Nat) (Option.none : Option Jvm.ClassFile.FieldType)) ∈ lw_all := lw_g (lw_at lw_m13 47 rfl) rfl
theorem q3154 : (Jvm.Cond.methodLink "RingHouse$Tape" (241 : Nat) ({ cls := "RingHouse$Acl", name := "clear", desc := "()V" } : Jvm.MethodName)) ∈ lw_all := lw_g (lw_at lw_m13 48 rfl) rfl
theorem q3155 : (Jvm.Cond.methodLink "RingHouse$Tape" (244 : Nat) ({ cls := "RingHouse$Acl", name := "set", desc := "(III)I" } : Jvm.MethodName)) ∈ lw_all := lw_g (lw_at lw_m13 49 rfl) rfl
theorem q3156 : (Jvm.Cond.methodLink "RingHouse$Tape" (263 : Nat) ({ cls := "RingHouse$Box", name := "post", desc := "(JI)Z" } : Jvm.MethodName)) ∈ lw_all := lw_g (lw_at lw_m13 50 rfl) rfl
theorem q3157 : (Jvm.Cond.methodLink "RingHouse$Tape" (267 : Nat) ({ cls := "RingHouse$Tree", name := "resize", desc := "(LRingHouse$Node;I)V" } : Jvm.MethodName)) ∈ lw_all := lw_g (lw_at lw_m13 51 rfl) rfl
theorem q3158 : (Jvm.Cond.methodLink "RingHouse$Tape" (271 : Nat) ({ cls := "RingHouse$Tree", name := "put", desc := "(LRingHouse$Node;IJ)V" } : Jvm.MethodName)) ∈ lw_all := lw_g (lw_at lw_m13 52 rfl) rfl
theorem q3159 : (Jvm.Cond.methodLink "RingHouse$Tape" (274 : Nat) ({ cls := "RingHouse$Node", name := "setBrackets", desc := "(III)V" } : Jvm.MethodName)) ∈ lw_all := lw_g (lw_at lw_m13 53 rfl) rfl
theorem in_X65 : ∀ w ∈ wsX650, w ∈ lw_all := lw_in wsX650 [1734, 1736, 1738, 1740, 1742, 1744, 1746, 1748, 1750, 1752, 1754, 1756, 1758, 1760, 1762, 1764, 1766, 1768] (by decide +kernel) (by decide +kernel)
/-! RingHouse$Lister -/
def RX66 : String := "RingHouse$Lister"
def TX66 : u_T := fun k => match k with
  | 0 => ("RingHouse$Lister", "operations", "[LRingHouse$Operation;", true)
  | 1 => ("RingHouse$Lister", "line", "[C", true)
  | _ => ("RingHouse$Lister", "size", "I", false)
def tyX66 : Nat → FieldType := fun k => match k with
  | 0 => .array (.object "RingHouse$Operation")
  | 1 => .array .char
  | _ => .int
abbrev wsX660 : List Cond := u_ws RX66 TX66 3
theorem nmX66 : ∀ a, a < 3 → ∀ b, b < 3 → a ≠ b → (TX66 a).2.1 ≠ (TX66 b).2.1 := by decide +kernel
theorem tyX66_ok : ∀ k, k < 3 → parseFieldDescriptor (TX66 k).2.2.1 = some (tyX66 k) := by decide +kernel
abbrev cX66_init : ByteArray := prog_24_method_1_code
def yX66_init : MethodName := ⟨RX66, "<init>", "([LRingHouse$Operation;)V"⟩
abbrev cX66_list : ByteArray := prog_24_method_6_code
def yX66_list : MethodName := ⟨RX66, "list", "(JLRingHouse$Decoded;)I"⟩
abbrev cX66_isPlain : ByteArray := prog_24_method_5_code
def yX66_isPlain : MethodName := ⟨RX66, "isPlain", "(LRingHouse$Decoded;LRingHouse$Operation;J)Z"⟩
abbrev cX66_put : ByteArray := prog_24_method_3_code
def yX66_put : MethodName := ⟨RX66, "put", "(Ljava/lang/String;)V"⟩
abbrev cX66_put_2 : ByteArray := prog_24_method_2_code
def yX66_put_2 : MethodName := ⟨RX66, "put", "(C)V"⟩
abbrev cX66_put_3 : ByteArray := prog_24_method_4_code
def yX66_put_3 : MethodName := ⟨RX66, "put", "(J)V"⟩
theorem q293 : (Jvm.Cond.initialized "RingHouse$Lister") ∈ lw_all := lw_g (lw_at lw_m1 67 rfl) rfl
theorem q642 : (Jvm.Cond.fieldLinkNest "RingHouse$Lister" (50 : Nat) "RingHouse$Decoded" "mode" "I" "RingHouse") ∈ lw_tbl := lw_at lw_m2 176 rfl
theorem q645 : (Jvm.Cond.fieldLinkNest "RingHouse$Lister" (64 : Nat) "RingHouse$Decoded" "p" "I" "RingHouse") ∈ lw_tbl := lw_at lw_m2 179 rfl
theorem q653 : (Jvm.Cond.fieldLinkNest "RingHouse$Lister" (58 : Nat) "RingHouse$Decoded" "n" "I" "RingHouse") ∈ lw_tbl := lw_at lw_m2 187 rfl
theorem q655 : (Jvm.Cond.fieldLinkNest "RingHouse$Lister" (61 : Nat) "RingHouse$Decoded" "index" "I" "RingHouse") ∈ lw_tbl := lw_at lw_m2 189 rfl
theorem q658 : (Jvm.Cond.fieldLinkNest "RingHouse$Lister" (87 : Nat) "RingHouse$Decoded" "offset" "I" "RingHouse") ∈ lw_tbl := lw_at lw_m2 192 rfl
theorem q1035 : (Jvm.Cond.fieldLinkNest "RingHouse$Lister" (83 : Nat) "RingHouse$Operation" "name" "Ljava/lang/String;" "RingHouse") ∈ lw_tbl := lw_at lw_m4 89 rfl
theorem q1039 : (Jvm.Cond.fieldLinkNest "RingHouse$Lister" (43 : Nat) "RingHouse$Operation" "sort" "I" "RingHouse") ∈ lw_tbl := lw_at lw_m4 93 rfl
theorem q1044 : (Jvm.Cond.fieldLinkNest "RingHouse$Lister" (55 : Nat) "RingHouse$Operation" "registers" "I" "RingHouse") ∈ lw_tbl := lw_at lw_m4 98 rfl
theorem q1772 : (Jvm.Cond.instantiable "RingHouse$Lister" (3 : Nat)) ∈ lw_all := lw_g (lw_at lw_m7 106 rfl) rfl
theorem q1774 : (Jvm.Cond.instanceMethod ({ cls := "RingHouse$Lister", name := "<init>", desc := "([LRingHouse$Operation;)V" } : Jvm.MethodName)) ∈ lw_all := lw_g (lw_at lw_m7 108 rfl) rfl
theorem q1775 : (Jvm.Cond.code ({ cls := "RingHouse$Lister", name := "<init>", desc := "([LRingHouse$Operation;)V" } : Jvm.MethodName) prog_24_method_1_code (2 : Nat) (Option.none : Option Jvm.ClassFile.FieldType)) ∈ lw_all := lw_g (lw_at lw_m7 109 rfl) rfl
theorem q1776 : (Jvm.Cond.methodLink "RingHouse$Lister" (3 : Nat) ({ cls := "java/lang/Object", name := "<init>", desc := "()V" } : Jvm.MethodName)) ∈ lw_all := lw_g (lw_at lw_m7 110 rfl) rfl
theorem q1777 : (Jvm.Cond.fieldLink "RingHouse$Lister" (15 : Nat) "RingHouse$Lister" "operations" "[LRingHouse$Operation;") ∈ lw_all := lw_g (lw_at lw_m7 111 rfl) rfl
theorem q1778 : (Jvm.Cond.fieldLink "RingHouse$Lister" (9 : Nat) "RingHouse$Lister" "line" "[C") ∈ lw_all := lw_g (lw_at lw_m7 112 rfl) rfl
theorem q1780 : (Jvm.Cond.fieldLink "RingHouse$Lister" (19 : Nat) "RingHouse$Lister" "size" "I") ∈ lw_all := lw_g (lw_at lw_m7 114 rfl) rfl
theorem q1782 : (Jvm.Cond.laysFinal "RingHouse$Lister" "RingHouse$Lister" "operations" "[LRingHouse$Operation;") ∈ lw_all := lw_g (lw_at lw_m7 116 rfl) rfl
theorem q1783 : (Jvm.Cond.soleField "RingHouse$Lister" "operations") ∈ lw_all := lw_g (lw_at lw_m7 117 rfl) rfl
theorem q1784 : (Jvm.Cond.laysFinal "RingHouse$Lister" "RingHouse$Lister" "line" "[C") ∈ lw_all := lw_g (lw_at lw_m7 118 rfl) rfl
theorem q1785 : (Jvm.Cond.soleField "RingHouse$Lister" "line") ∈ lw_all := lw_g (lw_at lw_m7 119 rfl) rfl
theorem q1786 : (Jvm.Cond.lays "RingHouse$Lister" "RingHouse$Lister" "size" "I") ∈ lw_all := lw_g (lw_at lw_m7 120 rfl) rfl
theorem q1787 : (Jvm.Cond.soleField "RingHouse$Lister" "size") ∈ lw_all := lw_g (lw_at lw_m7 121 rfl) rfl
theorem q1788 : (Jvm.Cond.superclass "RingHouse$Lister" "java/lang/Object") ∈ lw_all := lw_g (lw_at lw_m7 122 rfl) rfl
theorem q2996 : (Jvm.Cond.instanceMethod ({ cls := "RingHouse$Lister", name := "list", desc := "(JLRingHouse$Decoded;)I" } : Jvm.MethodName)) ∈ lw_all := lw_g (lw_at lw_m12 130 rfl) rfl
theorem q2997 : (Jvm.Cond.selects "RingHouse$Lister" ({ cls := "RingHouse$Lister", name := "list", desc := "(JLRingHouse$Decoded;)I" } : Jvm.MethodName) ({ cls := "RingHouse$Lister", name := "list", desc := "(JLRingHouse$Decoded;)I" } : Jvm.MethodName)) ∈ lw_all := lw_g (lw_at lw_m12 131 rfl) rfl
theorem q2998 : (Jvm.Cond.code ({ cls := "RingHouse$Lister", name := "list", desc := "(JLRingHouse$Decoded;)I" } : Jvm.MethodName) prog_24_method_6_code (6 : Nat) (Option.some Jvm.ClassFile.FieldType.int)) ∈ lw_all := lw_g (lw_at lw_m12 132 rfl) rfl
theorem q2999 : (Jvm.Cond.methodLink "RingHouse$Lister" (67 : Nat) ({ cls := "RingHouse$Decoded", name := "take", desc := "(J[LRingHouse$Operation;)V" } : Jvm.MethodName)) ∈ lw_all := lw_g (lw_at lw_m12 133 rfl) rfl
theorem q3000 : (Jvm.Cond.methodLink "RingHouse$Lister" (71 : Nat) ({ cls := "RingHouse$Lister", name := "isPlain", desc := "(LRingHouse$Decoded;LRingHouse$Operation;J)Z" } : Jvm.MethodName)) ∈ lw_all := lw_g (lw_at lw_m12 134 rfl) rfl
theorem q3001 : (Jvm.Cond.static ({ cls := "RingHouse$Lister", name := "isPlain", desc := "(LRingHouse$Decoded;LRingHouse$Operation;J)Z" } : Jvm.MethodName)) ∈ lw_all := lw_g (lw_at lw_m12 135 rfl) rfl
theorem q3002 : (Jvm.Cond.code ({ cls := "RingHouse$Lister", name := "isPlain", desc := "(LRingHouse$Decoded;LRingHouse$Operation;J)Z" } : Jvm.MethodName) prog_24_method_5_code (6 : Nat) (Option.some Jvm.ClassFile.FieldType.boolean)) ∈ lw_all := lw_g (lw_at lw_m12 136 rfl) rfl
theorem q3003 : (Jvm.Cond.constantLong "RingHouse$Lister" (48 : Nat) (1073741823 : Int64)) ∈ lw_all := lw_g (lw_at lw_m12 137 rfl) rfl
theorem q3004 : (Jvm.Cond.stringRef "RingHouse$Lister" (75 : Nat) ".word ") ∈ lw_tbl := lw_at lw_m12 138 rfl
theorem q3005 : (Jvm.Cond.methodLink "RingHouse$Lister" (77 : Nat) ({ cls := "RingHouse$Lister", name := "put", desc := "(Ljava/lang/String;)V" } : Jvm.MethodName)) ∈ lw_all := lw_g (lw_at lw_m12 139 rfl) rfl
theorem q3006 : (Jvm.Cond.privateMethod ({ cls := "RingHouse$Lister", name := "put", desc := "(Ljava/lang/String;)V" } : Jvm.MethodName)) ∈ lw_tbl := lw_at lw_m12 140 rfl
theorem q3007 : (Jvm.Cond.instanceMethod ({ cls := "RingHouse$Lister", name := "put", desc := "(Ljava/lang/String;)V" } : Jvm.MethodName)) ∈ lw_all := lw_g (lw_at lw_m12 141 rfl) rfl
theorem q3008 : (Jvm.Cond.code ({ cls := "RingHouse$Lister", name := "put", desc := "(Ljava/lang/String;)V" } : Jvm.MethodName) prog_24_method_3_code (3 : Nat) (Option.none : Option Jvm.ClassFile.FieldType)) ∈ lw_all := lw_g (lw_at lw_m12 142 rfl) rfl
theorem q3009 : (Jvm.Cond.methodLink "RingHouse$Lister" (23 : Nat) ({ cls := "java/lang/String", name := "length", desc := "()I" } : Jvm.MethodName)) ∈ lw_all := lw_g (lw_at lw_m12 143 rfl) rfl
theorem q3010 : (Jvm.Cond.methodLink "RingHouse$Lister" (29 : Nat) ({ cls := "java/lang/String", name := "charAt", desc := "(I)C" } : Jvm.MethodName)) ∈ lw_all := lw_g (lw_at lw_m12 144 rfl) rfl
theorem q3011 : (Jvm.Cond.methodLink "RingHouse$Lister" (33 : Nat) ({ cls := "RingHouse$Lister", name := "put", desc := "(C)V" } : Jvm.MethodName)) ∈ lw_all := lw_g (lw_at lw_m12 145 rfl) rfl
theorem q3012 : (Jvm.Cond.privateMethod ({ cls := "RingHouse$Lister", name := "put", desc := "(C)V" } : Jvm.MethodName)) ∈ lw_tbl := lw_at lw_m12 146 rfl
theorem q3013 : (Jvm.Cond.instanceMethod ({ cls := "RingHouse$Lister", name := "put", desc := "(C)V" } : Jvm.MethodName)) ∈ lw_all := lw_g (lw_at lw_m12 147 rfl) rfl
theorem q3014 : (Jvm.Cond.code ({ cls := "RingHouse$Lister", name := "put", desc := "(C)V" } : Jvm.MethodName) prog_24_method_2_code (2 : Nat) (Option.none : Option Jvm.ClassFile.FieldType)) ∈ lw_all := lw_g (lw_at lw_m12 148 rfl) rfl
theorem q3015 : (Jvm.Cond.methodLink "RingHouse$Lister" (80 : Nat) ({ cls := "RingHouse$Lister", name := "put", desc := "(J)V" } : Jvm.MethodName)) ∈ lw_all := lw_g (lw_at lw_m12 149 rfl) rfl
theorem q3016 : (Jvm.Cond.privateMethod ({ cls := "RingHouse$Lister", name := "put", desc := "(J)V" } : Jvm.MethodName)) ∈ lw_tbl := lw_at lw_m12 150 rfl
theorem q3017 : (Jvm.Cond.instanceMethod ({ cls := "RingHouse$Lister", name := "put", desc := "(J)V" } : Jvm.MethodName)) ∈ lw_all := lw_g (lw_at lw_m12 151 rfl) rfl
theorem q3018 : (Jvm.Cond.code ({ cls := "RingHouse$Lister", name := "put", desc := "(J)V" } : Jvm.MethodName) prog_24_method_4_code (5 : Nat) (Option.none : Option Jvm.ClassFile.FieldType)) ∈ lw_all := lw_g (lw_at lw_m12 152 rfl) rfl
theorem q3019 : (Jvm.Cond.constantLong "RingHouse$Lister" (37 : Nat) (9 : Int64)) ∈ lw_all := lw_g (lw_at lw_m12 153 rfl) rfl
theorem q3020 : (Jvm.Cond.constantLong "RingHouse$Lister" (39 : Nat) (10 : Int64)) ∈ lw_all := lw_g (lw_at lw_m12 154 rfl) rfl
theorem q3021 : (Jvm.Cond.constantLong "RingHouse$Lister" (41 : Nat) (48 : Int64)) ∈ lw_all := lw_g (lw_at lw_m12 155 rfl) rfl
theorem q3022 : (Jvm.Cond.stringRef "RingHouse$Lister" (90 : Nat) ",x") ∈ lw_tbl := lw_at lw_m12 156 rfl
theorem in_X66 : ∀ w ∈ wsX660, w ∈ lw_all := lw_in wsX660 [1782, 1784, 1786] (by decide +kernel) (by decide +kernel)
/-! RingHouseModel -/
def RX67 : String := "RingHouseModel"
def TX67 : u_T := fun k => match k with
  | 0 => ("RingHouseModel", "kind", "[I", true)
  | 1 => ("RingHouseModel", "name", "[J", true)
  | 2 => ("RingHouseModel", "parent", "[I", true)
  | 3 => ("RingHouseModel", "label", "[I", true)
  | 4 => ("RingHouseModel", "bracket", "[I", true)
  | 5 => ("RingHouseModel", "gates", "[I", true)
  | 6 => ("RingHouseModel", "length", "[I", true)
  | 7 => ("RingHouseModel", "limit", "[I", true)
  | 8 => ("RingHouseModel", "used", "[I", true)
  | 9 => ("RingHouseModel", "refusals", "[I", true)
  | 10 => ("RingHouseModel", "came", "[J", true)
  | 11 => ("RingHouseModel", "comings", "J", false)
  | 12 => ("RingHouseModel", "items", "[I", true)
  | 13 => ("RingHouseModel", "item", "[I", true)
  | 14 => ("RingHouseModel", "firsts", "[I", true)
  | 15 => ("RingHouseModel", "first", "[I", true)
  | 16 => ("RingHouseModel", "words", "[J", true)
  | 17 => ("RingHouseModel", "letters", "[I", true)
  | 18 => ("RingHouseModel", "letter", "[J", true)
  | 19 => ("RingHouseModel", "letterLabel", "[I", true)
  | 20 => ("RingHouseModel", "isProcess", "[Z", true)
  | 21 => ("RingHouseModel", "state", "[I", true)
  | 22 => ("RingHouseModel", "person", "[I", true)
  | 23 => ("RingHouseModel", "project", "[I", true)
  | 24 => ("RingHouseModel", "clearance", "[I", true)
  | 25 => ("RingHouseModel", "a", "[J", true)
  | 26 => ("RingHouseModel", "q", "[J", true)
  | 27 => ("RingHouseModel", "x", "[I", true)
  | 28 => ("RingHouseModel", "pNumber", "[I", true)
  | 29 => ("RingHouseModel", "pPlace", "[I", true)
  | 30 => ("RingHouseModel", "pRing", "[I", true)
  | 31 => ("RingHouseModel", "number", "[I", true)
  | 32 => ("RingHouseModel", "place", "[I", true)
  | 33 => ("RingHouseModel", "ring", "[I", true)
  | 34 => ("RingHouseModel", "zero", "[Z", true)
  | 35 => ("RingHouseModel", "minus", "[Z", true)
  | 36 => ("RingHouseModel", "ticks", "[I", true)
  | 37 => ("RingHouseModel", "stacks", "[J", true)
  | 38 => ("RingHouseModel", "known", "[I", true)
  | 39 => ("RingHouseModel", "link", "[J", true)
  | 40 => ("RingHouseModel", "working", "[I", true)
  | 41 => ("RingHouseModel", "search", "[I", true)
  | 42 => ("RingHouseModel", "hasHandler", "[Z", true)
  | 43 => ("RingHouseModel", "handlerNumber", "[I", true)
  | 44 => ("RingHouseModel", "handlerPlace", "[I", true)
  | 45 => ("RingHouseModel", "handlerRing", "[I", true)
  | 46 => ("RingHouseModel", "messages", "[I", true)
  | 47 => ("RingHouseModel", "message", "[J", true)
  | 48 => ("RingHouseModel", "frames", "[I", true)
  | 49 => ("RingHouseModel", "frameA", "[J", true)
  | 50 => ("RingHouseModel", "frameQ", "[J", true)
  | 51 => ("RingHouseModel", "frameX", "[I", true)
  | 52 => ("RingHouseModel", "framePNumber", "[I", true)
  | 53 => ("RingHouseModel", "framePPlace", "[I", true)
  | 54 => ("RingHouseModel", "framePRing", "[I", true)
  | 55 => ("RingHouseModel", "frameNumber", "[I", true)
  | 56 => ("RingHouseModel", "framePlace", "[I", true)
  | 57 => ("RingHouseModel", "frameRing", "[I", true)
  | 58 => ("RingHouseModel", "frameZero", "[Z", true)
  | 59 => ("RingHouseModel", "frameMinus", "[Z", true)
  | 60 => ("RingHouseModel", "events", "[I", true)
  | 61 => ("RingHouseModel", "event", "[J", true)
  | 62 => ("RingHouseModel", "sum", "[J", true)
  | 63 => ("RingHouseModel", "schedule", "[I", true)
  | 64 => ("RingHouseModel", "turn", "I", false)
  | 65 => ("RingHouseModel", "audits", "I", false)
  | 66 => ("RingHouseModel", "audit", "[I", true)
  | 67 => ("RingHouseModel", "textSize", "I", false)
  | 68 => ("RingHouseModel", "text", "[I", true)
  | 69 => ("RingHouseModel", "faultPlace", "I", false)
  | 70 => ("RingHouseModel", "listedSize", "I", false)
  | 71 => ("RingHouseModel", "listed", "[I", true)
  | 72 => ("RingHouseModel", "tapeSize", "I", false)
  | 73 => ("RingHouseModel", "tape", "[I", true)
  | 74 => ("RingHouseModel", "fault", "I", false)
  | 75 => ("RingHouseModel", "atNumber", "I", false)
  | 76 => ("RingHouseModel", "atPlace", "I", false)
  | 77 => ("RingHouseModel", "atRing", "I", false)
  | 78 => ("RingHouseModel", "tNumber", "I", false)
  | 79 => ("RingHouseModel", "tPlace", "I", false)
  | 80 => ("RingHouseModel", "tRing", "I", false)
  | 81 => ("RingHouseModel", "which", "I", false)
  | 82 => ("RingHouseModel", "mode", "I", false)
  | 83 => ("RingHouseModel", "pointer", "I", false)
  | 84 => ("RingHouseModel", "index", "I", false)
  | 85 => ("RingHouseModel", "offset", "I", false)
  | 86 => ("RingHouseModel", "asked", "I", false)
  | 87 => ("RingHouseModel", "token", "I", false)
  | 88 => ("RingHouseModel", "from", "I", false)
  | 89 => ("RingHouseModel", "to", "I", false)
  | 90 => ("RingHouseModel", "end", "I", false)
  | 91 => ("RingHouseModel", "textFault", "I", false)
  | 92 => ("RingHouseModel", "textPlace", "I", false)
  | 93 => ("RingHouseModel", "labels", "I", false)
  | 94 => ("RingHouseModel", "labelName", "[J", true)
  | 95 => ("RingHouseModel", "labelPlace", "[I", true)
  | 96 => ("RingHouseModel", "links", "I", false)
  | 97 => ("RingHouseModel", "linkSegment", "[J", true)
  | 98 => ("RingHouseModel", "linkName", "[J", true)
  | 99 => ("RingHouseModel", "definitions", "I", false)
  | 100 => ("RingHouseModel", "definitionName", "[J", true)
  | 101 => ("RingHouseModel", "definitionPlace0", "[I", true)
  | 102 => ("RingHouseModel", "assembled", "I", false)
  | 103 => ("RingHouseModel", "again", "Z", false)
  | 104 => ("RingHouseModel", "result", "J", false)
  | 105 => ("RingHouseModel", "lateFault", "I", false)
  | 106 => ("RingHouseModel", "latePlace", "I", false)
  | 107 => ("RingHouseModel", "program", "[J", true)
  | 108 => ("RingHouseModel", "operations", "[J", true)
  | 109 => ("RingHouseModel", "points", "[J", true)
  | 110 => ("RingHouseModel", "told", "I", false)
  | 111 => ("RingHouseModel", "toldN", "I", false)
  | 112 => ("RingHouseModel", "at", "I", false)
  | 113 => ("RingHouseModel", "tapeFault", "I", false)
  | 114 => ("RingHouseModel", "tapePlace", "I", false)
  | 115 => ("RingHouseModel", "check", "I", false)
  | 116 => ("RingHouseModel", "reads", "I", false)
  | 117 => ("RingHouseModel", "readUp", "[I", true)
  | 118 => ("RingHouseModel", "readKind", "[I", true)
  | 119 => ("RingHouseModel", "readName", "[J", true)
  | 120 => ("RingHouseModel", "readLabel", "[I", true)
  | 121 => ("RingHouseModel", "readLimit", "[I", true)
  | 122 => ("RingHouseModel", "readUsed", "[J", true)
  | 123 => ("RingHouseModel", "readLeft", "[I", true)
  | 124 => ("RingHouseModel", "readNode", "[I", true)
  | 125 => ("RingHouseModel", "makes", "Z", false)
  | 126 => ("RingHouseModel", "into", "I", false)
  | 127 => ("RingHouseModel", "intoUsed", "J", false)
  | 128 => ("RingHouseModel", "byLabel", "[I", true)
  | _ => ("RingHouseModel", "seen", "[I", true)
def tyX67 : Nat → FieldType := fun k => match k with
  | 0 => .array .int
  | 1 => .array .long
  | 2 => .array .int
  | 3 => .array .int
  | 4 => .array .int
  | 5 => .array .int
  | 6 => .array .int
  | 7 => .array .int
  | 8 => .array .int
  | 9 => .array .int
  | 10 => .array .long
  | 11 => .long
  | 12 => .array .int
  | 13 => .array .int
  | 14 => .array .int
  | 15 => .array .int
  | 16 => .array .long
  | 17 => .array .int
  | 18 => .array .long
  | 19 => .array .int
  | 20 => .array .boolean
  | 21 => .array .int
  | 22 => .array .int
  | 23 => .array .int
  | 24 => .array .int
  | 25 => .array .long
  | 26 => .array .long
  | 27 => .array .int
  | 28 => .array .int
  | 29 => .array .int
  | 30 => .array .int
  | 31 => .array .int
  | 32 => .array .int
  | 33 => .array .int
  | 34 => .array .boolean
  | 35 => .array .boolean
  | 36 => .array .int
  | 37 => .array .long
  | 38 => .array .int
  | 39 => .array .long
  | 40 => .array .int
  | 41 => .array .int
  | 42 => .array .boolean
  | 43 => .array .int
  | 44 => .array .int
  | 45 => .array .int
  | 46 => .array .int
  | 47 => .array .long
  | 48 => .array .int
  | 49 => .array .long
  | 50 => .array .long
  | 51 => .array .int
  | 52 => .array .int
  | 53 => .array .int
  | 54 => .array .int
  | 55 => .array .int
  | 56 => .array .int
  | 57 => .array .int
  | 58 => .array .boolean
  | 59 => .array .boolean
  | 60 => .array .int
  | 61 => .array .long
  | 62 => .array .long
  | 63 => .array .int
  | 64 => .int
  | 65 => .int
  | 66 => .array .int
  | 67 => .int
  | 68 => .array .int
  | 69 => .int
  | 70 => .int
  | 71 => .array .int
  | 72 => .int
  | 73 => .array .int
  | 74 => .int
  | 75 => .int
  | 76 => .int
  | 77 => .int
  | 78 => .int
  | 79 => .int
  | 80 => .int
  | 81 => .int
  | 82 => .int
  | 83 => .int
  | 84 => .int
  | 85 => .int
  | 86 => .int
  | 87 => .int
  | 88 => .int
  | 89 => .int
  | 90 => .int
  | 91 => .int
  | 92 => .int
  | 93 => .int
  | 94 => .array .long
  | 95 => .array .int
  | 96 => .int
  | 97 => .array .long
  | 98 => .array .long
  | 99 => .int
  | 100 => .array .long
  | 101 => .array .int
  | 102 => .int
  | 103 => .boolean
  | 104 => .long
  | 105 => .int
  | 106 => .int
  | 107 => .array .long
  | 108 => .array .long
  | 109 => .array .long
  | 110 => .int
  | 111 => .int
  | 112 => .int
  | 113 => .int
  | 114 => .int
  | 115 => .int
  | 116 => .int
  | 117 => .array .int
  | 118 => .array .int
  | 119 => .array .long
  | 120 => .array .int
  | 121 => .array .int
  | 122 => .array .long
  | 123 => .array .int
  | 124 => .array .int
  | 125 => .boolean
  | 126 => .int
  | 127 => .long
  | 128 => .array .int
  | _ => .array .int
abbrev wsX670 : List Cond := u_ws RX67 TX67 130
theorem nmX67 : ∀ a, a < 130 → ∀ b, b < 130 → a ≠ b → (TX67 a).2.1 ≠ (TX67 b).2.1 := by decide +kernel
theorem tyX67_ok : ∀ k, k < 130 → parseFieldDescriptor (TX67 k).2.2.1 = some (tyX67 k) := by decide +kernel
abbrev cX67_init : ByteArray := prog_69_method_1_code
def yX67_init : MethodName := ⟨RX67, "<init>", "()V"⟩
abbrev cX67_directory : ByteArray := prog_69_method_32_code
def yX67_directory : MethodName := ⟨RX67, "directory", "(IJII)I"⟩
abbrev cX67_isOf : ByteArray := prog_69_method_8_code
def yX67_isOf : MethodName := ⟨RX67, "isOf", "(II)Z"⟩
abbrev cX67_isNode : ByteArray := prog_69_method_7_code
def yX67_isNode : MethodName := ⟨RX67, "isNode", "(I)Z"⟩
abbrev cX67_in : ByteArray := prog_69_method_2_code
def yX67_in : MethodName := ⟨RX67, "in", "(JJJ)Z"⟩
abbrev cX67_isName : ByteArray := prog_69_method_4_code
def yX67_isName : MethodName := ⟨RX67, "isName", "(J)Z"⟩
abbrev cX67_isWord : ByteArray := prog_69_method_3_code
def yX67_isWord : MethodName := ⟨RX67, "isWord", "(J)Z"⟩
abbrev cX67_dominates : ByteArray := prog_69_method_5_code
def yX67_dominates : MethodName := ⟨RX67, "dominates", "(II)Z"⟩
abbrev cX67_entryNamed : ByteArray := prog_69_method_10_code
def yX67_entryNamed : MethodName := ⟨RX67, "entryNamed", "(IJ)I"⟩
abbrev cX67_costOf : ByteArray := prog_69_method_15_code
def yX67_costOf : MethodName := ⟨RX67, "costOf", "(II)I"⟩
abbrev cX67_hasRoom : ByteArray := prog_69_method_18_code
def yX67_hasRoom : MethodName := ⟨RX67, "hasRoom", "(II)Z"⟩
abbrev cX67_account : ByteArray := prog_69_method_17_code
def yX67_account : MethodName := ⟨RX67, "account", "(I)I"⟩
abbrev cX67_make : ByteArray := prog_69_method_19_code
def yX67_make : MethodName := ⟨RX67, "make", "(IIJII)I"⟩
abbrev cX67_free : ByteArray := prog_69_method_9_code
def yX67_free : MethodName := ⟨RX67, "free", "()I"⟩
abbrev cX67_setBrackets : ByteArray := prog_69_method_20_code
def yX67_setBrackets : MethodName := ⟨RX67, "setBrackets", "(IIII)V"⟩
abbrev cX67_made : ByteArray := prog_69_method_31_code
def yX67_made : MethodName := ⟨RX67, "made", "(I)I"⟩
abbrev cX67_giveFirsts : ByteArray := prog_69_method_21_code
def yX67_giveFirsts : MethodName := ⟨RX67, "giveFirsts", "(III)V"⟩
abbrev cX67_addItem : ByteArray := prog_69_method_22_code
def yX67_addItem : MethodName := ⟨RX67, "addItem", "(IIII)V"⟩
abbrev cX67_segment : ByteArray := prog_69_method_33_code
def yX67_segment : MethodName := ⟨RX67, "segment", "(IJI)I"⟩
abbrev cX67_mailbox : ByteArray := prog_69_method_34_code
def yX67_mailbox : MethodName := ⟨RX67, "mailbox", "(IJ)I"⟩
abbrev cX67_initial : ByteArray := prog_69_method_35_code
def yX67_initial : MethodName := ⟨RX67, "initial", "(IIIII)I"⟩
abbrev cX67_isItem : ByteArray := prog_69_method_24_code
def yX67_isItem : MethodName := ⟨RX67, "isItem", "(III)Z"⟩
abbrev cX67_setItem : ByteArray := prog_69_method_23_code
def yX67_setItem : MethodName := ⟨RX67, "setItem", "([IIIIIII)I"⟩
abbrev cX67_item : ByteArray := prog_69_method_36_code
def yX67_item : MethodName := ⟨RX67, "item", "(IIII)I"⟩
abbrev cX67_brackets : ByteArray := prog_69_method_38_code
def yX67_brackets : MethodName := ⟨RX67, "brackets", "(IIIII)I"⟩
abbrev cX67_areBrackets : ByteArray := prog_69_method_37_code
def yX67_areBrackets : MethodName := ⟨RX67, "areBrackets", "(IIIII)Z"⟩
abbrev cX67_length : ByteArray := prog_69_method_40_code
def yX67_length : MethodName := ⟨RX67, "length", "(II)I"⟩
abbrev cX67_setLength : ByteArray := prog_69_method_39_code
def yX67_setLength : MethodName := ⟨RX67, "setLength", "(II)Z"⟩
abbrev cX67_cost : ByteArray := prog_69_method_16_code
def yX67_cost : MethodName := ⟨RX67, "cost", "(I)I"⟩
abbrev cX67_limit : ByteArray := prog_69_method_42_code
def yX67_limit : MethodName := ⟨RX67, "limit", "(II)I"⟩
abbrev cX67_setLimit : ByteArray := prog_69_method_41_code
def yX67_setLimit : MethodName := ⟨RX67, "setLimit", "(II)Z"⟩
abbrev cX67_rename : ByteArray := prog_69_method_43_code
def yX67_rename : MethodName := ⟨RX67, "rename", "(IJ)I"⟩
abbrev cX67_remove : ByteArray := prog_69_method_44_code
def yX67_remove : MethodName := ⟨RX67, "remove", "(I)I"⟩
abbrev cX67_dropAll : ByteArray := prog_69_method_30_code
def yX67_dropAll : MethodName := ⟨RX67, "dropAll", "(I)I"⟩
abbrev cX67_isWithin : ByteArray := prog_69_method_28_code
def yX67_isWithin : MethodName := ⟨RX67, "isWithin", "(II)Z"⟩
abbrev cX67_depth : ByteArray := prog_69_method_29_code
def yX67_depth : MethodName := ⟨RX67, "depth", "(I)I"⟩
abbrev cX67_drop : ByteArray := prog_69_method_26_code
def yX67_drop : MethodName := ⟨RX67, "drop", "(I)V"⟩
abbrev cX67_forget : ByteArray := prog_69_method_27_code
def yX67_forget : MethodName := ⟨RX67, "forget", "(II)V"⟩
abbrev cX67_find : ByteArray := prog_69_method_45_code
def yX67_find : MethodName := ⟨RX67, "find", "(IJ)I"⟩
abbrev cX67_about : ByteArray := prog_69_method_46_code
def yX67_about : MethodName := ⟨RX67, "about", "(II)J"⟩
abbrev cX67_countEntries : ByteArray := prog_69_method_13_code
def yX67_countEntries : MethodName := ⟨RX67, "countEntries", "(I)I"⟩
abbrev cX67_modes : ByteArray := prog_69_method_47_code
def yX67_modes : MethodName := ⟨RX67, "modes", "(III)I"⟩
abbrev cX67_modesFor : ByteArray := prog_69_method_25_code
def yX67_modesFor : MethodName := ⟨RX67, "modesFor", "(III)I"⟩
abbrev cX67_word : ByteArray := prog_69_method_49_code
def yX67_word : MethodName := ⟨RX67, "word", "(II)J"⟩
abbrev cX67_isPlace : ByteArray := prog_69_method_48_code
def yX67_isPlace : MethodName := ⟨RX67, "isPlace", "(II)Z"⟩
abbrev cX67_put : ByteArray := prog_69_method_50_code
def yX67_put : MethodName := ⟨RX67, "put", "(IIJ)J"⟩
abbrev cX67_letter : ByteArray := prog_69_method_51_code
def yX67_letter : MethodName := ⟨RX67, "letter", "(III)J"⟩
abbrev cX67_audit : ByteArray := prog_69_method_53_code
def yX67_audit : MethodName := ⟨RX67, "audit", "(II)I"⟩
abbrev cX67_login : ByteArray := prog_69_method_109_code
def yX67_login : MethodName := ⟨RX67, "login", "(IIIIII)I"⟩
abbrev cX67_logout : ByteArray := prog_69_method_110_code
def yX67_logout : MethodName := ⟨RX67, "logout", "(I)I"⟩
abbrev cX67_isThere : ByteArray := prog_69_method_108_code
def yX67_isThere : MethodName := ⟨RX67, "isThere", "(I)Z"⟩
abbrev cX67_send : ByteArray := prog_69_method_111_code
def yX67_send : MethodName := ⟨RX67, "send", "(IJ)I"⟩
abbrev cX67_tick : ByteArray := prog_69_method_112_code
def yX67_tick : MethodName := ⟨RX67, "tick", "(II)I"⟩
abbrev cX67_isTicked : ByteArray := prog_69_method_80_code
def yX67_isTicked : MethodName := ⟨RX67, "isTicked", "(I)Z"⟩
abbrev cX67_tell : ByteArray := prog_69_method_55_code
def yX67_tell : MethodName := ⟨RX67, "tell", "(IIJJJ)V"⟩
abbrev cX67_perform : ByteArray := prog_69_method_77_code
def yX67_perform : MethodName := ⟨RX67, "perform", "(I)V"⟩
abbrev cX67_access : ByteArray := prog_69_method_58_code
def yX67_access : MethodName := ⟨RX67, "access", "(IIIII)Z"⟩
abbrev cX67_missing : ByteArray := prog_69_method_57_code
def yX67_missing : MethodName := ⟨RX67, "missing", "(III)I"⟩
abbrev cX67_barred : ByteArray := prog_69_method_56_code
def yX67_barred : MethodName := ⟨RX67, "barred", "(IIII)I"⟩
abbrev cX67_fail : ByteArray := prog_69_method_54_code
def yX67_fail : MethodName := ⟨RX67, "fail", "(IIII)V"⟩
abbrev cX67_wordAt : ByteArray := prog_69_method_59_code
def yX67_wordAt : MethodName := ⟨RX67, "wordAt", "(III)J"⟩
abbrev cX67_isLegal : ByteArray := prog_69_method_64_code
def yX67_isLegal : MethodName := ⟨RX67, "isLegal", "(I)Z"⟩
abbrev cX67_find_2 : ByteArray := prog_69_method_65_code
def yX67_find_2 : MethodName := ⟨RX67, "find", "(I)Z"⟩
abbrev cX67_bind : ByteArray := prog_69_method_87_code
def yX67_bind : MethodName := ⟨RX67, "bind", "(II)Z"⟩
abbrev cX67_bindNow : ByteArray := prog_69_method_88_code
def yX67_bindNow : MethodName := ⟨RX67, "bindNow", "(III)Z"⟩
abbrev cX67_isObject : ByteArray := prog_69_method_81_code
def yX67_isObject : MethodName := ⟨RX67, "isObject", "(I)Z"⟩
abbrev cX67_linkPlace : ByteArray := prog_69_method_82_code
def yX67_linkPlace : MethodName := ⟨RX67, "linkPlace", "(II)I"⟩
abbrev cX67_searched : ByteArray := prog_69_method_86_code
def yX67_searched : MethodName := ⟨RX67, "searched", "(IJ)I"⟩
abbrev cX67_askDirectory : ByteArray := prog_69_method_89_code
def yX67_askDirectory : MethodName := ⟨RX67, "askDirectory", "(III)I"⟩
abbrev cX67_numberFor : ByteArray := prog_69_method_85_code
def yX67_numberFor : MethodName := ⟨RX67, "numberFor", "(II)I"⟩
abbrev cX67_defined : ByteArray := prog_69_method_84_code
def yX67_defined : MethodName := ⟨RX67, "defined", "(IJ)I"⟩
abbrev cX67_definitionPlace : ByteArray := prog_69_method_83_code
def yX67_definitionPlace : MethodName := ⟨RX67, "definitionPlace", "(II)I"⟩
abbrev cX67_follow : ByteArray := prog_69_method_66_code
def yX67_follow : MethodName := ⟨RX67, "follow", "(I)Z"⟩
abbrev cX67_call : ByteArray := prog_69_method_76_code
def yX67_call : MethodName := ⟨RX67, "call", "(III)V"⟩
abbrev cX67_turnTo : ByteArray := prog_69_method_75_code
def yX67_turnTo : MethodName := ⟨RX67, "turnTo", "(II)V"⟩
abbrev cX67_go : ByteArray := prog_69_method_73_code
def yX67_go : MethodName := ⟨RX67, "go", "(I)V"⟩
abbrev cX67_service : ByteArray := prog_69_method_91_code
def yX67_service : MethodName := ⟨RX67, "service", "(II)V"⟩
abbrev cX67_comeBack : ByteArray := prog_69_method_92_code
def yX67_comeBack : MethodName := ⟨RX67, "comeBack", "(II)V"⟩
abbrev cX67_note : ByteArray := prog_69_method_52_code
def yX67_note : MethodName := ⟨RX67, "note", "(IIII)V"⟩
abbrev cX67_isOfEntry : ByteArray := prog_69_method_93_code
def yX67_isOfEntry : MethodName := ⟨RX67, "isOfEntry", "(I)Z"⟩
abbrev cX67_onEntry : ByteArray := prog_69_method_94_code
def yX67_onEntry : MethodName := ⟨RX67, "onEntry", "(II)I"⟩
abbrev cX67_onMailbox : ByteArray := prog_69_method_100_code
def yX67_onMailbox : MethodName := ⟨RX67, "onMailbox", "(III)I"⟩
abbrev cX67_askMailbox : ByteArray := prog_69_method_90_code
def yX67_askMailbox : MethodName := ⟨RX67, "askMailbox", "(III)I"⟩
abbrev cX67_modify : ByteArray := prog_69_method_97_code
def yX67_modify : MethodName := ⟨RX67, "modify", "(III)I"⟩
abbrev cX67_isUpgraded : ByteArray := prog_69_method_14_code
def yX67_isUpgraded : MethodName := ⟨RX67, "isUpgraded", "(I)Z"⟩
abbrev cX67_isOutOfRing : ByteArray := prog_69_method_96_code
def yX67_isOutOfRing : MethodName := ⟨RX67, "isOutOfRing", "(II)Z"⟩
abbrev cX67_newBrackets : ByteArray := prog_69_method_98_code
def yX67_newBrackets : MethodName := ⟨RX67, "newBrackets", "(II)I"⟩
abbrev cX67_newLimit : ByteArray := prog_69_method_99_code
def yX67_newLimit : MethodName := ⟨RX67, "newLimit", "(II)I"⟩
abbrev cX67_look : ByteArray := prog_69_method_95_code
def yX67_look : MethodName := ⟨RX67, "look", "(III)I"⟩
abbrev cX67_add : ByteArray := prog_69_method_101_code
def yX67_add : MethodName := ⟨RX67, "add", "(II)I"⟩
abbrev cX67_plain : ByteArray := prog_69_method_102_code
def yX67_plain : MethodName := ⟨RX67, "plain", "(II)I"⟩
abbrev cX67_nameOf : ByteArray := prog_69_method_103_code
def yX67_nameOf : MethodName := ⟨RX67, "nameOf", "(I)I"⟩
abbrev cX67_entryAt : ByteArray := prog_69_method_12_code
def yX67_entryAt : MethodName := ⟨RX67, "entryAt", "(IJ)I"⟩
abbrev cX67_entryBehind : ByteArray := prog_69_method_11_code
def yX67_entryBehind : MethodName := ⟨RX67, "entryBehind", "(II)I"⟩
abbrev cX67_newLength : ByteArray := prog_69_method_104_code
def yX67_newLength : MethodName := ⟨RX67, "newLength", "(I)I"⟩
abbrev cX67_newFirst : ByteArray := prog_69_method_105_code
def yX67_newFirst : MethodName := ⟨RX67, "newFirst", "(I)I"⟩
abbrev cX67_among : ByteArray := prog_69_method_106_code
def yX67_among : MethodName := ⟨RX67, "among", "(II)I"⟩
abbrev cX67_doable : ByteArray := prog_69_method_107_code
def yX67_doable : MethodName := ⟨RX67, "doable", "(I)I"⟩
abbrev cX67_act : ByteArray := prog_69_method_78_code
def yX67_act : MethodName := ⟨RX67, "act", "(III)V"⟩
abbrev cX67_flag : ByteArray := prog_69_method_62_code
def yX67_flag : MethodName := ⟨RX67, "flag", "(IJ)V"⟩
abbrev cX67_jump : ByteArray := prog_69_method_74_code
def yX67_jump : MethodName := ⟨RX67, "jump", "(II)V"⟩
abbrev cX67_flagHalf : ByteArray := prog_69_method_63_code
def yX67_flagHalf : MethodName := ⟨RX67, "flagHalf", "(II)V"⟩
abbrev cX67_place : ByteArray := prog_69_method_72_code
def yX67_place : MethodName := ⟨RX67, "place", "(II)V"⟩
abbrev cX67_pointerWord : ByteArray := prog_69_method_61_code
def yX67_pointerWord : MethodName := ⟨RX67, "pointerWord", "(III)J"⟩
abbrev cX67_shifted : ByteArray := prog_69_method_71_code
def yX67_shifted : MethodName := ⟨RX67, "shifted", "(JII)J"⟩
abbrev cX67_signed : ByteArray := prog_69_method_6_code
def yX67_signed : MethodName := ⟨RX67, "signed", "(J)J"⟩
abbrev cX67_reckon : ByteArray := prog_69_method_69_code
def yX67_reckon : MethodName := ⟨RX67, "reckon", "(II)V"⟩
abbrev cX67_value : ByteArray := prog_69_method_68_code
def yX67_value : MethodName := ⟨RX67, "value", "(I)J"⟩
abbrev cX67_may : ByteArray := prog_69_method_67_code
def yX67_may : MethodName := ⟨RX67, "may", "(II)Z"⟩
abbrev cX67_write : ByteArray := prog_69_method_70_code
def yX67_write : MethodName := ⟨RX67, "write", "(II)V"⟩
abbrev cX67_setWord : ByteArray := prog_69_method_60_code
def yX67_setWord : MethodName := ⟨RX67, "setWord", "(IIIJ)V"⟩
abbrev cX67_suffer : ByteArray := prog_69_method_79_code
def yX67_suffer : MethodName := ⟨RX67, "suffer", "(I)V"⟩
abbrev cX67_schedule : ByteArray := prog_69_method_113_code
def yX67_schedule : MethodName := ⟨RX67, "schedule", "(II)I"⟩
abbrev cX67_run : ByteArray := prog_69_method_114_code
def yX67_run : MethodName := ⟨RX67, "run", "(I)I"⟩
abbrev cX67_register : ByteArray := prog_69_method_115_code
def yX67_register : MethodName := ⟨RX67, "register", "(II)J"⟩
abbrev cX67_process : ByteArray := prog_69_method_116_code
def yX67_process : MethodName := ⟨RX67, "process", "(II)I"⟩
abbrev cX67_stack : ByteArray := prog_69_method_117_code
def yX67_stack : MethodName := ⟨RX67, "stack", "(III)J"⟩
abbrev cX67_known : ByteArray := prog_69_method_118_code
def yX67_known : MethodName := ⟨RX67, "known", "(II)I"⟩
abbrev cX67_link : ByteArray := prog_69_method_119_code
def yX67_link : MethodName := ⟨RX67, "link", "(III)J"⟩
abbrev cX67_event : ByteArray := prog_69_method_120_code
def yX67_event : MethodName := ⟨RX67, "event", "(III)J"⟩
abbrev cX67_sum : ByteArray := prog_69_method_121_code
def yX67_sum : MethodName := ⟨RX67, "sum", "(I)J"⟩
abbrev cX67_assemble : ByteArray := prog_69_method_158_code
def yX67_assemble : MethodName := ⟨RX67, "assemble", "(I)I"⟩
abbrev cX67_readText : ByteArray := prog_69_method_157_code
def yX67_readText : MethodName := ⟨RX67, "readText", "(Z)V"⟩
abbrev cX67_lineEnd : ByteArray := prog_69_method_127_code
def yX67_lineEnd : MethodName := ⟨RX67, "lineEnd", "(I)I"⟩
abbrev cX67_lineOfText : ByteArray := prog_69_method_156_code
def yX67_lineOfText : MethodName := ⟨RX67, "lineOfText", "()V"⟩
abbrev cX67_next : ByteArray := prog_69_method_128_code
def yX67_next : MethodName := ⟨RX67, "next", "()V"⟩
abbrev cX67_isOfWord : ByteArray := prog_69_method_124_code
def yX67_isOfWord : MethodName := ⟨RX67, "isOfWord", "(I)Z"⟩
abbrev cX67_isLetter : ByteArray := prog_69_method_123_code
def yX67_isLetter : MethodName := ⟨RX67, "isLetter", "(I)Z"⟩
abbrev cX67_isDigit : ByteArray := prog_69_method_122_code
def yX67_isDigit : MethodName := ⟨RX67, "isDigit", "(I)Z"⟩
abbrev cX67_behindWord : ByteArray := prog_69_method_140_code
def yX67_behindWord : MethodName := ⟨RX67, "behindWord", "()I"⟩
abbrev cX67_labelWord : ByteArray := prog_69_method_141_code
def yX67_labelWord : MethodName := ⟨RX67, "labelWord", "()J"⟩
abbrev cX67_wrong : ByteArray := prog_69_method_125_code
def yX67_wrong : MethodName := ⟨RX67, "wrong", "(II)V"⟩
abbrev cX67_isShort : ByteArray := prog_69_method_134_code
def yX67_isShort : MethodName := ⟨RX67, "isShort", "()Z"⟩
abbrev cX67_nameOfToken : ByteArray := prog_69_method_133_code
def yX67_nameOfToken : MethodName := ⟨RX67, "nameOfToken", "()J"⟩
abbrev cX67_signOf : ByteArray := prog_69_method_132_code
def yX67_signOf : MethodName := ⟨RX67, "signOf", "(I)I"⟩
abbrev cX67_labelNamed : ByteArray := prog_69_method_136_code
def yX67_labelNamed : MethodName := ⟨RX67, "labelNamed", "(J)I"⟩
abbrev cX67_statement : ByteArray := prog_69_method_155_code
def yX67_statement : MethodName := ⟨RX67, "statement", "()V"⟩
abbrev cX67_isOperation : ByteArray := prog_69_method_139_code
def yX67_isOperation : MethodName := ⟨RX67, "isOperation", "()Z"⟩
abbrev cX67_takesN : ByteArray := prog_69_method_137_code
def yX67_takesN : MethodName := ⟨RX67, "takesN", "(I)Z"⟩
abbrev cX67_mostN : ByteArray := prog_69_method_138_code
def yX67_mostN : MethodName := ⟨RX67, "mostN", "(I)I"⟩
abbrev cX67_emit : ByteArray := prog_69_method_146_code
def yX67_emit : MethodName := ⟨RX67, "emit", "(J)V"⟩
abbrev cX67_operand : ByteArray := prog_69_method_149_code
def yX67_operand : MethodName := ⟨RX67, "operand", "()V"⟩
abbrev cX67_passes : ByteArray := prog_69_method_130_code
def yX67_passes : MethodName := ⟨RX67, "passes", "(I)Z"⟩
abbrev cX67_isSign : ByteArray := prog_69_method_129_code
def yX67_isSign : MethodName := ⟨RX67, "isSign", "(I)Z"⟩
abbrev cX67_half : ByteArray := prog_69_method_145_code
def yX67_half : MethodName := ⟨RX67, "half", "()J"⟩
abbrev cX67_expression : ByteArray := prog_69_method_144_code
def yX67_expression : MethodName := ⟨RX67, "expression", "(JJ)J"⟩
abbrev cX67_term : ByteArray := prog_69_method_143_code
def yX67_term : MethodName := ⟨RX67, "term", "()J"⟩
abbrev cX67_isNumber : ByteArray := prog_69_method_131_code
def yX67_isNumber : MethodName := ⟨RX67, "isNumber", "()Z"⟩
abbrev cX67_numeral : ByteArray := prog_69_method_135_code
def yX67_numeral : MethodName := ⟨RX67, "numeral", "()J"⟩
abbrev cX67_labelAt : ByteArray := prog_69_method_142_code
def yX67_labelAt : MethodName := ⟨RX67, "labelAt", "(JI)I"⟩
abbrev cX67_late : ByteArray := prog_69_method_126_code
def yX67_late : MethodName := ⟨RX67, "late", "(II)V"⟩
abbrev cX67_isP : ByteArray := prog_69_method_148_code
def yX67_isP : MethodName := ⟨RX67, "isP", "()Z"⟩
abbrev cX67_linkOf : ByteArray := prog_69_method_147_code
def yX67_linkOf : MethodName := ⟨RX67, "linkOf", "(JJI)I"⟩
abbrev cX67_wordsOfText : ByteArray := prog_69_method_150_code
def yX67_wordsOfText : MethodName := ⟨RX67, "wordsOfText", "()V"⟩
abbrev cX67_pointerOfText : ByteArray := prog_69_method_153_code
def yX67_pointerOfText : MethodName := ⟨RX67, "pointerOfText", "()V"⟩
abbrev cX67_bounded : ByteArray := prog_69_method_151_code
def yX67_bounded : MethodName := ⟨RX67, "bounded", "(J)J"⟩
abbrev cX67_comma : ByteArray := prog_69_method_152_code
def yX67_comma : MethodName := ⟨RX67, "comma", "()V"⟩
abbrev cX67_definitionOfText : ByteArray := prog_69_method_154_code
def yX67_definitionOfText : MethodName := ⟨RX67, "definitionOfText", "()V"⟩
abbrev cX67_type : ByteArray := prog_69_method_159_code
def yX67_type : MethodName := ⟨RX67, "type", "(JI)I"⟩
abbrev cX67_place_2 : ByteArray := prog_69_method_160_code
def yX67_place_2 : MethodName := ⟨RX67, "place", "()I"⟩
abbrev cX67_list : ByteArray := prog_69_method_165_code
def yX67_list : MethodName := ⟨RX67, "list", "(J)I"⟩
abbrev cX67_isListable : ByteArray := prog_69_method_164_code
def yX67_isListable : MethodName := ⟨RX67, "isListable", "(J)Z"⟩
abbrev cX67_writeName : ByteArray := prog_69_method_163_code
def yX67_writeName : MethodName := ⟨RX67, "writeName", "(J)V"⟩
abbrev cX67_write_2 : ByteArray := prog_69_method_161_code
def yX67_write_2 : MethodName := ⟨RX67, "write", "(I)V"⟩
abbrev cX67_writeNumber : ByteArray := prog_69_method_162_code
def yX67_writeNumber : MethodName := ⟨RX67, "writeNumber", "(J)V"⟩
abbrev cX67_listed : ByteArray := prog_69_method_166_code
def yX67_listed : MethodName := ⟨RX67, "listed", "(I)I"⟩
abbrev cX67_dump : ByteArray := prog_69_method_172_code
def yX67_dump : MethodName := ⟨RX67, "dump", "(I)I"⟩
abbrev cX67_putByte : ByteArray := prog_69_method_167_code
def yX67_putByte : MethodName := ⟨RX67, "putByte", "(I)V"⟩
abbrev cX67_putNode : ByteArray := prog_69_method_170_code
def yX67_putNode : MethodName := ⟨RX67, "putNode", "(I)V"⟩
abbrev cX67_putWord : ByteArray := prog_69_method_168_code
def yX67_putWord : MethodName := ⟨RX67, "putWord", "(J)V"⟩
abbrev cX67_putItems : ByteArray := prog_69_method_169_code
def yX67_putItems : MethodName := ⟨RX67, "putItems", "([III)V"⟩
abbrev cX67_behindOnTape : ByteArray := prog_69_method_171_code
def yX67_behindOnTape : MethodName := ⟨RX67, "behindOnTape", "(II)I"⟩
abbrev cX67_tape : ByteArray := prog_69_method_173_code
def yX67_tape : MethodName := ⟨RX67, "tape", "(I)I"⟩
abbrev cX67_alter : ByteArray := prog_69_method_174_code
def yX67_alter : MethodName := ⟨RX67, "alter", "(II)I"⟩
abbrev cX67_cut : ByteArray := prog_69_method_175_code
def yX67_cut : MethodName := ⟨RX67, "cut", "(I)I"⟩
abbrev cX67_reload : ByteArray := prog_69_method_191_code
def yX67_reload : MethodName := ⟨RX67, "reload", "(IJ)I"⟩
abbrev cX67_takeAll : ByteArray := prog_69_method_190_code
def yX67_takeAll : MethodName := ⟨RX67, "takeAll", "(Z)V"⟩
abbrev cX67_take : ByteArray := prog_69_method_177_code
def yX67_take : MethodName := ⟨RX67, "take", "(II)I"⟩
abbrev cX67_torn : ByteArray := prog_69_method_176_code
def yX67_torn : MethodName := ⟨RX67, "torn", "(II)V"⟩
abbrev cX67_takeNode : ByteArray := prog_69_method_188_code
def yX67_takeNode : MethodName := ⟨RX67, "takeNode", "(I)V"⟩
abbrev cX67_takeHead : ByteArray := prog_69_method_182_code
def yX67_takeHead : MethodName := ⟨RX67, "takeHead", "(I)I"⟩
abbrev cX67_takeWord : ByteArray := prog_69_method_178_code
def yX67_takeWord : MethodName := ⟨RX67, "takeWord", "()J"⟩
abbrev cX67_hasName : ByteArray := prog_69_method_180_code
def yX67_hasName : MethodName := ⟨RX67, "hasName", "(IJ)Z"⟩
abbrev cX67_labelAbove : ByteArray := prog_69_method_181_code
def yX67_labelAbove : MethodName := ⟨RX67, "labelAbove", "(I)I"⟩
abbrev cX67_makeRead : ByteArray := prog_69_method_189_code
def yX67_makeRead : MethodName := ⟨RX67, "makeRead", "(II)I"⟩
abbrev cX67_lengthAhead : ByteArray := prog_69_method_187_code
def yX67_lengthAhead : MethodName := ⟨RX67, "lengthAhead", "()I"⟩
abbrev cX67_takeItems : ByteArray := prog_69_method_179_code
def yX67_takeItems : MethodName := ⟨RX67, "takeItems", "(III)V"⟩
abbrev cX67_takeDirectory : ByteArray := prog_69_method_183_code
def yX67_takeDirectory : MethodName := ⟨RX67, "takeDirectory", "(I)V"⟩
abbrev cX67_takeSegment : ByteArray := prog_69_method_185_code
def yX67_takeSegment : MethodName := ⟨RX67, "takeSegment", "(I)I"⟩
abbrev cX67_takeLetters : ByteArray := prog_69_method_184_code
def yX67_takeLetters : MethodName := ⟨RX67, "takeLetters", "(II)V"⟩
abbrev cX67_charge : ByteArray := prog_69_method_186_code
def yX67_charge : MethodName := ⟨RX67, "charge", "(II)V"⟩
abbrev cX67_hasRoomFor : ByteArray := prog_69_method_192_code
def yX67_hasRoomFor : MethodName := ⟨RX67, "hasRoomFor", "(I)Z"⟩
abbrev cX67_count : ByteArray := prog_69_method_193_code
def yX67_count : MethodName := ⟨RX67, "count", "(I)I"⟩
theorem q294 : (Jvm.Cond.initialized "RingHouseModel") ∈ lw_all := lw_g (lw_at lw_m1 68 rfl) rfl
theorem q3165 : (Jvm.Cond.instantiable "RingHouseModel" (130 : Nat)) ∈ lw_all := lw_g (lw_at lw_m13 59 rfl) rfl
theorem q3167 : (Jvm.Cond.instanceMethod ({ cls := "RingHouseModel", name := "<init>", desc := "()V" } : Jvm.MethodName)) ∈ lw_all := lw_g (lw_at lw_m13 61 rfl) rfl
theorem q3168 : (Jvm.Cond.code ({ cls := "RingHouseModel", name := "<init>", desc := "()V" } : Jvm.MethodName) prog_69_method_1_code (2 : Nat) (Option.none : Option Jvm.ClassFile.FieldType)) ∈ lw_all := lw_g (lw_at lw_m13 62 rfl) rfl
theorem q3169 : (Jvm.Cond.methodLink "RingHouseModel" (1 : Nat) ({ cls := "java/lang/Object", name := "<init>", desc := "()V" } : Jvm.MethodName)) ∈ lw_all := lw_g (lw_at lw_m13 63 rfl) rfl
theorem q3170 : (Jvm.Cond.constant "RingHouseModel" (56 : Nat) (262144 : Int32)) ∈ lw_all := lw_g (lw_at lw_m13 64 rfl) rfl
theorem q3171 : (Jvm.Cond.constant "RingHouseModel" (63 : Nat) (32768 : Int32)) ∈ lw_all := lw_g (lw_at lw_m13 65 rfl) rfl
theorem q3172 : (Jvm.Cond.constant "RingHouseModel" (216 : Nat) (98304 : Int32)) ∈ lw_all := lw_g (lw_at lw_m13 66 rfl) rfl
theorem q3173 : (Jvm.Cond.constantLong "RingHouseModel" (241 : Nat) (8796504064 : Int64)) ∈ lw_all := lw_g (lw_at lw_m13 67 rfl) rfl
theorem q3174 : (Jvm.Cond.constantLong "RingHouseModel" (243 : Nat) (15288238080 : Int64)) ∈ lw_all := lw_g (lw_at lw_m13 68 rfl) rfl
theorem q3175 : (Jvm.Cond.constantLong "RingHouseModel" (245 : Nat) (12952272896 : Int64)) ∈ lw_all := lw_g (lw_at lw_m13 69 rfl) rfl
theorem q3176 : (Jvm.Cond.constantLong "RingHouseModel" (247 : Nat) (12956467200 : Int64)) ∈ lw_all := lw_g (lw_at lw_m13 70 rfl) rfl
theorem q3177 : (Jvm.Cond.constantLong "RingHouseModel" (249 : Nat) (1141112832 : Int64)) ∈ lw_all := lw_g (lw_at lw_m13 71 rfl) rfl
theorem q3178 : (Jvm.Cond.constantLong "RingHouseModel" (251 : Nat) (20434911232 : Int64)) ∈ lw_all := lw_g (lw_at lw_m13 72 rfl) rfl
theorem q3179 : (Jvm.Cond.constantLong "RingHouseModel" (253 : Nat) (14227341312 : Int64)) ∈ lw_all := lw_g (lw_at lw_m13 73 rfl) rfl
theorem q3180 : (Jvm.Cond.constantLong "RingHouseModel" (255 : Nat) (4664328192 : Int64)) ∈ lw_all := lw_g (lw_at lw_m13 74 rfl) rfl
theorem q3181 : (Jvm.Cond.constantLong "RingHouseModel" (257 : Nat) (1308884992 : Int64)) ∈ lw_all := lw_g (lw_at lw_m13 75 rfl) rfl
theorem q3182 : (Jvm.Cond.constantLong "RingHouseModel" (259 : Nat) (16408379392 : Int64)) ∈ lw_all := lw_g (lw_at lw_m13 76 rfl) rfl
theorem q3183 : (Jvm.Cond.constantLong "RingHouseModel" (261 : Nat) (5670961152 : Int64)) ∈ lw_all := lw_g (lw_at lw_m13 77 rfl) rfl
theorem q3184 : (Jvm.Cond.constantLong "RingHouseModel" (263 : Nat) (3439591424 : Int64)) ∈ lw_all := lw_g (lw_at lw_m13 78 rfl) rfl
theorem q3185 : (Jvm.Cond.constantLong "RingHouseModel" (265 : Nat) (12958302208 : Int64)) ∈ lw_all := lw_g (lw_at lw_m13 79 rfl) rfl
theorem q3186 : (Jvm.Cond.constantLong "RingHouseModel" (267 : Nat) (1147142144 : Int64)) ∈ lw_all := lw_g (lw_at lw_m13 80 rfl) rfl
theorem q3187 : (Jvm.Cond.constantLong "RingHouseModel" (269 : Nat) (20736901120 : Int64)) ∈ lw_all := lw_g (lw_at lw_m13 81 rfl) rfl
theorem q3188 : (Jvm.Cond.constantLong "RingHouseModel" (271 : Nat) (20741095424 : Int64)) ∈ lw_all := lw_g (lw_at lw_m13 82 rfl) rfl
theorem q3189 : (Jvm.Cond.constantLong "RingHouseModel" (273 : Nat) (20742930432 : Int64)) ∈ lw_all := lw_g (lw_at lw_m13 83 rfl) rfl
theorem q3190 : (Jvm.Cond.constantLong "RingHouseModel" (275 : Nat) (20673724416 : Int64)) ∈ lw_all := lw_g (lw_at lw_m13 84 rfl) rfl
theorem q3191 : (Jvm.Cond.constantLong "RingHouseModel" (277 : Nat) (1330380800 : Int64)) ∈ lw_all := lw_g (lw_at lw_m13 85 rfl) rfl
theorem q3192 : (Jvm.Cond.constantLong "RingHouseModel" (279 : Nat) (20787232768 : Int64)) ∈ lw_all := lw_g (lw_at lw_m13 86 rfl) rfl
theorem q3193 : (Jvm.Cond.constantLong "RingHouseModel" (281 : Nat) (5391777792 : Int64)) ∈ lw_all := lw_g (lw_at lw_m13 87 rfl) rfl
theorem q3194 : (Jvm.Cond.constantLong "RingHouseModel" (283 : Nat) (5385748480 : Int64)) ∈ lw_all := lw_g (lw_at lw_m13 88 rfl) rfl
theorem q3195 : (Jvm.Cond.constantLong "RingHouseModel" (285 : Nat) (1280049152 : Int64)) ∈ lw_all := lw_g (lw_at lw_m13 89 rfl) rfl
theorem q3196 : (Jvm.Cond.constantLong "RingHouseModel" (287 : Nat) (1380712448 : Int64)) ∈ lw_all := lw_g (lw_at lw_m13 90 rfl) rfl
theorem q3197 : (Jvm.Cond.constantLong "RingHouseModel" (289 : Nat) (1378877440 : Int64)) ∈ lw_all := lw_g (lw_at lw_m13 91 rfl) rfl
theorem q3198 : (Jvm.Cond.constantLong "RingHouseModel" (291 : Nat) (5641338880 : Int64)) ∈ lw_all := lw_g (lw_at lw_m13 92 rfl) rfl
theorem q3199 : (Jvm.Cond.constantLong "RingHouseModel" (293 : Nat) (5637406720 : Int64)) ∈ lw_all := lw_g (lw_at lw_m13 93 rfl) rfl
theorem q3200 : (Jvm.Cond.constantLong "RingHouseModel" (295 : Nat) (21777088512 : Int64)) ∈ lw_all := lw_g (lw_at lw_m13 94 rfl) rfl
theorem q3201 : (Jvm.Cond.constantLong "RingHouseModel" (297 : Nat) (21912354816 : Int64)) ∈ lw_all := lw_g (lw_at lw_m13 95 rfl) rfl
theorem q3202 : (Jvm.Cond.constantLong "RingHouseModel" (299 : Nat) (21716533248 : Int64)) ∈ lw_all := lw_g (lw_at lw_m13 96 rfl) rfl
theorem q3203 : (Jvm.Cond.constantLong "RingHouseModel" (301 : Nat) (21695299584 : Int64)) ∈ lw_all := lw_g (lw_at lw_m13 97 rfl) rfl
theorem q3204 : (Jvm.Cond.constantLong "RingHouseModel" (303 : Nat) (21746417664 : Int64)) ∈ lw_all := lw_g (lw_at lw_m13 98 rfl) rfl
theorem q3205 : (Jvm.Cond.constantLong "RingHouseModel" (305 : Nat) (4469030912 : Int64)) ∈ lw_all := lw_g (lw_at lw_m13 99 rfl) rfl
theorem q3206 : (Jvm.Cond.constantLong "RingHouseModel" (307 : Nat) (3241197568 : Int64)) ∈ lw_all := lw_g (lw_at lw_m13 100 rfl) rfl
theorem q3207 : (Jvm.Cond.constantLong "RingHouseModel" (309 : Nat) (19416481792 : Int64)) ∈ lw_all := lw_g (lw_at lw_m13 101 rfl) rfl
theorem q3208 : (Jvm.Cond.constantLong "RingHouseModel" (311 : Nat) (20770979840 : Int64)) ∈ lw_all := lw_g (lw_at lw_m13 102 rfl) rfl
theorem q3209 : (Jvm.Cond.constantLong "RingHouseModel" (313 : Nat) (25791037440 : Int64)) ∈ lw_all := lw_g (lw_at lw_m13 103 rfl) rfl
theorem q3210 : (Jvm.Cond.constantLong "RingHouseModel" (315 : Nat) (15118106624 : Int64)) ∈ lw_all := lw_g (lw_at lw_m13 104 rfl) rfl
theorem q3211 : (Jvm.Cond.constantLong "RingHouseModel" (320 : Nat) (41192071424 : Int64)) ∈ lw_all := lw_g (lw_at lw_m13 105 rfl) rfl
theorem q3212 : (Jvm.Cond.constantLong "RingHouseModel" (322 : Nat) (41075941376 : Int64)) ∈ lw_all := lw_g (lw_at lw_m13 106 rfl) rfl
theorem q3213 : (Jvm.Cond.constantLong "RingHouseModel" (324 : Nat) (41125155013 : Int64)) ∈ lw_all := lw_g (lw_at lw_m13 107 rfl) rfl
theorem q3214 : (Jvm.Cond.constantLong "RingHouseModel" (326 : Nat) (40870633472 : Int64)) ∈ lw_all := lw_g (lw_at lw_m13 108 rfl) rfl
theorem q3215 : (Jvm.Cond.fieldLink "RingHouseModel" (7 : Nat) "RingHouseModel" "kind" "[I") ∈ lw_all := lw_g (lw_at lw_m13 109 rfl) rfl
theorem q3216 : (Jvm.Cond.fieldLink "RingHouseModel" (13 : Nat) "RingHouseModel" "name" "[J") ∈ lw_all := lw_g (lw_at lw_m13 110 rfl) rfl
theorem q3217 : (Jvm.Cond.fieldLink "RingHouseModel" (17 : Nat) "RingHouseModel" "parent" "[I") ∈ lw_all := lw_g (lw_at lw_m13 111 rfl) rfl
theorem q3218 : (Jvm.Cond.fieldLink "RingHouseModel" (20 : Nat) "RingHouseModel" "label" "[I") ∈ lw_all := lw_g (lw_at lw_m13 112 rfl) rfl
theorem q3219 : (Jvm.Cond.fieldLink "RingHouseModel" (23 : Nat) "RingHouseModel" "bracket" "[I") ∈ lw_all := lw_g (lw_at lw_m13 113 rfl) rfl
theorem q3220 : (Jvm.Cond.fieldLink "RingHouseModel" (26 : Nat) "RingHouseModel" "gates" "[I") ∈ lw_all := lw_g (lw_at lw_m13 114 rfl) rfl
theorem q3221 : (Jvm.Cond.fieldLink "RingHouseModel" (29 : Nat) "RingHouseModel" "length" "[I") ∈ lw_all := lw_g (lw_at lw_m13 115 rfl) rfl
theorem q3222 : (Jvm.Cond.fieldLink "RingHouseModel" (32 : Nat) "RingHouseModel" "limit" "[I") ∈ lw_all := lw_g (lw_at lw_m13 116 rfl) rfl
theorem q3223 : (Jvm.Cond.fieldLink "RingHouseModel" (35 : Nat) "RingHouseModel" "used" "[I") ∈ lw_all := lw_g (lw_at lw_m13 117 rfl) rfl
theorem q3224 : (Jvm.Cond.fieldLink "RingHouseModel" (38 : Nat) "RingHouseModel" "refusals" "[I") ∈ lw_all := lw_g (lw_at lw_m13 118 rfl) rfl
theorem q3225 : (Jvm.Cond.fieldLink "RingHouseModel" (41 : Nat) "RingHouseModel" "came" "[J") ∈ lw_all := lw_g (lw_at lw_m13 119 rfl) rfl
theorem q3226 : (Jvm.Cond.fieldLink "RingHouseModel" (398 : Nat) "RingHouseModel" "comings" "J") ∈ lw_all := lw_g (lw_at lw_m13 120 rfl) rfl
theorem q3227 : (Jvm.Cond.fieldLink "RingHouseModel" (44 : Nat) "RingHouseModel" "items" "[I") ∈ lw_all := lw_g (lw_at lw_m13 121 rfl) rfl
theorem q3228 : (Jvm.Cond.fieldLink "RingHouseModel" (47 : Nat) "RingHouseModel" "item" "[I") ∈ lw_all := lw_g (lw_at lw_m13 122 rfl) rfl
theorem q3229 : (Jvm.Cond.fieldLink "RingHouseModel" (50 : Nat) "RingHouseModel" "firsts" "[I") ∈ lw_all := lw_g (lw_at lw_m13 123 rfl) rfl
theorem q3230 : (Jvm.Cond.fieldLink "RingHouseModel" (53 : Nat) "RingHouseModel" "first" "[I") ∈ lw_all := lw_g (lw_at lw_m13 124 rfl) rfl
theorem q3231 : (Jvm.Cond.fieldLink "RingHouseModel" (57 : Nat) "RingHouseModel" "words" "[J") ∈ lw_all := lw_g (lw_at lw_m13 125 rfl) rfl
theorem q3232 : (Jvm.Cond.fieldLink "RingHouseModel" (60 : Nat) "RingHouseModel" "letters" "[I") ∈ lw_all := lw_g (lw_at lw_m13 126 rfl) rfl
theorem q3233 : (Jvm.Cond.fieldLink "RingHouseModel" (64 : Nat) "RingHouseModel" "letter" "[J") ∈ lw_all := lw_g (lw_at lw_m13 127 rfl) rfl
theorem q3234 : (Jvm.Cond.fieldLink "RingHouseModel" (67 : Nat) "RingHouseModel" "letterLabel" "[I") ∈ lw_all := lw_g (lw_at lw_m13 128 rfl) rfl
theorem q3235 : (Jvm.Cond.fieldLink "RingHouseModel" (70 : Nat) "RingHouseModel" "isProcess" "[Z") ∈ lw_all := lw_g (lw_at lw_m13 129 rfl) rfl
theorem q3236 : (Jvm.Cond.fieldLink "RingHouseModel" (74 : Nat) "RingHouseModel" "state" "[I") ∈ lw_all := lw_g (lw_at lw_m13 130 rfl) rfl
theorem q3237 : (Jvm.Cond.fieldLink "RingHouseModel" (77 : Nat) "RingHouseModel" "person" "[I") ∈ lw_all := lw_g (lw_at lw_m13 131 rfl) rfl
theorem q3238 : (Jvm.Cond.fieldLink "RingHouseModel" (80 : Nat) "RingHouseModel" "project" "[I") ∈ lw_all := lw_g (lw_at lw_m13 132 rfl) rfl
theorem q3239 : (Jvm.Cond.fieldLink "RingHouseModel" (83 : Nat) "RingHouseModel" "clearance" "[I") ∈ lw_all := lw_g (lw_at lw_m13 133 rfl) rfl
theorem q3240 : (Jvm.Cond.fieldLink "RingHouseModel" (86 : Nat) "RingHouseModel" "a" "[J") ∈ lw_all := lw_g (lw_at lw_m13 134 rfl) rfl
theorem q3241 : (Jvm.Cond.fieldLink "RingHouseModel" (89 : Nat) "RingHouseModel" "q" "[J") ∈ lw_all := lw_g (lw_at lw_m13 135 rfl) rfl
theorem q3242 : (Jvm.Cond.fieldLink "RingHouseModel" (92 : Nat) "RingHouseModel" "x" "[I") ∈ lw_all := lw_g (lw_at lw_m13 136 rfl) rfl
theorem q3243 : (Jvm.Cond.fieldLink "RingHouseModel" (95 : Nat) "RingHouseModel" "pNumber" "[I") ∈ lw_all := lw_g (lw_at lw_m13 137 rfl) rfl
theorem q3244 : (Jvm.Cond.fieldLink "RingHouseModel" (98 : Nat) "RingHouseModel" "pPlace" "[I") ∈ lw_all := lw_g (lw_at lw_m13 138 rfl) rfl
theorem q3245 : (Jvm.Cond.fieldLink "RingHouseModel" (101 : Nat) "RingHouseModel" "pRing" "[I") ∈ lw_all := lw_g (lw_at lw_m13 139 rfl) rfl
theorem q3246 : (Jvm.Cond.fieldLink "RingHouseModel" (104 : Nat) "RingHouseModel" "number" "[I") ∈ lw_all := lw_g (lw_at lw_m13 140 rfl) rfl
theorem q3247 : (Jvm.Cond.fieldLink "RingHouseModel" (107 : Nat) "RingHouseModel" "place" "[I") ∈ lw_all := lw_g (lw_at lw_m13 141 rfl) rfl
theorem q3248 : (Jvm.Cond.fieldLink "RingHouseModel" (110 : Nat) "RingHouseModel" "ring" "[I") ∈ lw_all := lw_g (lw_at lw_m13 142 rfl) rfl
theorem q3249 : (Jvm.Cond.fieldLink "RingHouseModel" (113 : Nat) "RingHouseModel" "zero" "[Z") ∈ lw_all := lw_g (lw_at lw_m13 143 rfl) rfl
theorem q3250 : (Jvm.Cond.fieldLink "RingHouseModel" (116 : Nat) "RingHouseModel" "minus" "[Z") ∈ lw_all := lw_g (lw_at lw_m13 144 rfl) rfl
theorem q3251 : (Jvm.Cond.fieldLink "RingHouseModel" (119 : Nat) "RingHouseModel" "ticks" "[I") ∈ lw_all := lw_g (lw_at lw_m13 145 rfl) rfl
theorem q3252 : (Jvm.Cond.fieldLink "RingHouseModel" (122 : Nat) "RingHouseModel" "stacks" "[J") ∈ lw_all := lw_g (lw_at lw_m13 146 rfl) rfl
theorem q3253 : (Jvm.Cond.fieldLink "RingHouseModel" (125 : Nat) "RingHouseModel" "known" "[I") ∈ lw_all := lw_g (lw_at lw_m13 147 rfl) rfl
theorem q3254 : (Jvm.Cond.fieldLink "RingHouseModel" (128 : Nat) "RingHouseModel" "link" "[J") ∈ lw_all := lw_g (lw_at lw_m13 148 rfl) rfl
theorem q3255 : (Jvm.Cond.fieldLink "RingHouseModel" (131 : Nat) "RingHouseModel" "working" "[I") ∈ lw_all := lw_g (lw_at lw_m13 149 rfl) rfl
theorem q3256 : (Jvm.Cond.fieldLink "RingHouseModel" (134 : Nat) "RingHouseModel" "search" "[I") ∈ lw_all := lw_g (lw_at lw_m13 150 rfl) rfl
theorem q3257 : (Jvm.Cond.fieldLink "RingHouseModel" (137 : Nat) "RingHouseModel" "hasHandler" "[Z") ∈ lw_all := lw_g (lw_at lw_m13 151 rfl) rfl
theorem q3258 : (Jvm.Cond.fieldLink "RingHouseModel" (140 : Nat) "RingHouseModel" "handlerNumber" "[I") ∈ lw_all := lw_g (lw_at lw_m13 152 rfl) rfl
theorem q3259 : (Jvm.Cond.fieldLink "RingHouseModel" (143 : Nat) "RingHouseModel" "handlerPlace" "[I") ∈ lw_all := lw_g (lw_at lw_m13 153 rfl) rfl
theorem q3260 : (Jvm.Cond.fieldLink "RingHouseModel" (146 : Nat) "RingHouseModel" "handlerRing" "[I") ∈ lw_all := lw_g (lw_at lw_m13 154 rfl) rfl
theorem q3261 : (Jvm.Cond.fieldLink "RingHouseModel" (149 : Nat) "RingHouseModel" "messages" "[I") ∈ lw_all := lw_g (lw_at lw_m13 155 rfl) rfl
theorem q3262 : (Jvm.Cond.fieldLink "RingHouseModel" (152 : Nat) "RingHouseModel" "message" "[J") ∈ lw_all := lw_g (lw_at lw_m13 156 rfl) rfl
theorem q3263 : (Jvm.Cond.fieldLink "RingHouseModel" (155 : Nat) "RingHouseModel" "frames" "[I") ∈ lw_all := lw_g (lw_at lw_m13 157 rfl) rfl
theorem q3264 : (Jvm.Cond.fieldLink "RingHouseModel" (158 : Nat) "RingHouseModel" "frameA" "[J") ∈ lw_all := lw_g (lw_at lw_m13 158 rfl) rfl
theorem q3265 : (Jvm.Cond.fieldLink "RingHouseModel" (161 : Nat) "RingHouseModel" "frameQ" "[J") ∈ lw_all := lw_g (lw_at lw_m13 159 rfl) rfl
theorem q3266 : (Jvm.Cond.fieldLink "RingHouseModel" (164 : Nat) "RingHouseModel" "frameX" "[I") ∈ lw_all := lw_g (lw_at lw_m13 160 rfl) rfl
theorem q3267 : (Jvm.Cond.fieldLink "RingHouseModel" (167 : Nat) "RingHouseModel" "framePNumber" "[I") ∈ lw_all := lw_g (lw_at lw_m13 161 rfl) rfl
theorem q3268 : (Jvm.Cond.fieldLink "RingHouseModel" (170 : Nat) "RingHouseModel" "framePPlace" "[I") ∈ lw_all := lw_g (lw_at lw_m13 162 rfl) rfl
theorem q3269 : (Jvm.Cond.fieldLink "RingHouseModel" (173 : Nat) "RingHouseModel" "framePRing" "[I") ∈ lw_all := lw_g (lw_at lw_m13 163 rfl) rfl
theorem q3270 : (Jvm.Cond.fieldLink "RingHouseModel" (176 : Nat) "RingHouseModel" "frameNumber" "[I") ∈ lw_all := lw_g (lw_at lw_m13 164 rfl) rfl
theorem q3271 : (Jvm.Cond.fieldLink "RingHouseModel" (179 : Nat) "RingHouseModel" "framePlace" "[I") ∈ lw_all := lw_g (lw_at lw_m13 165 rfl) rfl
theorem q3272 : (Jvm.Cond.fieldLink "RingHouseModel" (182 : Nat) "RingHouseModel" "frameRing" "[I") ∈ lw_all := lw_g (lw_at lw_m13 166 rfl) rfl
theorem q3273 : (Jvm.Cond.fieldLink "RingHouseModel" (185 : Nat) "RingHouseModel" "frameZero" "[Z") ∈ lw_all := lw_g (lw_at lw_m13 167 rfl) rfl
theorem q3274 : (Jvm.Cond.fieldLink "RingHouseModel" (188 : Nat) "RingHouseModel" "frameMinus" "[Z") ∈ lw_all := lw_g (lw_at lw_m13 168 rfl) rfl
theorem q3275 : (Jvm.Cond.fieldLink "RingHouseModel" (191 : Nat) "RingHouseModel" "events" "[I") ∈ lw_all := lw_g (lw_at lw_m13 169 rfl) rfl
theorem q3276 : (Jvm.Cond.fieldLink "RingHouseModel" (194 : Nat) "RingHouseModel" "event" "[J") ∈ lw_all := lw_g (lw_at lw_m13 170 rfl) rfl
theorem q3277 : (Jvm.Cond.fieldLink "RingHouseModel" (197 : Nat) "RingHouseModel" "sum" "[J") ∈ lw_all := lw_g (lw_at lw_m13 171 rfl) rfl
theorem q3278 : (Jvm.Cond.fieldLink "RingHouseModel" (200 : Nat) "RingHouseModel" "schedule" "[I") ∈ lw_all := lw_g (lw_at lw_m13 172 rfl) rfl
theorem q3279 : (Jvm.Cond.fieldLink "RingHouseModel" (792 : Nat) "RingHouseModel" "turn" "I") ∈ lw_all := lw_g (lw_at lw_m13 173 rfl) rfl
theorem q3280 : (Jvm.Cond.fieldLink "RingHouseModel" (505 : Nat) "RingHouseModel" "audits" "I") ∈ lw_all := lw_g (lw_at lw_m13 174 rfl) rfl
theorem q3281 : (Jvm.Cond.fieldLink "RingHouseModel" (203 : Nat) "RingHouseModel" "audit" "[I") ∈ lw_all := lw_g (lw_at lw_m13 175 rfl) rfl
theorem q3282 : (Jvm.Cond.fieldLink "RingHouseModel" (825 : Nat) "RingHouseModel" "textSize" "I") ∈ lw_all := lw_g (lw_at lw_m13 176 rfl) rfl
theorem q3283 : (Jvm.Cond.fieldLink "RingHouseModel" (206 : Nat) "RingHouseModel" "text" "[I") ∈ lw_all := lw_g (lw_at lw_m13 177 rfl) rfl
theorem q3284 : (Jvm.Cond.fieldLink "RingHouseModel" (209 : Nat) "RingHouseModel" "faultPlace" "I") ∈ lw_all := lw_g (lw_at lw_m13 178 rfl) rfl
theorem q3285 : (Jvm.Cond.fieldLink "RingHouseModel" (992 : Nat) "RingHouseModel" "listedSize" "I") ∈ lw_all := lw_g (lw_at lw_m13 179 rfl) rfl
theorem q3286 : (Jvm.Cond.fieldLink "RingHouseModel" (213 : Nat) "RingHouseModel" "listed" "[I") ∈ lw_all := lw_g (lw_at lw_m13 180 rfl) rfl
theorem q3287 : (Jvm.Cond.fieldLink "RingHouseModel" (1008 : Nat) "RingHouseModel" "tapeSize" "I") ∈ lw_all := lw_g (lw_at lw_m13 181 rfl) rfl
theorem q3288 : (Jvm.Cond.fieldLink "RingHouseModel" (217 : Nat) "RingHouseModel" "tape" "[I") ∈ lw_all := lw_g (lw_at lw_m13 182 rfl) rfl
theorem q3289 : (Jvm.Cond.fieldLink "RingHouseModel" (510 : Nat) "RingHouseModel" "fault" "I") ∈ lw_all := lw_g (lw_at lw_m13 183 rfl) rfl
theorem q3290 : (Jvm.Cond.fieldLink "RingHouseModel" (513 : Nat) "RingHouseModel" "atNumber" "I") ∈ lw_all := lw_g (lw_at lw_m13 184 rfl) rfl
theorem q3291 : (Jvm.Cond.fieldLink "RingHouseModel" (516 : Nat) "RingHouseModel" "atPlace" "I") ∈ lw_all := lw_g (lw_at lw_m13 185 rfl) rfl
theorem q3292 : (Jvm.Cond.fieldLink "RingHouseModel" (519 : Nat) "RingHouseModel" "atRing" "I") ∈ lw_all := lw_g (lw_at lw_m13 186 rfl) rfl
theorem q3293 : (Jvm.Cond.fieldLink "RingHouseModel" (555 : Nat) "RingHouseModel" "tNumber" "I") ∈ lw_all := lw_g (lw_at lw_m13 187 rfl) rfl
theorem q3294 : (Jvm.Cond.fieldLink "RingHouseModel" (558 : Nat) "RingHouseModel" "tPlace" "I") ∈ lw_all := lw_g (lw_at lw_m13 188 rfl) rfl
theorem q3295 : (Jvm.Cond.fieldLink "RingHouseModel" (561 : Nat) "RingHouseModel" "tRing" "I") ∈ lw_all := lw_g (lw_at lw_m13 189 rfl) rfl
theorem q3296 : (Jvm.Cond.fieldLink "RingHouseModel" (537 : Nat) "RingHouseModel" "which" "I") ∈ lw_all := lw_g (lw_at lw_m13 190 rfl) rfl
theorem q3297 : (Jvm.Cond.fieldLink "RingHouseModel" (546 : Nat) "RingHouseModel" "mode" "I") ∈ lw_all := lw_g (lw_at lw_m13 191 rfl) rfl
theorem q3298 : (Jvm.Cond.fieldLink "RingHouseModel" (564 : Nat) "RingHouseModel" "pointer" "I") ∈ lw_all := lw_g (lw_at lw_m13 192 rfl) rfl
theorem q3299 : (Jvm.Cond.fieldLink "RingHouseModel" (549 : Nat) "RingHouseModel" "index" "I") ∈ lw_all := lw_g (lw_at lw_m13 193 rfl) rfl
theorem q3300 : (Jvm.Cond.fieldLink "RingHouseModel" (552 : Nat) "RingHouseModel" "offset" "I") ∈ lw_all := lw_g (lw_at lw_m13 194 rfl) rfl
theorem q3301 : (Jvm.Cond.fieldLink "RingHouseModel" (689 : Nat) "RingHouseModel" "asked" "I") ∈ lw_all := lw_g (lw_at lw_m13 195 rfl) rfl
theorem q3302 : (Jvm.Cond.fieldLink "RingHouseModel" (837 : Nat) "RingHouseModel" "token" "I") ∈ lw_all := lw_g (lw_at lw_m13 196 rfl) rfl
theorem q3303 : (Jvm.Cond.fieldLink "RingHouseModel" (831 : Nat) "RingHouseModel" "from" "I") ∈ lw_all := lw_g (lw_at lw_m13 197 rfl) rfl
theorem q3304 : (Jvm.Cond.fieldLink "RingHouseModel" (828 : Nat) "RingHouseModel" "to" "I") ∈ lw_all := lw_g (lw_at lw_m13 198 rfl) rfl
theorem q3305 : (Jvm.Cond.fieldLink "RingHouseModel" (834 : Nat) "RingHouseModel" "end" "I") ∈ lw_all := lw_g (lw_at lw_m13 199 rfl) rfl
theorem q3306 : (Jvm.Cond.fieldLink "RingHouseModel" (813 : Nat) "RingHouseModel" "textFault" "I") ∈ lw_all := lw_g (lw_at lw_m13 200 rfl) rfl
theorem q3307 : (Jvm.Cond.fieldLink "RingHouseModel" (816 : Nat) "RingHouseModel" "textPlace" "I") ∈ lw_all := lw_g (lw_at lw_m13 201 rfl) rfl
theorem q3308 : (Jvm.Cond.fieldLink "RingHouseModel" (857 : Nat) "RingHouseModel" "labels" "I") ∈ lw_all := lw_g (lw_at lw_m13 202 rfl) rfl
theorem q3309 : (Jvm.Cond.fieldLink "RingHouseModel" (220 : Nat) "RingHouseModel" "labelName" "[J") ∈ lw_all := lw_g (lw_at lw_m13 203 rfl) rfl
theorem q3310 : (Jvm.Cond.fieldLink "RingHouseModel" (223 : Nat) "RingHouseModel" "labelPlace" "[I") ∈ lw_all := lw_g (lw_at lw_m13 204 rfl) rfl
theorem q3311 : (Jvm.Cond.fieldLink "RingHouseModel" (921 : Nat) "RingHouseModel" "links" "I") ∈ lw_all := lw_g (lw_at lw_m13 205 rfl) rfl
theorem q3312 : (Jvm.Cond.fieldLink "RingHouseModel" (226 : Nat) "RingHouseModel" "linkSegment" "[J") ∈ lw_all := lw_g (lw_at lw_m13 206 rfl) rfl
theorem q3313 : (Jvm.Cond.fieldLink "RingHouseModel" (229 : Nat) "RingHouseModel" "linkName" "[J") ∈ lw_all := lw_g (lw_at lw_m13 207 rfl) rfl
theorem q3314 : (Jvm.Cond.fieldLink "RingHouseModel" (957 : Nat) "RingHouseModel" "definitions" "I") ∈ lw_all := lw_g (lw_at lw_m13 208 rfl) rfl
theorem q3315 : (Jvm.Cond.fieldLink "RingHouseModel" (232 : Nat) "RingHouseModel" "definitionName" "[J") ∈ lw_all := lw_g (lw_at lw_m13 209 rfl) rfl
theorem q3316 : (Jvm.Cond.fieldLink "RingHouseModel" (235 : Nat) "RingHouseModel" "definitionPlace0" "[I") ∈ lw_all := lw_g (lw_at lw_m13 210 rfl) rfl
theorem q3317 : (Jvm.Cond.fieldLink "RingHouseModel" (918 : Nat) "RingHouseModel" "assembled" "I") ∈ lw_all := lw_g (lw_at lw_m13 211 rfl) rfl
theorem q3318 : (Jvm.Cond.fieldLink "RingHouseModel" (882 : Nat) "RingHouseModel" "again" "Z") ∈ lw_all := lw_g (lw_at lw_m13 212 rfl) rfl
theorem q3319 : (Jvm.Cond.fieldLink "RingHouseModel" (819 : Nat) "RingHouseModel" "lateFault" "I") ∈ lw_all := lw_g (lw_at lw_m13 213 rfl) rfl
theorem q3320 : (Jvm.Cond.fieldLink "RingHouseModel" (822 : Nat) "RingHouseModel" "latePlace" "I") ∈ lw_all := lw_g (lw_at lw_m13 214 rfl) rfl
theorem q3321 : (Jvm.Cond.fieldLink "RingHouseModel" (238 : Nat) "RingHouseModel" "program" "[J") ∈ lw_all := lw_g (lw_at lw_m13 215 rfl) rfl
theorem q3322 : (Jvm.Cond.fieldLink "RingHouseModel" (317 : Nat) "RingHouseModel" "operations" "[J") ∈ lw_all := lw_g (lw_at lw_m13 216 rfl) rfl
theorem q3323 : (Jvm.Cond.fieldLink "RingHouseModel" (328 : Nat) "RingHouseModel" "points" "[J") ∈ lw_all := lw_g (lw_at lw_m13 217 rfl) rfl
theorem q3324 : (Jvm.Cond.fieldLink "RingHouseModel" (876 : Nat) "RingHouseModel" "told" "I") ∈ lw_all := lw_g (lw_at lw_m13 218 rfl) rfl
theorem q3325 : (Jvm.Cond.fieldLink "RingHouseModel" (879 : Nat) "RingHouseModel" "toldN" "I") ∈ lw_all := lw_g (lw_at lw_m13 219 rfl) rfl
theorem q3326 : (Jvm.Cond.fieldLink "RingHouseModel" (1037 : Nat) "RingHouseModel" "at" "I") ∈ lw_all := lw_g (lw_at lw_m13 220 rfl) rfl
theorem q3327 : (Jvm.Cond.fieldLink "RingHouseModel" (1031 : Nat) "RingHouseModel" "tapeFault" "I") ∈ lw_all := lw_g (lw_at lw_m13 221 rfl) rfl
theorem q3328 : (Jvm.Cond.fieldLink "RingHouseModel" (1034 : Nat) "RingHouseModel" "tapePlace" "I") ∈ lw_all := lw_g (lw_at lw_m13 222 rfl) rfl
theorem q3329 : (Jvm.Cond.fieldLink "RingHouseModel" (1011 : Nat) "RingHouseModel" "check" "I") ∈ lw_all := lw_g (lw_at lw_m13 223 rfl) rfl
theorem q3330 : (Jvm.Cond.fieldLink "RingHouseModel" (1049 : Nat) "RingHouseModel" "reads" "I") ∈ lw_all := lw_g (lw_at lw_m13 224 rfl) rfl
theorem q3331 : (Jvm.Cond.fieldLink "RingHouseModel" (331 : Nat) "RingHouseModel" "readUp" "[I") ∈ lw_all := lw_g (lw_at lw_m13 225 rfl) rfl
theorem q3332 : (Jvm.Cond.fieldLink "RingHouseModel" (334 : Nat) "RingHouseModel" "readKind" "[I") ∈ lw_all := lw_g (lw_at lw_m13 226 rfl) rfl
theorem q3333 : (Jvm.Cond.fieldLink "RingHouseModel" (337 : Nat) "RingHouseModel" "readName" "[J") ∈ lw_all := lw_g (lw_at lw_m13 227 rfl) rfl
theorem q3334 : (Jvm.Cond.fieldLink "RingHouseModel" (340 : Nat) "RingHouseModel" "readLabel" "[I") ∈ lw_all := lw_g (lw_at lw_m13 228 rfl) rfl
theorem q3335 : (Jvm.Cond.fieldLink "RingHouseModel" (343 : Nat) "RingHouseModel" "readLimit" "[I") ∈ lw_all := lw_g (lw_at lw_m13 229 rfl) rfl
theorem q3336 : (Jvm.Cond.fieldLink "RingHouseModel" (346 : Nat) "RingHouseModel" "readUsed" "[J") ∈ lw_all := lw_g (lw_at lw_m13 230 rfl) rfl
theorem q3337 : (Jvm.Cond.fieldLink "RingHouseModel" (349 : Nat) "RingHouseModel" "readLeft" "[I") ∈ lw_all := lw_g (lw_at lw_m13 231 rfl) rfl
theorem q3338 : (Jvm.Cond.fieldLink "RingHouseModel" (352 : Nat) "RingHouseModel" "readNode" "[I") ∈ lw_all := lw_g (lw_at lw_m13 232 rfl) rfl
theorem q3339 : (Jvm.Cond.fieldLink "RingHouseModel" (1046 : Nat) "RingHouseModel" "makes" "Z") ∈ lw_all := lw_g (lw_at lw_m13 233 rfl) rfl
theorem q3340 : (Jvm.Cond.fieldLink "RingHouseModel" (1052 : Nat) "RingHouseModel" "into" "I") ∈ lw_all := lw_g (lw_at lw_m13 234 rfl) rfl
theorem q3341 : (Jvm.Cond.fieldLink "RingHouseModel" (1065 : Nat) "RingHouseModel" "intoUsed" "J") ∈ lw_all := lw_g (lw_at lw_m13 235 rfl) rfl
theorem q3342 : (Jvm.Cond.fieldLink "RingHouseModel" (355 : Nat) "RingHouseModel" "byLabel" "[I") ∈ lw_all := lw_g (lw_at lw_m13 236 rfl) rfl
theorem q3343 : (Jvm.Cond.fieldLink "RingHouseModel" (358 : Nat) "RingHouseModel" "seen" "[I") ∈ lw_all := lw_g (lw_at lw_m13 237 rfl) rfl
theorem q3344 : (Jvm.Cond.laysFinal "RingHouseModel" "RingHouseModel" "kind" "[I") ∈ lw_all := lw_g (lw_at lw_m13 238 rfl) rfl
theorem q3345 : (Jvm.Cond.soleField "RingHouseModel" "kind") ∈ lw_all := lw_g (lw_at lw_m13 239 rfl) rfl
theorem q3346 : (Jvm.Cond.laysFinal "RingHouseModel" "RingHouseModel" "name" "[J") ∈ lw_all := lw_g (lw_at lw_m14 0 rfl) rfl
theorem q3347 : (Jvm.Cond.soleField "RingHouseModel" "name") ∈ lw_all := lw_g (lw_at lw_m14 1 rfl) rfl
theorem q3348 : (Jvm.Cond.laysFinal "RingHouseModel" "RingHouseModel" "parent" "[I") ∈ lw_all := lw_g (lw_at lw_m14 2 rfl) rfl
theorem q3349 : (Jvm.Cond.soleField "RingHouseModel" "parent") ∈ lw_all := lw_g (lw_at lw_m14 3 rfl) rfl
theorem q3350 : (Jvm.Cond.laysFinal "RingHouseModel" "RingHouseModel" "label" "[I") ∈ lw_all := lw_g (lw_at lw_m14 4 rfl) rfl
theorem q3351 : (Jvm.Cond.soleField "RingHouseModel" "label") ∈ lw_all := lw_g (lw_at lw_m14 5 rfl) rfl
theorem q3352 : (Jvm.Cond.laysFinal "RingHouseModel" "RingHouseModel" "bracket" "[I") ∈ lw_all := lw_g (lw_at lw_m14 6 rfl) rfl
theorem q3353 : (Jvm.Cond.soleField "RingHouseModel" "bracket") ∈ lw_all := lw_g (lw_at lw_m14 7 rfl) rfl
theorem q3354 : (Jvm.Cond.laysFinal "RingHouseModel" "RingHouseModel" "gates" "[I") ∈ lw_all := lw_g (lw_at lw_m14 8 rfl) rfl
theorem q3355 : (Jvm.Cond.soleField "RingHouseModel" "gates") ∈ lw_all := lw_g (lw_at lw_m14 9 rfl) rfl
theorem q3356 : (Jvm.Cond.laysFinal "RingHouseModel" "RingHouseModel" "length" "[I") ∈ lw_all := lw_g (lw_at lw_m14 10 rfl) rfl
theorem q3357 : (Jvm.Cond.soleField "RingHouseModel" "length") ∈ lw_all := lw_g (lw_at lw_m14 11 rfl) rfl
theorem q3358 : (Jvm.Cond.laysFinal "RingHouseModel" "RingHouseModel" "limit" "[I") ∈ lw_all := lw_g (lw_at lw_m14 12 rfl) rfl
theorem q3359 : (Jvm.Cond.soleField "RingHouseModel" "limit") ∈ lw_all := lw_g (lw_at lw_m14 13 rfl) rfl
theorem q3360 : (Jvm.Cond.laysFinal "RingHouseModel" "RingHouseModel" "used" "[I") ∈ lw_all := lw_g (lw_at lw_m14 14 rfl) rfl
theorem q3361 : (Jvm.Cond.soleField "RingHouseModel" "used") ∈ lw_all := lw_g (lw_at lw_m14 15 rfl) rfl
theorem q3362 : (Jvm.Cond.laysFinal "RingHouseModel" "RingHouseModel" "refusals" "[I") ∈ lw_all := lw_g (lw_at lw_m14 16 rfl) rfl
theorem q3363 : (Jvm.Cond.soleField "RingHouseModel" "refusals") ∈ lw_all := lw_g (lw_at lw_m14 17 rfl) rfl
theorem q3364 : (Jvm.Cond.laysFinal "RingHouseModel" "RingHouseModel" "came" "[J") ∈ lw_all := lw_g (lw_at lw_m14 18 rfl) rfl
theorem q3365 : (Jvm.Cond.soleField "RingHouseModel" "came") ∈ lw_all := lw_g (lw_at lw_m14 19 rfl) rfl
theorem q3366 : (Jvm.Cond.lays "RingHouseModel" "RingHouseModel" "comings" "J") ∈ lw_all := lw_g (lw_at lw_m14 20 rfl) rfl
theorem q3367 : (Jvm.Cond.soleField "RingHouseModel" "comings") ∈ lw_all := lw_g (lw_at lw_m14 21 rfl) rfl
theorem q3368 : (Jvm.Cond.laysFinal "RingHouseModel" "RingHouseModel" "items" "[I") ∈ lw_all := lw_g (lw_at lw_m14 22 rfl) rfl
theorem q3369 : (Jvm.Cond.soleField "RingHouseModel" "items") ∈ lw_all := lw_g (lw_at lw_m14 23 rfl) rfl
theorem q3370 : (Jvm.Cond.laysFinal "RingHouseModel" "RingHouseModel" "item" "[I") ∈ lw_all := lw_g (lw_at lw_m14 24 rfl) rfl
theorem q3371 : (Jvm.Cond.soleField "RingHouseModel" "item") ∈ lw_all := lw_g (lw_at lw_m14 25 rfl) rfl
theorem q3372 : (Jvm.Cond.laysFinal "RingHouseModel" "RingHouseModel" "firsts" "[I") ∈ lw_all := lw_g (lw_at lw_m14 26 rfl) rfl
theorem q3373 : (Jvm.Cond.soleField "RingHouseModel" "firsts") ∈ lw_all := lw_g (lw_at lw_m14 27 rfl) rfl
theorem q3374 : (Jvm.Cond.laysFinal "RingHouseModel" "RingHouseModel" "first" "[I") ∈ lw_all := lw_g (lw_at lw_m14 28 rfl) rfl
theorem q3375 : (Jvm.Cond.soleField "RingHouseModel" "first") ∈ lw_all := lw_g (lw_at lw_m14 29 rfl) rfl
theorem q3376 : (Jvm.Cond.laysFinal "RingHouseModel" "RingHouseModel" "words" "[J") ∈ lw_all := lw_g (lw_at lw_m14 30 rfl) rfl
theorem q3377 : (Jvm.Cond.soleField "RingHouseModel" "words") ∈ lw_all := lw_g (lw_at lw_m14 31 rfl) rfl
theorem q3378 : (Jvm.Cond.laysFinal "RingHouseModel" "RingHouseModel" "letters" "[I") ∈ lw_all := lw_g (lw_at lw_m14 32 rfl) rfl
theorem q3379 : (Jvm.Cond.soleField "RingHouseModel" "letters") ∈ lw_all := lw_g (lw_at lw_m14 33 rfl) rfl
theorem q3380 : (Jvm.Cond.laysFinal "RingHouseModel" "RingHouseModel" "letter" "[J") ∈ lw_all := lw_g (lw_at lw_m14 34 rfl) rfl
theorem q3381 : (Jvm.Cond.soleField "RingHouseModel" "letter") ∈ lw_all := lw_g (lw_at lw_m14 35 rfl) rfl
theorem q3382 : (Jvm.Cond.laysFinal "RingHouseModel" "RingHouseModel" "letterLabel" "[I") ∈ lw_all := lw_g (lw_at lw_m14 36 rfl) rfl
theorem q3383 : (Jvm.Cond.soleField "RingHouseModel" "letterLabel") ∈ lw_all := lw_g (lw_at lw_m14 37 rfl) rfl
theorem q3384 : (Jvm.Cond.laysFinal "RingHouseModel" "RingHouseModel" "isProcess" "[Z") ∈ lw_all := lw_g (lw_at lw_m14 38 rfl) rfl
theorem q3385 : (Jvm.Cond.soleField "RingHouseModel" "isProcess") ∈ lw_all := lw_g (lw_at lw_m14 39 rfl) rfl
theorem q3386 : (Jvm.Cond.laysFinal "RingHouseModel" "RingHouseModel" "state" "[I") ∈ lw_all := lw_g (lw_at lw_m14 40 rfl) rfl
theorem q3387 : (Jvm.Cond.soleField "RingHouseModel" "state") ∈ lw_all := lw_g (lw_at lw_m14 41 rfl) rfl
theorem q3388 : (Jvm.Cond.laysFinal "RingHouseModel" "RingHouseModel" "person" "[I") ∈ lw_all := lw_g (lw_at lw_m14 42 rfl) rfl
theorem q3389 : (Jvm.Cond.soleField "RingHouseModel" "person") ∈ lw_all := lw_g (lw_at lw_m14 43 rfl) rfl
theorem q3390 : (Jvm.Cond.laysFinal "RingHouseModel" "RingHouseModel" "project" "[I") ∈ lw_all := lw_g (lw_at lw_m14 44 rfl) rfl
theorem q3391 : (Jvm.Cond.soleField "RingHouseModel" "project") ∈ lw_all := lw_g (lw_at lw_m14 45 rfl) rfl
theorem q3392 : (Jvm.Cond.laysFinal "RingHouseModel" "RingHouseModel" "clearance" "[I") ∈ lw_all := lw_g (lw_at lw_m14 46 rfl) rfl
theorem q3393 : (Jvm.Cond.soleField "RingHouseModel" "clearance") ∈ lw_all := lw_g (lw_at lw_m14 47 rfl) rfl
theorem q3394 : (Jvm.Cond.laysFinal "RingHouseModel" "RingHouseModel" "a" "[J") ∈ lw_all := lw_g (lw_at lw_m14 48 rfl) rfl
theorem q3395 : (Jvm.Cond.soleField "RingHouseModel" "a") ∈ lw_all := lw_g (lw_at lw_m14 49 rfl) rfl
theorem q3396 : (Jvm.Cond.laysFinal "RingHouseModel" "RingHouseModel" "q" "[J") ∈ lw_all := lw_g (lw_at lw_m14 50 rfl) rfl
theorem q3397 : (Jvm.Cond.soleField "RingHouseModel" "q") ∈ lw_all := lw_g (lw_at lw_m14 51 rfl) rfl
theorem q3398 : (Jvm.Cond.laysFinal "RingHouseModel" "RingHouseModel" "x" "[I") ∈ lw_all := lw_g (lw_at lw_m14 52 rfl) rfl
theorem q3399 : (Jvm.Cond.soleField "RingHouseModel" "x") ∈ lw_all := lw_g (lw_at lw_m14 53 rfl) rfl
theorem q3400 : (Jvm.Cond.laysFinal "RingHouseModel" "RingHouseModel" "pNumber" "[I") ∈ lw_all := lw_g (lw_at lw_m14 54 rfl) rfl
theorem q3401 : (Jvm.Cond.soleField "RingHouseModel" "pNumber") ∈ lw_all := lw_g (lw_at lw_m14 55 rfl) rfl
theorem q3402 : (Jvm.Cond.laysFinal "RingHouseModel" "RingHouseModel" "pPlace" "[I") ∈ lw_all := lw_g (lw_at lw_m14 56 rfl) rfl
theorem q3403 : (Jvm.Cond.soleField "RingHouseModel" "pPlace") ∈ lw_all := lw_g (lw_at lw_m14 57 rfl) rfl
theorem q3404 : (Jvm.Cond.laysFinal "RingHouseModel" "RingHouseModel" "pRing" "[I") ∈ lw_all := lw_g (lw_at lw_m14 58 rfl) rfl
theorem q3405 : (Jvm.Cond.soleField "RingHouseModel" "pRing") ∈ lw_all := lw_g (lw_at lw_m14 59 rfl) rfl
theorem q3406 : (Jvm.Cond.laysFinal "RingHouseModel" "RingHouseModel" "number" "[I") ∈ lw_all := lw_g (lw_at lw_m14 60 rfl) rfl
theorem q3407 : (Jvm.Cond.soleField "RingHouseModel" "number") ∈ lw_all := lw_g (lw_at lw_m14 61 rfl) rfl
theorem q3408 : (Jvm.Cond.laysFinal "RingHouseModel" "RingHouseModel" "place" "[I") ∈ lw_all := lw_g (lw_at lw_m14 62 rfl) rfl
theorem q3409 : (Jvm.Cond.soleField "RingHouseModel" "place") ∈ lw_all := lw_g (lw_at lw_m14 63 rfl) rfl
theorem q3410 : (Jvm.Cond.laysFinal "RingHouseModel" "RingHouseModel" "ring" "[I") ∈ lw_all := lw_g (lw_at lw_m14 64 rfl) rfl
theorem q3411 : (Jvm.Cond.soleField "RingHouseModel" "ring") ∈ lw_all := lw_g (lw_at lw_m14 65 rfl) rfl
theorem q3412 : (Jvm.Cond.laysFinal "RingHouseModel" "RingHouseModel" "zero" "[Z") ∈ lw_all := lw_g (lw_at lw_m14 66 rfl) rfl
theorem q3413 : (Jvm.Cond.soleField "RingHouseModel" "zero") ∈ lw_all := lw_g (lw_at lw_m14 67 rfl) rfl
theorem q3414 : (Jvm.Cond.laysFinal "RingHouseModel" "RingHouseModel" "minus" "[Z") ∈ lw_all := lw_g (lw_at lw_m14 68 rfl) rfl
theorem q3415 : (Jvm.Cond.soleField "RingHouseModel" "minus") ∈ lw_all := lw_g (lw_at lw_m14 69 rfl) rfl
theorem q3416 : (Jvm.Cond.laysFinal "RingHouseModel" "RingHouseModel" "ticks" "[I") ∈ lw_all := lw_g (lw_at lw_m14 70 rfl) rfl
theorem q3417 : (Jvm.Cond.soleField "RingHouseModel" "ticks") ∈ lw_all := lw_g (lw_at lw_m14 71 rfl) rfl
theorem q3418 : (Jvm.Cond.laysFinal "RingHouseModel" "RingHouseModel" "stacks" "[J") ∈ lw_all := lw_g (lw_at lw_m14 72 rfl) rfl
theorem q3419 : (Jvm.Cond.soleField "RingHouseModel" "stacks") ∈ lw_all := lw_g (lw_at lw_m14 73 rfl) rfl
theorem q3420 : (Jvm.Cond.laysFinal "RingHouseModel" "RingHouseModel" "known" "[I") ∈ lw_all := lw_g (lw_at lw_m14 74 rfl) rfl
theorem q3421 : (Jvm.Cond.soleField "RingHouseModel" "known") ∈ lw_all := lw_g (lw_at lw_m14 75 rfl) rfl
theorem q3422 : (Jvm.Cond.laysFinal "RingHouseModel" "RingHouseModel" "link" "[J") ∈ lw_all := lw_g (lw_at lw_m14 76 rfl) rfl
theorem q3423 : (Jvm.Cond.soleField "RingHouseModel" "link") ∈ lw_all := lw_g (lw_at lw_m14 77 rfl) rfl
theorem q3424 : (Jvm.Cond.laysFinal "RingHouseModel" "RingHouseModel" "working" "[I") ∈ lw_all := lw_g (lw_at lw_m14 78 rfl) rfl
theorem q3425 : (Jvm.Cond.soleField "RingHouseModel" "working") ∈ lw_all := lw_g (lw_at lw_m14 79 rfl) rfl
theorem q3426 : (Jvm.Cond.laysFinal "RingHouseModel" "RingHouseModel" "search" "[I") ∈ lw_all := lw_g (lw_at lw_m14 80 rfl) rfl
theorem q3427 : (Jvm.Cond.soleField "RingHouseModel" "search") ∈ lw_all := lw_g (lw_at lw_m14 81 rfl) rfl
theorem q3428 : (Jvm.Cond.laysFinal "RingHouseModel" "RingHouseModel" "hasHandler" "[Z") ∈ lw_all := lw_g (lw_at lw_m14 82 rfl) rfl
theorem q3429 : (Jvm.Cond.soleField "RingHouseModel" "hasHandler") ∈ lw_all := lw_g (lw_at lw_m14 83 rfl) rfl
theorem q3430 : (Jvm.Cond.laysFinal "RingHouseModel" "RingHouseModel" "handlerNumber" "[I") ∈ lw_all := lw_g (lw_at lw_m14 84 rfl) rfl
theorem q3431 : (Jvm.Cond.soleField "RingHouseModel" "handlerNumber") ∈ lw_all := lw_g (lw_at lw_m14 85 rfl) rfl
theorem q3432 : (Jvm.Cond.laysFinal "RingHouseModel" "RingHouseModel" "handlerPlace" "[I") ∈ lw_all := lw_g (lw_at lw_m14 86 rfl) rfl
theorem q3433 : (Jvm.Cond.soleField "RingHouseModel" "handlerPlace") ∈ lw_all := lw_g (lw_at lw_m14 87 rfl) rfl
theorem q3434 : (Jvm.Cond.laysFinal "RingHouseModel" "RingHouseModel" "handlerRing" "[I") ∈ lw_all := lw_g (lw_at lw_m14 88 rfl) rfl
theorem q3435 : (Jvm.Cond.soleField "RingHouseModel" "handlerRing") ∈ lw_all := lw_g (lw_at lw_m14 89 rfl) rfl
theorem q3436 : (Jvm.Cond.laysFinal "RingHouseModel" "RingHouseModel" "messages" "[I") ∈ lw_all := lw_g (lw_at lw_m14 90 rfl) rfl
theorem q3437 : (Jvm.Cond.soleField "RingHouseModel" "messages") ∈ lw_all := lw_g (lw_at lw_m14 91 rfl) rfl
theorem q3438 : (Jvm.Cond.laysFinal "RingHouseModel" "RingHouseModel" "message" "[J") ∈ lw_all := lw_g (lw_at lw_m14 92 rfl) rfl
theorem q3439 : (Jvm.Cond.soleField "RingHouseModel" "message") ∈ lw_all := lw_g (lw_at lw_m14 93 rfl) rfl
theorem q3440 : (Jvm.Cond.laysFinal "RingHouseModel" "RingHouseModel" "frames" "[I") ∈ lw_all := lw_g (lw_at lw_m14 94 rfl) rfl
theorem q3441 : (Jvm.Cond.soleField "RingHouseModel" "frames") ∈ lw_all := lw_g (lw_at lw_m14 95 rfl) rfl
theorem q3442 : (Jvm.Cond.laysFinal "RingHouseModel" "RingHouseModel" "frameA" "[J") ∈ lw_all := lw_g (lw_at lw_m14 96 rfl) rfl
theorem q3443 : (Jvm.Cond.soleField "RingHouseModel" "frameA") ∈ lw_all := lw_g (lw_at lw_m14 97 rfl) rfl
theorem q3444 : (Jvm.Cond.laysFinal "RingHouseModel" "RingHouseModel" "frameQ" "[J") ∈ lw_all := lw_g (lw_at lw_m14 98 rfl) rfl
theorem q3445 : (Jvm.Cond.soleField "RingHouseModel" "frameQ") ∈ lw_all := lw_g (lw_at lw_m14 99 rfl) rfl
theorem q3446 : (Jvm.Cond.laysFinal "RingHouseModel" "RingHouseModel" "frameX" "[I") ∈ lw_all := lw_g (lw_at lw_m14 100 rfl) rfl
theorem q3447 : (Jvm.Cond.soleField "RingHouseModel" "frameX") ∈ lw_all := lw_g (lw_at lw_m14 101 rfl) rfl
theorem q3448 : (Jvm.Cond.laysFinal "RingHouseModel" "RingHouseModel" "framePNumber" "[I") ∈ lw_all := lw_g (lw_at lw_m14 102 rfl) rfl
theorem q3449 : (Jvm.Cond.soleField "RingHouseModel" "framePNumber") ∈ lw_all := lw_g (lw_at lw_m14 103 rfl) rfl
theorem q3450 : (Jvm.Cond.laysFinal "RingHouseModel" "RingHouseModel" "framePPlace" "[I") ∈ lw_all := lw_g (lw_at lw_m14 104 rfl) rfl
theorem q3451 : (Jvm.Cond.soleField "RingHouseModel" "framePPlace") ∈ lw_all := lw_g (lw_at lw_m14 105 rfl) rfl
theorem q3452 : (Jvm.Cond.laysFinal "RingHouseModel" "RingHouseModel" "framePRing" "[I") ∈ lw_all := lw_g (lw_at lw_m14 106 rfl) rfl
theorem q3453 : (Jvm.Cond.soleField "RingHouseModel" "framePRing") ∈ lw_all := lw_g (lw_at lw_m14 107 rfl) rfl
theorem q3454 : (Jvm.Cond.laysFinal "RingHouseModel" "RingHouseModel" "frameNumber" "[I") ∈ lw_all := lw_g (lw_at lw_m14 108 rfl) rfl
theorem q3455 : (Jvm.Cond.soleField "RingHouseModel" "frameNumber") ∈ lw_all := lw_g (lw_at lw_m14 109 rfl) rfl
theorem q3456 : (Jvm.Cond.laysFinal "RingHouseModel" "RingHouseModel" "framePlace" "[I") ∈ lw_all := lw_g (lw_at lw_m14 110 rfl) rfl
theorem q3457 : (Jvm.Cond.soleField "RingHouseModel" "framePlace") ∈ lw_all := lw_g (lw_at lw_m14 111 rfl) rfl
theorem q3458 : (Jvm.Cond.laysFinal "RingHouseModel" "RingHouseModel" "frameRing" "[I") ∈ lw_all := lw_g (lw_at lw_m14 112 rfl) rfl
theorem q3459 : (Jvm.Cond.soleField "RingHouseModel" "frameRing") ∈ lw_all := lw_g (lw_at lw_m14 113 rfl) rfl
theorem q3460 : (Jvm.Cond.laysFinal "RingHouseModel" "RingHouseModel" "frameZero" "[Z") ∈ lw_all := lw_g (lw_at lw_m14 114 rfl) rfl
theorem q3461 : (Jvm.Cond.soleField "RingHouseModel" "frameZero") ∈ lw_all := lw_g (lw_at lw_m14 115 rfl) rfl
theorem q3462 : (Jvm.Cond.laysFinal "RingHouseModel" "RingHouseModel" "frameMinus" "[Z") ∈ lw_all := lw_g (lw_at lw_m14 116 rfl) rfl
theorem q3463 : (Jvm.Cond.soleField "RingHouseModel" "frameMinus") ∈ lw_all := lw_g (lw_at lw_m14 117 rfl) rfl
theorem q3464 : (Jvm.Cond.laysFinal "RingHouseModel" "RingHouseModel" "events" "[I") ∈ lw_all := lw_g (lw_at lw_m14 118 rfl) rfl
theorem q3465 : (Jvm.Cond.soleField "RingHouseModel" "events") ∈ lw_all := lw_g (lw_at lw_m14 119 rfl) rfl
theorem q3466 : (Jvm.Cond.laysFinal "RingHouseModel" "RingHouseModel" "event" "[J") ∈ lw_all := lw_g (lw_at lw_m14 120 rfl) rfl
theorem q3467 : (Jvm.Cond.soleField "RingHouseModel" "event") ∈ lw_all := lw_g (lw_at lw_m14 121 rfl) rfl
theorem q3468 : (Jvm.Cond.laysFinal "RingHouseModel" "RingHouseModel" "sum" "[J") ∈ lw_all := lw_g (lw_at lw_m14 122 rfl) rfl
theorem q3469 : (Jvm.Cond.soleField "RingHouseModel" "sum") ∈ lw_all := lw_g (lw_at lw_m14 123 rfl) rfl
theorem q3470 : (Jvm.Cond.laysFinal "RingHouseModel" "RingHouseModel" "schedule" "[I") ∈ lw_all := lw_g (lw_at lw_m14 124 rfl) rfl
theorem q3471 : (Jvm.Cond.soleField "RingHouseModel" "schedule") ∈ lw_all := lw_g (lw_at lw_m14 125 rfl) rfl
theorem q3472 : (Jvm.Cond.lays "RingHouseModel" "RingHouseModel" "turn" "I") ∈ lw_all := lw_g (lw_at lw_m14 126 rfl) rfl
theorem q3473 : (Jvm.Cond.soleField "RingHouseModel" "turn") ∈ lw_all := lw_g (lw_at lw_m14 127 rfl) rfl
theorem q3474 : (Jvm.Cond.lays "RingHouseModel" "RingHouseModel" "audits" "I") ∈ lw_all := lw_g (lw_at lw_m14 128 rfl) rfl
theorem q3475 : (Jvm.Cond.soleField "RingHouseModel" "audits") ∈ lw_all := lw_g (lw_at lw_m14 129 rfl) rfl
theorem q3476 : (Jvm.Cond.laysFinal "RingHouseModel" "RingHouseModel" "audit" "[I") ∈ lw_all := lw_g (lw_at lw_m14 130 rfl) rfl
theorem q3477 : (Jvm.Cond.soleField "RingHouseModel" "audit") ∈ lw_all := lw_g (lw_at lw_m14 131 rfl) rfl
theorem q3478 : (Jvm.Cond.lays "RingHouseModel" "RingHouseModel" "textSize" "I") ∈ lw_all := lw_g (lw_at lw_m14 132 rfl) rfl
theorem q3479 : (Jvm.Cond.soleField "RingHouseModel" "textSize") ∈ lw_all := lw_g (lw_at lw_m14 133 rfl) rfl
theorem q3480 : (Jvm.Cond.laysFinal "RingHouseModel" "RingHouseModel" "text" "[I") ∈ lw_all := lw_g (lw_at lw_m14 134 rfl) rfl
theorem q3481 : (Jvm.Cond.soleField "RingHouseModel" "text") ∈ lw_all := lw_g (lw_at lw_m14 135 rfl) rfl
theorem q3482 : (Jvm.Cond.lays "RingHouseModel" "RingHouseModel" "faultPlace" "I") ∈ lw_all := lw_g (lw_at lw_m14 136 rfl) rfl
theorem q3483 : (Jvm.Cond.soleField "RingHouseModel" "faultPlace") ∈ lw_all := lw_g (lw_at lw_m14 137 rfl) rfl
theorem q3484 : (Jvm.Cond.lays "RingHouseModel" "RingHouseModel" "listedSize" "I") ∈ lw_all := lw_g (lw_at lw_m14 138 rfl) rfl
theorem q3485 : (Jvm.Cond.soleField "RingHouseModel" "listedSize") ∈ lw_all := lw_g (lw_at lw_m14 139 rfl) rfl
theorem q3486 : (Jvm.Cond.laysFinal "RingHouseModel" "RingHouseModel" "listed" "[I") ∈ lw_all := lw_g (lw_at lw_m14 140 rfl) rfl
theorem q3487 : (Jvm.Cond.soleField "RingHouseModel" "listed") ∈ lw_all := lw_g (lw_at lw_m14 141 rfl) rfl
theorem q3488 : (Jvm.Cond.lays "RingHouseModel" "RingHouseModel" "tapeSize" "I") ∈ lw_all := lw_g (lw_at lw_m14 142 rfl) rfl
theorem q3489 : (Jvm.Cond.soleField "RingHouseModel" "tapeSize") ∈ lw_all := lw_g (lw_at lw_m14 143 rfl) rfl
theorem q3490 : (Jvm.Cond.laysFinal "RingHouseModel" "RingHouseModel" "tape" "[I") ∈ lw_all := lw_g (lw_at lw_m14 144 rfl) rfl
theorem q3491 : (Jvm.Cond.soleField "RingHouseModel" "tape") ∈ lw_all := lw_g (lw_at lw_m14 145 rfl) rfl
theorem q3492 : (Jvm.Cond.lays "RingHouseModel" "RingHouseModel" "fault" "I") ∈ lw_all := lw_g (lw_at lw_m14 146 rfl) rfl
theorem q3493 : (Jvm.Cond.soleField "RingHouseModel" "fault") ∈ lw_all := lw_g (lw_at lw_m14 147 rfl) rfl
theorem q3494 : (Jvm.Cond.lays "RingHouseModel" "RingHouseModel" "atNumber" "I") ∈ lw_all := lw_g (lw_at lw_m14 148 rfl) rfl
theorem q3495 : (Jvm.Cond.soleField "RingHouseModel" "atNumber") ∈ lw_all := lw_g (lw_at lw_m14 149 rfl) rfl
theorem q3496 : (Jvm.Cond.lays "RingHouseModel" "RingHouseModel" "atPlace" "I") ∈ lw_all := lw_g (lw_at lw_m14 150 rfl) rfl
theorem q3497 : (Jvm.Cond.soleField "RingHouseModel" "atPlace") ∈ lw_all := lw_g (lw_at lw_m14 151 rfl) rfl
theorem q3498 : (Jvm.Cond.lays "RingHouseModel" "RingHouseModel" "atRing" "I") ∈ lw_all := lw_g (lw_at lw_m14 152 rfl) rfl
theorem q3499 : (Jvm.Cond.soleField "RingHouseModel" "atRing") ∈ lw_all := lw_g (lw_at lw_m14 153 rfl) rfl
theorem q3500 : (Jvm.Cond.lays "RingHouseModel" "RingHouseModel" "tNumber" "I") ∈ lw_all := lw_g (lw_at lw_m14 154 rfl) rfl
theorem q3501 : (Jvm.Cond.soleField "RingHouseModel" "tNumber") ∈ lw_all := lw_g (lw_at lw_m14 155 rfl) rfl
theorem q3502 : (Jvm.Cond.lays "RingHouseModel" "RingHouseModel" "tPlace" "I") ∈ lw_all := lw_g (lw_at lw_m14 156 rfl) rfl
theorem q3503 : (Jvm.Cond.soleField "RingHouseModel" "tPlace") ∈ lw_all := lw_g (lw_at lw_m14 157 rfl) rfl
theorem q3504 : (Jvm.Cond.lays "RingHouseModel" "RingHouseModel" "tRing" "I") ∈ lw_all := lw_g (lw_at lw_m14 158 rfl) rfl
theorem q3505 : (Jvm.Cond.soleField "RingHouseModel" "tRing") ∈ lw_all := lw_g (lw_at lw_m14 159 rfl) rfl
theorem q3506 : (Jvm.Cond.lays "RingHouseModel" "RingHouseModel" "which" "I") ∈ lw_all := lw_g (lw_at lw_m14 160 rfl) rfl
theorem q3507 : (Jvm.Cond.soleField "RingHouseModel" "which") ∈ lw_all := lw_g (lw_at lw_m14 161 rfl) rfl
theorem q3508 : (Jvm.Cond.lays "RingHouseModel" "RingHouseModel" "mode" "I") ∈ lw_all := lw_g (lw_at lw_m14 162 rfl) rfl
theorem q3509 : (Jvm.Cond.soleField "RingHouseModel" "mode") ∈ lw_all := lw_g (lw_at lw_m14 163 rfl) rfl
theorem q3510 : (Jvm.Cond.lays "RingHouseModel" "RingHouseModel" "pointer" "I") ∈ lw_all := lw_g (lw_at lw_m14 164 rfl) rfl
theorem q3511 : (Jvm.Cond.soleField "RingHouseModel" "pointer") ∈ lw_all := lw_g (lw_at lw_m14 165 rfl) rfl
theorem q3512 : (Jvm.Cond.lays "RingHouseModel" "RingHouseModel" "index" "I") ∈ lw_all := lw_g (lw_at lw_m14 166 rfl) rfl
theorem q3513 : (Jvm.Cond.soleField "RingHouseModel" "index") ∈ lw_all := lw_g (lw_at lw_m14 167 rfl) rfl
theorem q3514 : (Jvm.Cond.lays "RingHouseModel" "RingHouseModel" "offset" "I") ∈ lw_all := lw_g (lw_at lw_m14 168 rfl) rfl
theorem q3515 : (Jvm.Cond.soleField "RingHouseModel" "offset") ∈ lw_all := lw_g (lw_at lw_m14 169 rfl) rfl
theorem q3516 : (Jvm.Cond.lays "RingHouseModel" "RingHouseModel" "asked" "I") ∈ lw_all := lw_g (lw_at lw_m14 170 rfl) rfl
theorem q3517 : (Jvm.Cond.soleField "RingHouseModel" "asked") ∈ lw_all := lw_g (lw_at lw_m14 171 rfl) rfl
theorem q3518 : (Jvm.Cond.lays "RingHouseModel" "RingHouseModel" "token" "I") ∈ lw_all := lw_g (lw_at lw_m14 172 rfl) rfl
theorem q3519 : (Jvm.Cond.soleField "RingHouseModel" "token") ∈ lw_all := lw_g (lw_at lw_m14 173 rfl) rfl
theorem q3520 : (Jvm.Cond.lays "RingHouseModel" "RingHouseModel" "from" "I") ∈ lw_all := lw_g (lw_at lw_m14 174 rfl) rfl
theorem q3521 : (Jvm.Cond.soleField "RingHouseModel" "from") ∈ lw_all := lw_g (lw_at lw_m14 175 rfl) rfl
theorem q3522 : (Jvm.Cond.lays "RingHouseModel" "RingHouseModel" "to" "I") ∈ lw_all := lw_g (lw_at lw_m14 176 rfl) rfl
theorem q3523 : (Jvm.Cond.soleField "RingHouseModel" "to") ∈ lw_all := lw_g (lw_at lw_m14 177 rfl) rfl
theorem q3524 : (Jvm.Cond.lays "RingHouseModel" "RingHouseModel" "end" "I") ∈ lw_all := lw_g (lw_at lw_m14 178 rfl) rfl
theorem q3525 : (Jvm.Cond.soleField "RingHouseModel" "end") ∈ lw_all := lw_g (lw_at lw_m14 179 rfl) rfl
theorem q3526 : (Jvm.Cond.lays "RingHouseModel" "RingHouseModel" "textFault" "I") ∈ lw_all := lw_g (lw_at lw_m14 180 rfl) rfl
theorem q3527 : (Jvm.Cond.soleField "RingHouseModel" "textFault") ∈ lw_all := lw_g (lw_at lw_m14 181 rfl) rfl
theorem q3528 : (Jvm.Cond.lays "RingHouseModel" "RingHouseModel" "textPlace" "I") ∈ lw_all := lw_g (lw_at lw_m14 182 rfl) rfl
theorem q3529 : (Jvm.Cond.soleField "RingHouseModel" "textPlace") ∈ lw_all := lw_g (lw_at lw_m14 183 rfl) rfl
theorem q3530 : (Jvm.Cond.lays "RingHouseModel" "RingHouseModel" "labels" "I") ∈ lw_all := lw_g (lw_at lw_m14 184 rfl) rfl
theorem q3531 : (Jvm.Cond.soleField "RingHouseModel" "labels") ∈ lw_all := lw_g (lw_at lw_m14 185 rfl) rfl
theorem q3532 : (Jvm.Cond.laysFinal "RingHouseModel" "RingHouseModel" "labelName" "[J") ∈ lw_all := lw_g (lw_at lw_m14 186 rfl) rfl
theorem q3533 : (Jvm.Cond.soleField "RingHouseModel" "labelName") ∈ lw_all := lw_g (lw_at lw_m14 187 rfl) rfl
theorem q3534 : (Jvm.Cond.laysFinal "RingHouseModel" "RingHouseModel" "labelPlace" "[I") ∈ lw_all := lw_g (lw_at lw_m14 188 rfl) rfl
theorem q3535 : (Jvm.Cond.soleField "RingHouseModel" "labelPlace") ∈ lw_all := lw_g (lw_at lw_m14 189 rfl) rfl
theorem q3536 : (Jvm.Cond.lays "RingHouseModel" "RingHouseModel" "links" "I") ∈ lw_all := lw_g (lw_at lw_m14 190 rfl) rfl
theorem q3537 : (Jvm.Cond.soleField "RingHouseModel" "links") ∈ lw_all := lw_g (lw_at lw_m14 191 rfl) rfl
theorem q3538 : (Jvm.Cond.laysFinal "RingHouseModel" "RingHouseModel" "linkSegment" "[J") ∈ lw_all := lw_g (lw_at lw_m14 192 rfl) rfl
theorem q3539 : (Jvm.Cond.soleField "RingHouseModel" "linkSegment") ∈ lw_all := lw_g (lw_at lw_m14 193 rfl) rfl
theorem q3540 : (Jvm.Cond.laysFinal "RingHouseModel" "RingHouseModel" "linkName" "[J") ∈ lw_all := lw_g (lw_at lw_m14 194 rfl) rfl
theorem q3541 : (Jvm.Cond.soleField "RingHouseModel" "linkName") ∈ lw_all := lw_g (lw_at lw_m14 195 rfl) rfl
theorem q3542 : (Jvm.Cond.lays "RingHouseModel" "RingHouseModel" "definitions" "I") ∈ lw_all := lw_g (lw_at lw_m14 196 rfl) rfl
theorem q3543 : (Jvm.Cond.soleField "RingHouseModel" "definitions") ∈ lw_all := lw_g (lw_at lw_m14 197 rfl) rfl
theorem q3544 : (Jvm.Cond.laysFinal "RingHouseModel" "RingHouseModel" "definitionName" "[J") ∈ lw_all := lw_g (lw_at lw_m14 198 rfl) rfl
theorem q3545 : (Jvm.Cond.soleField "RingHouseModel" "definitionName") ∈ lw_all := lw_g (lw_at lw_m14 199 rfl) rfl
theorem q3546 : (Jvm.Cond.laysFinal "RingHouseModel" "RingHouseModel" "definitionPlace0" "[I") ∈ lw_all := lw_g (lw_at lw_m14 200 rfl) rfl
theorem q3547 : (Jvm.Cond.soleField "RingHouseModel" "definitionPlace0") ∈ lw_all := lw_g (lw_at lw_m14 201 rfl) rfl
theorem q3548 : (Jvm.Cond.lays "RingHouseModel" "RingHouseModel" "assembled" "I") ∈ lw_all := lw_g (lw_at lw_m14 202 rfl) rfl
theorem q3549 : (Jvm.Cond.soleField "RingHouseModel" "assembled") ∈ lw_all := lw_g (lw_at lw_m14 203 rfl) rfl
theorem q3550 : (Jvm.Cond.lays "RingHouseModel" "RingHouseModel" "again" "Z") ∈ lw_all := lw_g (lw_at lw_m14 204 rfl) rfl
theorem q3551 : (Jvm.Cond.soleField "RingHouseModel" "again") ∈ lw_all := lw_g (lw_at lw_m14 205 rfl) rfl
theorem q3552 : (Jvm.Cond.lays "RingHouseModel" "RingHouseModel" "result" "J") ∈ lw_all := lw_g (lw_at lw_m14 206 rfl) rfl
theorem q3553 : (Jvm.Cond.soleField "RingHouseModel" "result") ∈ lw_all := lw_g (lw_at lw_m14 207 rfl) rfl
theorem q3554 : (Jvm.Cond.lays "RingHouseModel" "RingHouseModel" "lateFault" "I") ∈ lw_all := lw_g (lw_at lw_m14 208 rfl) rfl
theorem q3555 : (Jvm.Cond.soleField "RingHouseModel" "lateFault") ∈ lw_all := lw_g (lw_at lw_m14 209 rfl) rfl
theorem q3556 : (Jvm.Cond.lays "RingHouseModel" "RingHouseModel" "latePlace" "I") ∈ lw_all := lw_g (lw_at lw_m14 210 rfl) rfl
theorem q3557 : (Jvm.Cond.soleField "RingHouseModel" "latePlace") ∈ lw_all := lw_g (lw_at lw_m14 211 rfl) rfl
theorem q3558 : (Jvm.Cond.laysFinal "RingHouseModel" "RingHouseModel" "program" "[J") ∈ lw_all := lw_g (lw_at lw_m14 212 rfl) rfl
theorem q3559 : (Jvm.Cond.soleField "RingHouseModel" "program") ∈ lw_all := lw_g (lw_at lw_m14 213 rfl) rfl
theorem q3560 : (Jvm.Cond.laysFinal "RingHouseModel" "RingHouseModel" "operations" "[J") ∈ lw_all := lw_g (lw_at lw_m14 214 rfl) rfl
theorem q3561 : (Jvm.Cond.soleField "RingHouseModel" "operations") ∈ lw_all := lw_g (lw_at lw_m14 215 rfl) rfl
theorem q3562 : (Jvm.Cond.laysFinal "RingHouseModel" "RingHouseModel" "points" "[J") ∈ lw_all := lw_g (lw_at lw_m14 216 rfl) rfl
theorem q3563 : (Jvm.Cond.soleField "RingHouseModel" "points") ∈ lw_all := lw_g (lw_at lw_m14 217 rfl) rfl
theorem q3564 : (Jvm.Cond.lays "RingHouseModel" "RingHouseModel" "told" "I") ∈ lw_all := lw_g (lw_at lw_m14 218 rfl) rfl
theorem q3565 : (Jvm.Cond.soleField "RingHouseModel" "told") ∈ lw_all := lw_g (lw_at lw_m14 219 rfl) rfl
theorem q3566 : (Jvm.Cond.lays "RingHouseModel" "RingHouseModel" "toldN" "I") ∈ lw_all := lw_g (lw_at lw_m14 220 rfl) rfl
theorem q3567 : (Jvm.Cond.soleField "RingHouseModel" "toldN") ∈ lw_all := lw_g (lw_at lw_m14 221 rfl) rfl
theorem q3568 : (Jvm.Cond.lays "RingHouseModel" "RingHouseModel" "at" "I") ∈ lw_all := lw_g (lw_at lw_m14 222 rfl) rfl
theorem q3569 : (Jvm.Cond.soleField "RingHouseModel" "at") ∈ lw_all := lw_g (lw_at lw_m14 223 rfl) rfl
theorem q3570 : (Jvm.Cond.lays "RingHouseModel" "RingHouseModel" "tapeFault" "I") ∈ lw_all := lw_g (lw_at lw_m14 224 rfl) rfl
theorem q3571 : (Jvm.Cond.soleField "RingHouseModel" "tapeFault") ∈ lw_all := lw_g (lw_at lw_m14 225 rfl) rfl
theorem q3572 : (Jvm.Cond.lays "RingHouseModel" "RingHouseModel" "tapePlace" "I") ∈ lw_all := lw_g (lw_at lw_m14 226 rfl) rfl
theorem q3573 : (Jvm.Cond.soleField "RingHouseModel" "tapePlace") ∈ lw_all := lw_g (lw_at lw_m14 227 rfl) rfl
theorem q3574 : (Jvm.Cond.lays "RingHouseModel" "RingHouseModel" "check" "I") ∈ lw_all := lw_g (lw_at lw_m14 228 rfl) rfl
theorem q3575 : (Jvm.Cond.soleField "RingHouseModel" "check") ∈ lw_all := lw_g (lw_at lw_m14 229 rfl) rfl
theorem q3576 : (Jvm.Cond.lays "RingHouseModel" "RingHouseModel" "reads" "I") ∈ lw_all := lw_g (lw_at lw_m14 230 rfl) rfl
theorem q3577 : (Jvm.Cond.soleField "RingHouseModel" "reads") ∈ lw_all := lw_g (lw_at lw_m14 231 rfl) rfl
theorem q3578 : (Jvm.Cond.laysFinal "RingHouseModel" "RingHouseModel" "readUp" "[I") ∈ lw_all := lw_g (lw_at lw_m14 232 rfl) rfl
theorem q3579 : (Jvm.Cond.soleField "RingHouseModel" "readUp") ∈ lw_all := lw_g (lw_at lw_m14 233 rfl) rfl
theorem q3580 : (Jvm.Cond.laysFinal "RingHouseModel" "RingHouseModel" "readKind" "[I") ∈ lw_all := lw_g (lw_at lw_m14 234 rfl) rfl
theorem q3581 : (Jvm.Cond.soleField "RingHouseModel" "readKind") ∈ lw_all := lw_g (lw_at lw_m14 235 rfl) rfl
theorem q3582 : (Jvm.Cond.laysFinal "RingHouseModel" "RingHouseModel" "readName" "[J") ∈ lw_all := lw_g (lw_at lw_m14 236 rfl) rfl
theorem q3583 : (Jvm.Cond.soleField "RingHouseModel" "readName") ∈ lw_all := lw_g (lw_at lw_m14 237 rfl) rfl
theorem q3584 : (Jvm.Cond.laysFinal "RingHouseModel" "RingHouseModel" "readLabel" "[I") ∈ lw_all := lw_g (lw_at lw_m14 238 rfl) rfl
theorem q3585 : (Jvm.Cond.soleField "RingHouseModel" "readLabel") ∈ lw_all := lw_g (lw_at lw_m14 239 rfl) rfl
theorem q3586 : (Jvm.Cond.laysFinal "RingHouseModel" "RingHouseModel" "readLimit" "[I") ∈ lw_all := lw_g (lw_at lw_m15 0 rfl) rfl
theorem q3587 : (Jvm.Cond.soleField "RingHouseModel" "readLimit") ∈ lw_all := lw_g (lw_at lw_m15 1 rfl) rfl
theorem q3588 : (Jvm.Cond.laysFinal "RingHouseModel" "RingHouseModel" "readUsed" "[J") ∈ lw_all := lw_g (lw_at lw_m15 2 rfl) rfl
theorem q3589 : (Jvm.Cond.soleField "RingHouseModel" "readUsed") ∈ lw_all := lw_g (lw_at lw_m15 3 rfl) rfl
theorem q3590 : (Jvm.Cond.laysFinal "RingHouseModel" "RingHouseModel" "readLeft" "[I") ∈ lw_all := lw_g (lw_at lw_m15 4 rfl) rfl
theorem q3591 : (Jvm.Cond.soleField "RingHouseModel" "readLeft") ∈ lw_all := lw_g (lw_at lw_m15 5 rfl) rfl
theorem q3592 : (Jvm.Cond.laysFinal "RingHouseModel" "RingHouseModel" "readNode" "[I") ∈ lw_all := lw_g (lw_at lw_m15 6 rfl) rfl
theorem q3593 : (Jvm.Cond.soleField "RingHouseModel" "readNode") ∈ lw_all := lw_g (lw_at lw_m15 7 rfl) rfl
theorem q3594 : (Jvm.Cond.lays "RingHouseModel" "RingHouseModel" "makes" "Z") ∈ lw_all := lw_g (lw_at lw_m15 8 rfl) rfl
theorem q3595 : (Jvm.Cond.soleField "RingHouseModel" "makes") ∈ lw_all := lw_g (lw_at lw_m15 9 rfl) rfl
theorem q3596 : (Jvm.Cond.lays "RingHouseModel" "RingHouseModel" "into" "I") ∈ lw_all := lw_g (lw_at lw_m15 10 rfl) rfl
theorem q3597 : (Jvm.Cond.soleField "RingHouseModel" "into") ∈ lw_all := lw_g (lw_at lw_m15 11 rfl) rfl
theorem q3598 : (Jvm.Cond.lays "RingHouseModel" "RingHouseModel" "intoUsed" "J") ∈ lw_all := lw_g (lw_at lw_m15 12 rfl) rfl
theorem q3599 : (Jvm.Cond.soleField "RingHouseModel" "intoUsed") ∈ lw_all := lw_g (lw_at lw_m15 13 rfl) rfl
theorem q3600 : (Jvm.Cond.laysFinal "RingHouseModel" "RingHouseModel" "byLabel" "[I") ∈ lw_all := lw_g (lw_at lw_m15 14 rfl) rfl
theorem q3601 : (Jvm.Cond.soleField "RingHouseModel" "byLabel") ∈ lw_all := lw_g (lw_at lw_m15 15 rfl) rfl
theorem q3602 : (Jvm.Cond.laysFinal "RingHouseModel" "RingHouseModel" "seen" "[I") ∈ lw_all := lw_g (lw_at lw_m15 16 rfl) rfl
theorem q3603 : (Jvm.Cond.soleField "RingHouseModel" "seen") ∈ lw_all := lw_g (lw_at lw_m15 17 rfl) rfl
theorem q3604 : (Jvm.Cond.superclass "RingHouseModel" "java/lang/Object") ∈ lw_all := lw_g (lw_at lw_m15 18 rfl) rfl
theorem q3607 : (Jvm.Cond.instanceMethod ({ cls := "RingHouseModel", name := "directory", desc := "(IJII)I" } : Jvm.MethodName)) ∈ lw_all := lw_g (lw_at lw_m15 21 rfl) rfl
theorem q3608 : (Jvm.Cond.selects "RingHouseModel" ({ cls := "RingHouseModel", name := "directory", desc := "(IJII)I" } : Jvm.MethodName) ({ cls := "RingHouseModel", name := "directory", desc := "(IJII)I" } : Jvm.MethodName)) ∈ lw_all := lw_g (lw_at lw_m15 22 rfl) rfl
theorem q3609 : (Jvm.Cond.code ({ cls := "RingHouseModel", name := "directory", desc := "(IJII)I" } : Jvm.MethodName) prog_69_method_32_code (6 : Nat) (Option.some Jvm.ClassFile.FieldType.int)) ∈ lw_all := lw_g (lw_at lw_m15 23 rfl) rfl
theorem q3610 : (Jvm.Cond.methodLink "RingHouseModel" (439 : Nat) ({ cls := "RingHouseModel", name := "isOf", desc := "(II)Z" } : Jvm.MethodName)) ∈ lw_all := lw_g (lw_at lw_m15 24 rfl) rfl
theorem q3611 : (Jvm.Cond.privateMethod ({ cls := "RingHouseModel", name := "isOf", desc := "(II)Z" } : Jvm.MethodName)) ∈ lw_tbl := lw_at lw_m15 25 rfl
theorem q3612 : (Jvm.Cond.instanceMethod ({ cls := "RingHouseModel", name := "isOf", desc := "(II)Z" } : Jvm.MethodName)) ∈ lw_all := lw_g (lw_at lw_m15 26 rfl) rfl
theorem q3613 : (Jvm.Cond.code ({ cls := "RingHouseModel", name := "isOf", desc := "(II)Z" } : Jvm.MethodName) prog_69_method_8_code (3 : Nat) (Option.some Jvm.ClassFile.FieldType.boolean)) ∈ lw_all := lw_g (lw_at lw_m15 27 rfl) rfl
theorem q3614 : (Jvm.Cond.methodLink "RingHouseModel" (379 : Nat) ({ cls := "RingHouseModel", name := "isNode", desc := "(I)Z" } : Jvm.MethodName)) ∈ lw_all := lw_g (lw_at lw_m15 28 rfl) rfl
theorem q3615 : (Jvm.Cond.privateMethod ({ cls := "RingHouseModel", name := "isNode", desc := "(I)Z" } : Jvm.MethodName)) ∈ lw_tbl := lw_at lw_m15 29 rfl
theorem q3616 : (Jvm.Cond.instanceMethod ({ cls := "RingHouseModel", name := "isNode", desc := "(I)Z" } : Jvm.MethodName)) ∈ lw_all := lw_g (lw_at lw_m15 30 rfl) rfl
theorem q3617 : (Jvm.Cond.code ({ cls := "RingHouseModel", name := "isNode", desc := "(I)Z" } : Jvm.MethodName) prog_69_method_7_code (2 : Nat) (Option.some Jvm.ClassFile.FieldType.boolean)) ∈ lw_all := lw_g (lw_at lw_m15 31 rfl) rfl
theorem q3618 : (Jvm.Cond.constantLong "RingHouseModel" (377 : Nat) (255 : Int64)) ∈ lw_all := lw_g (lw_at lw_m15 32 rfl) rfl
theorem q3619 : (Jvm.Cond.methodLink "RingHouseModel" (363 : Nat) ({ cls := "RingHouseModel", name := "in", desc := "(JJJ)Z" } : Jvm.MethodName)) ∈ lw_all := lw_g (lw_at lw_m15 33 rfl) rfl
theorem q3620 : (Jvm.Cond.static ({ cls := "RingHouseModel", name := "in", desc := "(JJJ)Z" } : Jvm.MethodName)) ∈ lw_all := lw_g (lw_at lw_m15 34 rfl) rfl
theorem q3621 : (Jvm.Cond.code ({ cls := "RingHouseModel", name := "in", desc := "(JJJ)Z" } : Jvm.MethodName) prog_69_method_2_code (6 : Nat) (Option.some Jvm.ClassFile.FieldType.boolean)) ∈ lw_all := lw_g (lw_at lw_m15 35 rfl) rfl
theorem q3622 : (Jvm.Cond.methodLink "RingHouseModel" (442 : Nat) ({ cls := "RingHouseModel", name := "isName", desc := "(J)Z" } : Jvm.MethodName)) ∈ lw_all := lw_g (lw_at lw_m15 36 rfl) rfl
theorem q3623 : (Jvm.Cond.static ({ cls := "RingHouseModel", name := "isName", desc := "(J)Z" } : Jvm.MethodName)) ∈ lw_all := lw_g (lw_at lw_m15 37 rfl) rfl
theorem q3624 : (Jvm.Cond.code ({ cls := "RingHouseModel", name := "isName", desc := "(J)Z" } : Jvm.MethodName) prog_69_method_4_code (7 : Nat) (Option.some Jvm.ClassFile.FieldType.boolean)) ∈ lw_all := lw_g (lw_at lw_m15 38 rfl) rfl
theorem q3625 : (Jvm.Cond.methodLink "RingHouseModel" (367 : Nat) ({ cls := "RingHouseModel", name := "isWord", desc := "(J)Z" } : Jvm.MethodName)) ∈ lw_all := lw_g (lw_at lw_m15 39 rfl) rfl
theorem q3626 : (Jvm.Cond.static ({ cls := "RingHouseModel", name := "isWord", desc := "(J)Z" } : Jvm.MethodName)) ∈ lw_all := lw_g (lw_at lw_m15 40 rfl) rfl
theorem q3627 : (Jvm.Cond.code ({ cls := "RingHouseModel", name := "isWord", desc := "(J)Z" } : Jvm.MethodName) prog_69_method_3_code (2 : Nat) (Option.some Jvm.ClassFile.FieldType.boolean)) ∈ lw_all := lw_g (lw_at lw_m15 41 rfl) rfl
theorem q3628 : (Jvm.Cond.constantLong "RingHouseModel" (361 : Nat) (68719476735 : Int64)) ∈ lw_all := lw_g (lw_at lw_m15 42 rfl) rfl
theorem q3629 : (Jvm.Cond.constantLong "RingHouseModel" (371 : Nat) (63 : Int64)) ∈ lw_all := lw_g (lw_at lw_m15 43 rfl) rfl
theorem q3630 : (Jvm.Cond.constantLong "RingHouseModel" (373 : Nat) (38 : Int64)) ∈ lw_all := lw_g (lw_at lw_m15 44 rfl) rfl
theorem q3631 : (Jvm.Cond.constantLong "RingHouseModel" (445 : Nat) (31 : Int64)) ∈ lw_all := lw_g (lw_at lw_m15 45 rfl) rfl
theorem q3632 : (Jvm.Cond.methodLink "RingHouseModel" (447 : Nat) ({ cls := "RingHouseModel", name := "dominates", desc := "(II)Z" } : Jvm.MethodName)) ∈ lw_all := lw_g (lw_at lw_m15 46 rfl) rfl
theorem q3633 : (Jvm.Cond.static ({ cls := "RingHouseModel", name := "dominates", desc := "(II)Z" } : Jvm.MethodName)) ∈ lw_all := lw_g (lw_at lw_m15 47 rfl) rfl
theorem q3634 : (Jvm.Cond.code ({ cls := "RingHouseModel", name := "dominates", desc := "(II)Z" } : Jvm.MethodName) prog_69_method_5_code (2 : Nat) (Option.some Jvm.ClassFile.FieldType.boolean)) ∈ lw_all := lw_g (lw_at lw_m15 48 rfl) rfl
theorem q3635 : (Jvm.Cond.methodLink "RingHouseModel" (450 : Nat) ({ cls := "RingHouseModel", name := "entryNamed", desc := "(IJ)I" } : Jvm.MethodName)) ∈ lw_all := lw_g (lw_at lw_m15 49 rfl) rfl
theorem q3636 : (Jvm.Cond.privateMethod ({ cls := "RingHouseModel", name := "entryNamed", desc := "(IJ)I" } : Jvm.MethodName)) ∈ lw_tbl := lw_at lw_m15 50 rfl
theorem q3637 : (Jvm.Cond.instanceMethod ({ cls := "RingHouseModel", name := "entryNamed", desc := "(IJ)I" } : Jvm.MethodName)) ∈ lw_all := lw_g (lw_at lw_m15 51 rfl) rfl
theorem q3638 : (Jvm.Cond.code ({ cls := "RingHouseModel", name := "entryNamed", desc := "(IJ)I" } : Jvm.MethodName) prog_69_method_10_code (6 : Nat) (Option.some Jvm.ClassFile.FieldType.int)) ∈ lw_all := lw_g (lw_at lw_m15 52 rfl) rfl
theorem q3639 : (Jvm.Cond.methodLink "RingHouseModel" (387 : Nat) ({ cls := "RingHouseModel", name := "costOf", desc := "(II)I" } : Jvm.MethodName)) ∈ lw_all := lw_g (lw_at lw_m15 53 rfl) rfl
theorem q3640 : (Jvm.Cond.static ({ cls := "RingHouseModel", name := "costOf", desc := "(II)I" } : Jvm.MethodName)) ∈ lw_all := lw_g (lw_at lw_m15 54 rfl) rfl
theorem q3641 : (Jvm.Cond.code ({ cls := "RingHouseModel", name := "costOf", desc := "(II)I" } : Jvm.MethodName) prog_69_method_15_code (2 : Nat) (Option.some Jvm.ClassFile.FieldType.int)) ∈ lw_all := lw_g (lw_at lw_m15 55 rfl) rfl
theorem q3642 : (Jvm.Cond.methodLink "RingHouseModel" (454 : Nat) ({ cls := "RingHouseModel", name := "hasRoom", desc := "(II)Z" } : Jvm.MethodName)) ∈ lw_all := lw_g (lw_at lw_m15 56 rfl) rfl
theorem q3643 : (Jvm.Cond.privateMethod ({ cls := "RingHouseModel", name := "hasRoom", desc := "(II)Z" } : Jvm.MethodName)) ∈ lw_tbl := lw_at lw_m15 57 rfl
theorem q3644 : (Jvm.Cond.instanceMethod ({ cls := "RingHouseModel", name := "hasRoom", desc := "(II)Z" } : Jvm.MethodName)) ∈ lw_all := lw_g (lw_at lw_m15 58 rfl) rfl
theorem q3645 : (Jvm.Cond.code ({ cls := "RingHouseModel", name := "hasRoom", desc := "(II)Z" } : Jvm.MethodName) prog_69_method_18_code (4 : Nat) (Option.some Jvm.ClassFile.FieldType.boolean)) ∈ lw_all := lw_g (lw_at lw_m15 59 rfl) rfl
theorem q3646 : (Jvm.Cond.methodLink "RingHouseModel" (390 : Nat) ({ cls := "RingHouseModel", name := "account", desc := "(I)I" } : Jvm.MethodName)) ∈ lw_all := lw_g (lw_at lw_m15 60 rfl) rfl
theorem q3647 : (Jvm.Cond.privateMethod ({ cls := "RingHouseModel", name := "account", desc := "(I)I" } : Jvm.MethodName)) ∈ lw_tbl := lw_at lw_m15 61 rfl
theorem q3648 : (Jvm.Cond.instanceMethod ({ cls := "RingHouseModel", name := "account", desc := "(I)I" } : Jvm.MethodName)) ∈ lw_all := lw_g (lw_at lw_m15 62 rfl) rfl
theorem q3649 : (Jvm.Cond.code ({ cls := "RingHouseModel", name := "account", desc := "(I)I" } : Jvm.MethodName) prog_69_method_17_code (3 : Nat) (Option.some Jvm.ClassFile.FieldType.int)) ∈ lw_all := lw_g (lw_at lw_m15 63 rfl) rfl
theorem q3650 : (Jvm.Cond.methodLink "RingHouseModel" (457 : Nat) ({ cls := "RingHouseModel", name := "make", desc := "(IIJII)I" } : Jvm.MethodName)) ∈ lw_all := lw_g (lw_at lw_m15 64 rfl) rfl
theorem q3651 : (Jvm.Cond.privateMethod ({ cls := "RingHouseModel", name := "make", desc := "(IIJII)I" } : Jvm.MethodName)) ∈ lw_tbl := lw_at lw_m15 65 rfl
theorem q3652 : (Jvm.Cond.instanceMethod ({ cls := "RingHouseModel", name := "make", desc := "(IIJII)I" } : Jvm.MethodName)) ∈ lw_all := lw_g (lw_at lw_m15 66 rfl) rfl
theorem q3653 : (Jvm.Cond.code ({ cls := "RingHouseModel", name := "make", desc := "(IIJII)I" } : Jvm.MethodName) prog_69_method_19_code (9 : Nat) (Option.some Jvm.ClassFile.FieldType.int)) ∈ lw_all := lw_g (lw_at lw_m15 67 rfl) rfl
theorem q3654 : (Jvm.Cond.methodLink "RingHouseModel" (394 : Nat) ({ cls := "RingHouseModel", name := "free", desc := "()I" } : Jvm.MethodName)) ∈ lw_all := lw_g (lw_at lw_m15 68 rfl) rfl
theorem q3655 : (Jvm.Cond.privateMethod ({ cls := "RingHouseModel", name := "free", desc := "()I" } : Jvm.MethodName)) ∈ lw_tbl := lw_at lw_m15 69 rfl
theorem q3656 : (Jvm.Cond.instanceMethod ({ cls := "RingHouseModel", name := "free", desc := "()I" } : Jvm.MethodName)) ∈ lw_all := lw_g (lw_at lw_m15 70 rfl) rfl
theorem q3657 : (Jvm.Cond.code ({ cls := "RingHouseModel", name := "free", desc := "()I" } : Jvm.MethodName) prog_69_method_9_code (2 : Nat) (Option.some Jvm.ClassFile.FieldType.int)) ∈ lw_all := lw_g (lw_at lw_m15 71 rfl) rfl
theorem q3658 : (Jvm.Cond.methodLink "RingHouseModel" (402 : Nat) ({ cls := "RingHouseModel", name := "setBrackets", desc := "(IIII)V" } : Jvm.MethodName)) ∈ lw_all := lw_g (lw_at lw_m15 72 rfl) rfl
theorem q3659 : (Jvm.Cond.privateMethod ({ cls := "RingHouseModel", name := "setBrackets", desc := "(IIII)V" } : Jvm.MethodName)) ∈ lw_tbl := lw_at lw_m15 73 rfl
theorem q3660 : (Jvm.Cond.instanceMethod ({ cls := "RingHouseModel", name := "setBrackets", desc := "(IIII)V" } : Jvm.MethodName)) ∈ lw_all := lw_g (lw_at lw_m15 74 rfl) rfl
theorem q3661 : (Jvm.Cond.code ({ cls := "RingHouseModel", name := "setBrackets", desc := "(IIII)V" } : Jvm.MethodName) prog_69_method_20_code (5 : Nat) (Option.none : Option Jvm.ClassFile.FieldType)) ∈ lw_all := lw_g (lw_at lw_m15 75 rfl) rfl
theorem q3662 : (Jvm.Cond.methodLink "RingHouseModel" (461 : Nat) ({ cls := "RingHouseModel", name := "made", desc := "(I)I" } : Jvm.MethodName)) ∈ lw_all := lw_g (lw_at lw_m15 76 rfl) rfl
theorem q3663 : (Jvm.Cond.privateMethod ({ cls := "RingHouseModel", name := "made", desc := "(I)I" } : Jvm.MethodName)) ∈ lw_tbl := lw_at lw_m15 77 rfl
theorem q3664 : (Jvm.Cond.instanceMethod ({ cls := "RingHouseModel", name := "made", desc := "(I)I" } : Jvm.MethodName)) ∈ lw_all := lw_g (lw_at lw_m15 78 rfl) rfl
theorem q3665 : (Jvm.Cond.code ({ cls := "RingHouseModel", name := "made", desc := "(I)I" } : Jvm.MethodName) prog_69_method_31_code (2 : Nat) (Option.some Jvm.ClassFile.FieldType.int)) ∈ lw_all := lw_g (lw_at lw_m15 79 rfl) rfl
theorem q3666 : (Jvm.Cond.methodLink "RingHouseModel" (435 : Nat) ({ cls := "RingHouseModel", name := "giveFirsts", desc := "(III)V" } : Jvm.MethodName)) ∈ lw_all := lw_g (lw_at lw_m15 80 rfl) rfl
theorem q3667 : (Jvm.Cond.privateMethod ({ cls := "RingHouseModel", name := "giveFirsts", desc := "(III)V" } : Jvm.MethodName)) ∈ lw_tbl := lw_at lw_m15 81 rfl
theorem q3668 : (Jvm.Cond.instanceMethod ({ cls := "RingHouseModel", name := "giveFirsts", desc := "(III)V" } : Jvm.MethodName)) ∈ lw_all := lw_g (lw_at lw_m15 82 rfl) rfl
theorem q3669 : (Jvm.Cond.code ({ cls := "RingHouseModel", name := "giveFirsts", desc := "(III)V" } : Jvm.MethodName) prog_69_method_21_code (7 : Nat) (Option.none : Option Jvm.ClassFile.FieldType)) ∈ lw_all := lw_g (lw_at lw_m15 83 rfl) rfl
theorem q3670 : (Jvm.Cond.methodLink "RingHouseModel" (406 : Nat) ({ cls := "RingHouseModel", name := "addItem", desc := "(IIII)V" } : Jvm.MethodName)) ∈ lw_all := lw_g (lw_at lw_m15 84 rfl) rfl
theorem q3671 : (Jvm.Cond.privateMethod ({ cls := "RingHouseModel", name := "addItem", desc := "(IIII)V" } : Jvm.MethodName)) ∈ lw_tbl := lw_at lw_m15 85 rfl
theorem q3672 : (Jvm.Cond.instanceMethod ({ cls := "RingHouseModel", name := "addItem", desc := "(IIII)V" } : Jvm.MethodName)) ∈ lw_all := lw_g (lw_at lw_m15 86 rfl) rfl
theorem q3673 : (Jvm.Cond.code ({ cls := "RingHouseModel", name := "addItem", desc := "(IIII)V" } : Jvm.MethodName) prog_69_method_22_code (6 : Nat) (Option.none : Option Jvm.ClassFile.FieldType)) ∈ lw_all := lw_g (lw_at lw_m15 87 rfl) rfl
theorem q3675 : (Jvm.Cond.instanceMethod ({ cls := "RingHouseModel", name := "segment", desc := "(IJI)I" } : Jvm.MethodName)) ∈ lw_all := lw_g (lw_at lw_m15 89 rfl) rfl
theorem q3676 : (Jvm.Cond.selects "RingHouseModel" ({ cls := "RingHouseModel", name := "segment", desc := "(IJI)I" } : Jvm.MethodName) ({ cls := "RingHouseModel", name := "segment", desc := "(IJI)I" } : Jvm.MethodName)) ∈ lw_all := lw_g (lw_at lw_m15 90 rfl) rfl
theorem q3677 : (Jvm.Cond.code ({ cls := "RingHouseModel", name := "segment", desc := "(IJI)I" } : Jvm.MethodName) prog_69_method_33_code (5 : Nat) (Option.some Jvm.ClassFile.FieldType.int)) ∈ lw_all := lw_g (lw_at lw_m15 91 rfl) rfl
theorem q3678 : (Jvm.Cond.constantLong "RingHouseModel" (464 : Nat) (1024 : Int64)) ∈ lw_all := lw_g (lw_at lw_m15 92 rfl) rfl
theorem q3680 : (Jvm.Cond.instanceMethod ({ cls := "RingHouseModel", name := "mailbox", desc := "(IJ)I" } : Jvm.MethodName)) ∈ lw_all := lw_g (lw_at lw_m15 94 rfl) rfl
theorem q3681 : (Jvm.Cond.selects "RingHouseModel" ({ cls := "RingHouseModel", name := "mailbox", desc := "(IJ)I" } : Jvm.MethodName) ({ cls := "RingHouseModel", name := "mailbox", desc := "(IJ)I" } : Jvm.MethodName)) ∈ lw_all := lw_g (lw_at lw_m15 95 rfl) rfl
theorem q3682 : (Jvm.Cond.code ({ cls := "RingHouseModel", name := "mailbox", desc := "(IJ)I" } : Jvm.MethodName) prog_69_method_34_code (4 : Nat) (Option.some Jvm.ClassFile.FieldType.int)) ∈ lw_all := lw_g (lw_at lw_m15 96 rfl) rfl
theorem q3684 : (Jvm.Cond.instanceMethod ({ cls := "RingHouseModel", name := "initial", desc := "(IIIII)I" } : Jvm.MethodName)) ∈ lw_all := lw_g (lw_at lw_m15 98 rfl) rfl
theorem q3685 : (Jvm.Cond.selects "RingHouseModel" ({ cls := "RingHouseModel", name := "initial", desc := "(IIIII)I" } : Jvm.MethodName) ({ cls := "RingHouseModel", name := "initial", desc := "(IIIII)I" } : Jvm.MethodName)) ∈ lw_all := lw_g (lw_at lw_m15 99 rfl) rfl
theorem q3686 : (Jvm.Cond.code ({ cls := "RingHouseModel", name := "initial", desc := "(IIIII)I" } : Jvm.MethodName) prog_69_method_35_code (8 : Nat) (Option.some Jvm.ClassFile.FieldType.int)) ∈ lw_all := lw_g (lw_at lw_m15 100 rfl) rfl
theorem q3687 : (Jvm.Cond.constantLong "RingHouseModel" (466 : Nat) (2 : Int64)) ∈ lw_all := lw_g (lw_at lw_m15 101 rfl) rfl
theorem q3688 : (Jvm.Cond.methodLink "RingHouseModel" (468 : Nat) ({ cls := "RingHouseModel", name := "isItem", desc := "(III)Z" } : Jvm.MethodName)) ∈ lw_all := lw_g (lw_at lw_m15 102 rfl) rfl
theorem q3689 : (Jvm.Cond.static ({ cls := "RingHouseModel", name := "isItem", desc := "(III)Z" } : Jvm.MethodName)) ∈ lw_all := lw_g (lw_at lw_m15 103 rfl) rfl
theorem q3690 : (Jvm.Cond.code ({ cls := "RingHouseModel", name := "isItem", desc := "(III)Z" } : Jvm.MethodName) prog_69_method_24_code (3 : Nat) (Option.some Jvm.ClassFile.FieldType.boolean)) ∈ lw_all := lw_g (lw_at lw_m15 104 rfl) rfl
theorem q3691 : (Jvm.Cond.constantLong "RingHouseModel" (409 : Nat) (16 : Int64)) ∈ lw_all := lw_g (lw_at lw_m15 105 rfl) rfl
theorem q3692 : (Jvm.Cond.constantLong "RingHouseModel" (411 : Nat) (8 : Int64)) ∈ lw_all := lw_g (lw_at lw_m15 106 rfl) rfl
theorem q3693 : (Jvm.Cond.methodLink "RingHouseModel" (472 : Nat) ({ cls := "RingHouseModel", name := "setItem", desc := "([IIIIIII)I" } : Jvm.MethodName)) ∈ lw_all := lw_g (lw_at lw_m15 107 rfl) rfl
theorem q3694 : (Jvm.Cond.privateMethod ({ cls := "RingHouseModel", name := "setItem", desc := "([IIIIIII)I" } : Jvm.MethodName)) ∈ lw_tbl := lw_at lw_m15 108 rfl
theorem q3695 : (Jvm.Cond.instanceMethod ({ cls := "RingHouseModel", name := "setItem", desc := "([IIIIIII)I" } : Jvm.MethodName)) ∈ lw_all := lw_g (lw_at lw_m15 109 rfl) rfl
theorem q3696 : (Jvm.Cond.code ({ cls := "RingHouseModel", name := "setItem", desc := "([IIIIIII)I" } : Jvm.MethodName) prog_69_method_23_code (10 : Nat) (Option.some Jvm.ClassFile.FieldType.int)) ∈ lw_all := lw_g (lw_at lw_m15 110 rfl) rfl
theorem q3698 : (Jvm.Cond.instanceMethod ({ cls := "RingHouseModel", name := "item", desc := "(IIII)I" } : Jvm.MethodName)) ∈ lw_all := lw_g (lw_at lw_m15 112 rfl) rfl
theorem q3699 : (Jvm.Cond.selects "RingHouseModel" ({ cls := "RingHouseModel", name := "item", desc := "(IIII)I" } : Jvm.MethodName) ({ cls := "RingHouseModel", name := "item", desc := "(IIII)I" } : Jvm.MethodName)) ∈ lw_all := lw_g (lw_at lw_m15 113 rfl) rfl
theorem q3700 : (Jvm.Cond.code ({ cls := "RingHouseModel", name := "item", desc := "(IIII)I" } : Jvm.MethodName) prog_69_method_36_code (6 : Nat) (Option.some Jvm.ClassFile.FieldType.int)) ∈ lw_all := lw_g (lw_at lw_m15 114 rfl) rfl
theorem q3702 : (Jvm.Cond.instanceMethod ({ cls := "RingHouseModel", name := "brackets", desc := "(IIIII)I" } : Jvm.MethodName)) ∈ lw_all := lw_g (lw_at lw_m15 116 rfl) rfl
theorem q3703 : (Jvm.Cond.selects "RingHouseModel" ({ cls := "RingHouseModel", name := "brackets", desc := "(IIIII)I" } : Jvm.MethodName) ({ cls := "RingHouseModel", name := "brackets", desc := "(IIIII)I" } : Jvm.MethodName)) ∈ lw_all := lw_g (lw_at lw_m15 117 rfl) rfl
theorem q3704 : (Jvm.Cond.code ({ cls := "RingHouseModel", name := "brackets", desc := "(IIIII)I" } : Jvm.MethodName) prog_69_method_38_code (6 : Nat) (Option.some Jvm.ClassFile.FieldType.int)) ∈ lw_all := lw_g (lw_at lw_m15 118 rfl) rfl
theorem q3705 : (Jvm.Cond.methodLink "RingHouseModel" (478 : Nat) ({ cls := "RingHouseModel", name := "areBrackets", desc := "(IIIII)Z" } : Jvm.MethodName)) ∈ lw_all := lw_g (lw_at lw_m15 119 rfl) rfl
theorem q3706 : (Jvm.Cond.privateMethod ({ cls := "RingHouseModel", name := "areBrackets", desc := "(IIIII)Z" } : Jvm.MethodName)) ∈ lw_tbl := lw_at lw_m15 120 rfl
theorem q3707 : (Jvm.Cond.instanceMethod ({ cls := "RingHouseModel", name := "areBrackets", desc := "(IIIII)Z" } : Jvm.MethodName)) ∈ lw_all := lw_g (lw_at lw_m15 121 rfl) rfl
theorem q3708 : (Jvm.Cond.code ({ cls := "RingHouseModel", name := "areBrackets", desc := "(IIIII)Z" } : Jvm.MethodName) prog_69_method_37_code (6 : Nat) (Option.some Jvm.ClassFile.FieldType.boolean)) ∈ lw_all := lw_g (lw_at lw_m15 122 rfl) rfl
theorem q3709 : (Jvm.Cond.constantLong "RingHouseModel" (476 : Nat) (7 : Int64)) ∈ lw_all := lw_g (lw_at lw_m15 123 rfl) rfl
theorem q3711 : (Jvm.Cond.instanceMethod ({ cls := "RingHouseModel", name := "length", desc := "(II)I" } : Jvm.MethodName)) ∈ lw_all := lw_g (lw_at lw_m15 125 rfl) rfl
theorem q3712 : (Jvm.Cond.selects "RingHouseModel" ({ cls := "RingHouseModel", name := "length", desc := "(II)I" } : Jvm.MethodName) ({ cls := "RingHouseModel", name := "length", desc := "(II)I" } : Jvm.MethodName)) ∈ lw_all := lw_g (lw_at lw_m15 126 rfl) rfl
theorem q3713 : (Jvm.Cond.code ({ cls := "RingHouseModel", name := "length", desc := "(II)I" } : Jvm.MethodName) prog_69_method_40_code (4 : Nat) (Option.some Jvm.ClassFile.FieldType.int)) ∈ lw_all := lw_g (lw_at lw_m15 127 rfl) rfl
theorem q3714 : (Jvm.Cond.methodLink "RingHouseModel" (482 : Nat) ({ cls := "RingHouseModel", name := "setLength", desc := "(II)Z" } : Jvm.MethodName)) ∈ lw_all := lw_g (lw_at lw_m15 128 rfl) rfl
theorem q3715 : (Jvm.Cond.privateMethod ({ cls := "RingHouseModel", name := "setLength", desc := "(II)Z" } : Jvm.MethodName)) ∈ lw_tbl := lw_at lw_m15 129 rfl
theorem q3716 : (Jvm.Cond.instanceMethod ({ cls := "RingHouseModel", name := "setLength", desc := "(II)Z" } : Jvm.MethodName)) ∈ lw_all := lw_g (lw_at lw_m15 130 rfl) rfl
theorem q3717 : (Jvm.Cond.code ({ cls := "RingHouseModel", name := "setLength", desc := "(II)Z" } : Jvm.MethodName) prog_69_method_39_code (5 : Nat) (Option.some Jvm.ClassFile.FieldType.boolean)) ∈ lw_all := lw_g (lw_at lw_m15 131 rfl) rfl
theorem q3718 : (Jvm.Cond.methodLink "RingHouseModel" (413 : Nat) ({ cls := "RingHouseModel", name := "cost", desc := "(I)I" } : Jvm.MethodName)) ∈ lw_all := lw_g (lw_at lw_m15 132 rfl) rfl
theorem q3719 : (Jvm.Cond.privateMethod ({ cls := "RingHouseModel", name := "cost", desc := "(I)I" } : Jvm.MethodName)) ∈ lw_tbl := lw_at lw_m15 133 rfl
theorem q3720 : (Jvm.Cond.instanceMethod ({ cls := "RingHouseModel", name := "cost", desc := "(I)I" } : Jvm.MethodName)) ∈ lw_all := lw_g (lw_at lw_m15 134 rfl) rfl
theorem q3721 : (Jvm.Cond.code ({ cls := "RingHouseModel", name := "cost", desc := "(I)I" } : Jvm.MethodName) prog_69_method_16_code (2 : Nat) (Option.some Jvm.ClassFile.FieldType.int)) ∈ lw_all := lw_g (lw_at lw_m15 135 rfl) rfl
theorem q3723 : (Jvm.Cond.instanceMethod ({ cls := "RingHouseModel", name := "limit", desc := "(II)I" } : Jvm.MethodName)) ∈ lw_all := lw_g (lw_at lw_m15 137 rfl) rfl
theorem q3724 : (Jvm.Cond.selects "RingHouseModel" ({ cls := "RingHouseModel", name := "limit", desc := "(II)I" } : Jvm.MethodName) ({ cls := "RingHouseModel", name := "limit", desc := "(II)I" } : Jvm.MethodName)) ∈ lw_all := lw_g (lw_at lw_m15 138 rfl) rfl
theorem q3725 : (Jvm.Cond.code ({ cls := "RingHouseModel", name := "limit", desc := "(II)I" } : Jvm.MethodName) prog_69_method_42_code (4 : Nat) (Option.some Jvm.ClassFile.FieldType.int)) ∈ lw_all := lw_g (lw_at lw_m15 139 rfl) rfl
theorem q3726 : (Jvm.Cond.methodLink "RingHouseModel" (485 : Nat) ({ cls := "RingHouseModel", name := "setLimit", desc := "(II)Z" } : Jvm.MethodName)) ∈ lw_all := lw_g (lw_at lw_m15 140 rfl) rfl
theorem q3727 : (Jvm.Cond.privateMethod ({ cls := "RingHouseModel", name := "setLimit", desc := "(II)Z" } : Jvm.MethodName)) ∈ lw_tbl := lw_at lw_m15 141 rfl
theorem q3728 : (Jvm.Cond.instanceMethod ({ cls := "RingHouseModel", name := "setLimit", desc := "(II)Z" } : Jvm.MethodName)) ∈ lw_all := lw_g (lw_at lw_m15 142 rfl) rfl
theorem q3729 : (Jvm.Cond.code ({ cls := "RingHouseModel", name := "setLimit", desc := "(II)Z" } : Jvm.MethodName) prog_69_method_41_code (3 : Nat) (Option.some Jvm.ClassFile.FieldType.boolean)) ∈ lw_all := lw_g (lw_at lw_m15 143 rfl) rfl
theorem q3731 : (Jvm.Cond.instanceMethod ({ cls := "RingHouseModel", name := "rename", desc := "(IJ)I" } : Jvm.MethodName)) ∈ lw_all := lw_g (lw_at lw_m15 145 rfl) rfl
theorem q3732 : (Jvm.Cond.selects "RingHouseModel" ({ cls := "RingHouseModel", name := "rename", desc := "(IJ)I" } : Jvm.MethodName) ({ cls := "RingHouseModel", name := "rename", desc := "(IJ)I" } : Jvm.MethodName)) ∈ lw_all := lw_g (lw_at lw_m15 146 rfl) rfl
theorem q3733 : (Jvm.Cond.code ({ cls := "RingHouseModel", name := "rename", desc := "(IJ)I" } : Jvm.MethodName) prog_69_method_43_code (5 : Nat) (Option.some Jvm.ClassFile.FieldType.int)) ∈ lw_all := lw_g (lw_at lw_m15 147 rfl) rfl
theorem q3735 : (Jvm.Cond.instanceMethod ({ cls := "RingHouseModel", name := "remove", desc := "(I)I" } : Jvm.MethodName)) ∈ lw_all := lw_g (lw_at lw_m15 149 rfl) rfl
theorem q3736 : (Jvm.Cond.selects "RingHouseModel" ({ cls := "RingHouseModel", name := "remove", desc := "(I)I" } : Jvm.MethodName) ({ cls := "RingHouseModel", name := "remove", desc := "(I)I" } : Jvm.MethodName)) ∈ lw_all := lw_g (lw_at lw_m15 150 rfl) rfl
theorem q3737 : (Jvm.Cond.code ({ cls := "RingHouseModel", name := "remove", desc := "(I)I" } : Jvm.MethodName) prog_69_method_44_code (2 : Nat) (Option.some Jvm.ClassFile.FieldType.int)) ∈ lw_all := lw_g (lw_at lw_m15 151 rfl) rfl
theorem q3738 : (Jvm.Cond.methodLink "RingHouseModel" (488 : Nat) ({ cls := "RingHouseModel", name := "dropAll", desc := "(I)I" } : Jvm.MethodName)) ∈ lw_all := lw_g (lw_at lw_m15 152 rfl) rfl
theorem q3739 : (Jvm.Cond.privateMethod ({ cls := "RingHouseModel", name := "dropAll", desc := "(I)I" } : Jvm.MethodName)) ∈ lw_tbl := lw_at lw_m15 153 rfl
theorem q3740 : (Jvm.Cond.instanceMethod ({ cls := "RingHouseModel", name := "dropAll", desc := "(I)I" } : Jvm.MethodName)) ∈ lw_all := lw_g (lw_at lw_m15 154 rfl) rfl
theorem q3741 : (Jvm.Cond.code ({ cls := "RingHouseModel", name := "dropAll", desc := "(I)I" } : Jvm.MethodName) prog_69_method_30_code (7 : Nat) (Option.some Jvm.ClassFile.FieldType.int)) ∈ lw_all := lw_g (lw_at lw_m15 155 rfl) rfl
theorem q3742 : (Jvm.Cond.methodLink "RingHouseModel" (424 : Nat) ({ cls := "RingHouseModel", name := "isWithin", desc := "(II)Z" } : Jvm.MethodName)) ∈ lw_all := lw_g (lw_at lw_m15 156 rfl) rfl
theorem q3743 : (Jvm.Cond.privateMethod ({ cls := "RingHouseModel", name := "isWithin", desc := "(II)Z" } : Jvm.MethodName)) ∈ lw_tbl := lw_at lw_m15 157 rfl
theorem q3744 : (Jvm.Cond.instanceMethod ({ cls := "RingHouseModel", name := "isWithin", desc := "(II)Z" } : Jvm.MethodName)) ∈ lw_all := lw_g (lw_at lw_m15 158 rfl) rfl
theorem q3745 : (Jvm.Cond.code ({ cls := "RingHouseModel", name := "isWithin", desc := "(II)Z" } : Jvm.MethodName) prog_69_method_28_code (4 : Nat) (Option.some Jvm.ClassFile.FieldType.boolean)) ∈ lw_all := lw_g (lw_at lw_m15 159 rfl) rfl
theorem q3746 : (Jvm.Cond.methodLink "RingHouseModel" (428 : Nat) ({ cls := "RingHouseModel", name := "depth", desc := "(I)I" } : Jvm.MethodName)) ∈ lw_all := lw_g (lw_at lw_m15 160 rfl) rfl
theorem q3747 : (Jvm.Cond.privateMethod ({ cls := "RingHouseModel", name := "depth", desc := "(I)I" } : Jvm.MethodName)) ∈ lw_tbl := lw_at lw_m15 161 rfl
theorem q3748 : (Jvm.Cond.instanceMethod ({ cls := "RingHouseModel", name := "depth", desc := "(I)I" } : Jvm.MethodName)) ∈ lw_all := lw_g (lw_at lw_m15 162 rfl) rfl
theorem q3749 : (Jvm.Cond.code ({ cls := "RingHouseModel", name := "depth", desc := "(I)I" } : Jvm.MethodName) prog_69_method_29_code (4 : Nat) (Option.some Jvm.ClassFile.FieldType.int)) ∈ lw_all := lw_g (lw_at lw_m15 163 rfl) rfl
theorem q3750 : (Jvm.Cond.methodLink "RingHouseModel" (431 : Nat) ({ cls := "RingHouseModel", name := "drop", desc := "(I)V" } : Jvm.MethodName)) ∈ lw_all := lw_g (lw_at lw_m15 164 rfl) rfl
theorem q3751 : (Jvm.Cond.privateMethod ({ cls := "RingHouseModel", name := "drop", desc := "(I)V" } : Jvm.MethodName)) ∈ lw_tbl := lw_at lw_m15 165 rfl
theorem q3752 : (Jvm.Cond.instanceMethod ({ cls := "RingHouseModel", name := "drop", desc := "(I)V" } : Jvm.MethodName)) ∈ lw_all := lw_g (lw_at lw_m15 166 rfl) rfl
theorem q3753 : (Jvm.Cond.code ({ cls := "RingHouseModel", name := "drop", desc := "(I)V" } : Jvm.MethodName) prog_69_method_26_code (4 : Nat) (Option.none : Option Jvm.ClassFile.FieldType)) ∈ lw_all := lw_g (lw_at lw_m15 167 rfl) rfl
theorem q3754 : (Jvm.Cond.methodLink "RingHouseModel" (416 : Nat) ({ cls := "RingHouseModel", name := "forget", desc := "(II)V" } : Jvm.MethodName)) ∈ lw_all := lw_g (lw_at lw_m15 168 rfl) rfl
theorem q3755 : (Jvm.Cond.privateMethod ({ cls := "RingHouseModel", name := "forget", desc := "(II)V" } : Jvm.MethodName)) ∈ lw_tbl := lw_at lw_m15 169 rfl
theorem q3756 : (Jvm.Cond.instanceMethod ({ cls := "RingHouseModel", name := "forget", desc := "(II)V" } : Jvm.MethodName)) ∈ lw_all := lw_g (lw_at lw_m15 170 rfl) rfl
theorem q3757 : (Jvm.Cond.code ({ cls := "RingHouseModel", name := "forget", desc := "(II)V" } : Jvm.MethodName) prog_69_method_27_code (5 : Nat) (Option.none : Option Jvm.ClassFile.FieldType)) ∈ lw_all := lw_g (lw_at lw_m15 171 rfl) rfl
theorem q3758 : (Jvm.Cond.constantLong "RingHouseModel" (420 : Nat) (262144 : Int64)) ∈ lw_all := lw_g (lw_at lw_m15 172 rfl) rfl
theorem q3759 : (Jvm.Cond.constantLong "RingHouseModel" (422 : Nat) (-1 : Int64)) ∈ lw_all := lw_g (lw_at lw_m15 173 rfl) rfl
theorem q3761 : (Jvm.Cond.instanceMethod ({ cls := "RingHouseModel", name := "find", desc := "(IJ)I" } : Jvm.MethodName)) ∈ lw_all := lw_g (lw_at lw_m15 175 rfl) rfl
theorem q3762 : (Jvm.Cond.selects "RingHouseModel" ({ cls := "RingHouseModel", name := "find", desc := "(IJ)I" } : Jvm.MethodName) ({ cls := "RingHouseModel", name := "find", desc := "(IJ)I" } : Jvm.MethodName)) ∈ lw_all := lw_g (lw_at lw_m15 176 rfl) rfl
theorem q3763 : (Jvm.Cond.code ({ cls := "RingHouseModel", name := "find", desc := "(IJ)I" } : Jvm.MethodName) prog_69_method_45_code (4 : Nat) (Option.some Jvm.ClassFile.FieldType.int)) ∈ lw_all := lw_g (lw_at lw_m15 177 rfl) rfl
theorem q3765 : (Jvm.Cond.instanceMethod ({ cls := "RingHouseModel", name := "about", desc := "(II)J" } : Jvm.MethodName)) ∈ lw_all := lw_g (lw_at lw_m15 179 rfl) rfl
theorem q3766 : (Jvm.Cond.selects "RingHouseModel" ({ cls := "RingHouseModel", name := "about", desc := "(II)J" } : Jvm.MethodName) ({ cls := "RingHouseModel", name := "about", desc := "(II)J" } : Jvm.MethodName)) ∈ lw_all := lw_g (lw_at lw_m15 180 rfl) rfl
theorem q3767 : (Jvm.Cond.code ({ cls := "RingHouseModel", name := "about", desc := "(II)J" } : Jvm.MethodName) prog_69_method_46_code (3 : Nat) (Option.some Jvm.ClassFile.FieldType.long)) ∈ lw_all := lw_g (lw_at lw_m15 181 rfl) rfl
theorem q3768 : (Jvm.Cond.methodLink "RingHouseModel" (491 : Nat) ({ cls := "RingHouseModel", name := "countEntries", desc := "(I)I" } : Jvm.MethodName)) ∈ lw_all := lw_g (lw_at lw_m15 182 rfl) rfl
theorem q3769 : (Jvm.Cond.privateMethod ({ cls := "RingHouseModel", name := "countEntries", desc := "(I)I" } : Jvm.MethodName)) ∈ lw_tbl := lw_at lw_m15 183 rfl
theorem q3770 : (Jvm.Cond.instanceMethod ({ cls := "RingHouseModel", name := "countEntries", desc := "(I)I" } : Jvm.MethodName)) ∈ lw_all := lw_g (lw_at lw_m15 184 rfl) rfl
theorem q3771 : (Jvm.Cond.code ({ cls := "RingHouseModel", name := "countEntries", desc := "(I)I" } : Jvm.MethodName) prog_69_method_13_code (4 : Nat) (Option.some Jvm.ClassFile.FieldType.int)) ∈ lw_all := lw_g (lw_at lw_m15 185 rfl) rfl
theorem q3772 : (Jvm.Cond.constantLong "RingHouseModel" (494 : Nat) (-8 : Int64)) ∈ lw_all := lw_g (lw_at lw_m15 186 rfl) rfl
theorem q3774 : (Jvm.Cond.instanceMethod ({ cls := "RingHouseModel", name := "modes", desc := "(III)I" } : Jvm.MethodName)) ∈ lw_all := lw_g (lw_at lw_m15 188 rfl) rfl
theorem q3775 : (Jvm.Cond.selects "RingHouseModel" ({ cls := "RingHouseModel", name := "modes", desc := "(III)I" } : Jvm.MethodName) ({ cls := "RingHouseModel", name := "modes", desc := "(III)I" } : Jvm.MethodName)) ∈ lw_all := lw_g (lw_at lw_m15 189 rfl) rfl
theorem q3776 : (Jvm.Cond.code ({ cls := "RingHouseModel", name := "modes", desc := "(III)I" } : Jvm.MethodName) prog_69_method_47_code (4 : Nat) (Option.some Jvm.ClassFile.FieldType.int)) ∈ lw_all := lw_g (lw_at lw_m15 190 rfl) rfl
theorem q3777 : (Jvm.Cond.constantLong "RingHouseModel" (496 : Nat) (15 : Int64)) ∈ lw_all := lw_g (lw_at lw_m15 191 rfl) rfl
theorem q3778 : (Jvm.Cond.methodLink "RingHouseModel" (498 : Nat) ({ cls := "RingHouseModel", name := "modesFor", desc := "(III)I" } : Jvm.MethodName)) ∈ lw_all := lw_g (lw_at lw_m15 192 rfl) rfl
theorem q3779 : (Jvm.Cond.privateMethod ({ cls := "RingHouseModel", name := "modesFor", desc := "(III)I" } : Jvm.MethodName)) ∈ lw_tbl := lw_at lw_m15 193 rfl
theorem q3780 : (Jvm.Cond.instanceMethod ({ cls := "RingHouseModel", name := "modesFor", desc := "(III)I" } : Jvm.MethodName)) ∈ lw_all := lw_g (lw_at lw_m15 194 rfl) rfl
theorem q3781 : (Jvm.Cond.code ({ cls := "RingHouseModel", name := "modesFor", desc := "(III)I" } : Jvm.MethodName) prog_69_method_25_code (10 : Nat) (Option.some Jvm.ClassFile.FieldType.int)) ∈ lw_all := lw_g (lw_at lw_m15 195 rfl) rfl
theorem q3783 : (Jvm.Cond.instanceMethod ({ cls := "RingHouseModel", name := "word", desc := "(II)J" } : Jvm.MethodName)) ∈ lw_all := lw_g (lw_at lw_m15 197 rfl) rfl
theorem q3784 : (Jvm.Cond.selects "RingHouseModel" ({ cls := "RingHouseModel", name := "word", desc := "(II)J" } : Jvm.MethodName) ({ cls := "RingHouseModel", name := "word", desc := "(II)J" } : Jvm.MethodName)) ∈ lw_all := lw_g (lw_at lw_m15 198 rfl) rfl
theorem q3785 : (Jvm.Cond.code ({ cls := "RingHouseModel", name := "word", desc := "(II)J" } : Jvm.MethodName) prog_69_method_49_code (3 : Nat) (Option.some Jvm.ClassFile.FieldType.long)) ∈ lw_all := lw_g (lw_at lw_m15 199 rfl) rfl
theorem q3786 : (Jvm.Cond.methodLink "RingHouseModel" (502 : Nat) ({ cls := "RingHouseModel", name := "isPlace", desc := "(II)Z" } : Jvm.MethodName)) ∈ lw_all := lw_g (lw_at lw_m15 200 rfl) rfl
theorem q3787 : (Jvm.Cond.privateMethod ({ cls := "RingHouseModel", name := "isPlace", desc := "(II)Z" } : Jvm.MethodName)) ∈ lw_tbl := lw_at lw_m15 201 rfl
theorem q3788 : (Jvm.Cond.instanceMethod ({ cls := "RingHouseModel", name := "isPlace", desc := "(II)Z" } : Jvm.MethodName)) ∈ lw_all := lw_g (lw_at lw_m15 202 rfl) rfl
theorem q3789 : (Jvm.Cond.code ({ cls := "RingHouseModel", name := "isPlace", desc := "(II)Z" } : Jvm.MethodName) prog_69_method_48_code (3 : Nat) (Option.some Jvm.ClassFile.FieldType.boolean)) ∈ lw_all := lw_g (lw_at lw_m15 203 rfl) rfl
theorem q3791 : (Jvm.Cond.instanceMethod ({ cls := "RingHouseModel", name := "put", desc := "(IIJ)J" } : Jvm.MethodName)) ∈ lw_all := lw_g (lw_at lw_m15 205 rfl) rfl
theorem q3792 : (Jvm.Cond.selects "RingHouseModel" ({ cls := "RingHouseModel", name := "put", desc := "(IIJ)J" } : Jvm.MethodName) ({ cls := "RingHouseModel", name := "put", desc := "(IIJ)J" } : Jvm.MethodName)) ∈ lw_all := lw_g (lw_at lw_m15 206 rfl) rfl
theorem q3793 : (Jvm.Cond.code ({ cls := "RingHouseModel", name := "put", desc := "(IIJ)J" } : Jvm.MethodName) prog_69_method_50_code (7 : Nat) (Option.some Jvm.ClassFile.FieldType.long)) ∈ lw_all := lw_g (lw_at lw_m15 207 rfl) rfl
theorem q3795 : (Jvm.Cond.instanceMethod ({ cls := "RingHouseModel", name := "letter", desc := "(III)J" } : Jvm.MethodName)) ∈ lw_all := lw_g (lw_at lw_m15 209 rfl) rfl
theorem q3796 : (Jvm.Cond.selects "RingHouseModel" ({ cls := "RingHouseModel", name := "letter", desc := "(III)J" } : Jvm.MethodName) ({ cls := "RingHouseModel", name := "letter", desc := "(III)J" } : Jvm.MethodName)) ∈ lw_all := lw_g (lw_at lw_m15 210 rfl) rfl
theorem q3797 : (Jvm.Cond.code ({ cls := "RingHouseModel", name := "letter", desc := "(III)J" } : Jvm.MethodName) prog_69_method_51_code (4 : Nat) (Option.some Jvm.ClassFile.FieldType.long)) ∈ lw_all := lw_g (lw_at lw_m15 211 rfl) rfl
theorem q3799 : (Jvm.Cond.instanceMethod ({ cls := "RingHouseModel", name := "audit", desc := "(II)I" } : Jvm.MethodName)) ∈ lw_all := lw_g (lw_at lw_m15 213 rfl) rfl
theorem q3800 : (Jvm.Cond.selects "RingHouseModel" ({ cls := "RingHouseModel", name := "audit", desc := "(II)I" } : Jvm.MethodName) ({ cls := "RingHouseModel", name := "audit", desc := "(II)I" } : Jvm.MethodName)) ∈ lw_all := lw_g (lw_at lw_m15 214 rfl) rfl
theorem q3801 : (Jvm.Cond.code ({ cls := "RingHouseModel", name := "audit", desc := "(II)I" } : Jvm.MethodName) prog_69_method_53_code (3 : Nat) (Option.some Jvm.ClassFile.FieldType.int)) ∈ lw_all := lw_g (lw_at lw_m15 215 rfl) rfl
theorem q3802 : (Jvm.Cond.constantLong "RingHouseModel" (508 : Nat) (3 : Int64)) ∈ lw_all := lw_g (lw_at lw_m15 216 rfl) rfl
theorem q3804 : (Jvm.Cond.instanceMethod ({ cls := "RingHouseModel", name := "login", desc := "(IIIIII)I" } : Jvm.MethodName)) ∈ lw_all := lw_g (lw_at lw_m15 218 rfl) rfl
theorem q3805 : (Jvm.Cond.selects "RingHouseModel" ({ cls := "RingHouseModel", name := "login", desc := "(IIIIII)I" } : Jvm.MethodName) ({ cls := "RingHouseModel", name := "login", desc := "(IIIIII)I" } : Jvm.MethodName)) ∈ lw_all := lw_g (lw_at lw_m15 219 rfl) rfl
theorem q3806 : (Jvm.Cond.code ({ cls := "RingHouseModel", name := "login", desc := "(IIIIII)I" } : Jvm.MethodName) prog_69_method_109_code (9 : Nat) (Option.some Jvm.ClassFile.FieldType.int)) ∈ lw_all := lw_g (lw_at lw_m15 220 rfl) rfl
theorem q3807 : (Jvm.Cond.constantLong "RingHouseModel" (582 : Nat) (262143 : Int64)) ∈ lw_all := lw_g (lw_at lw_m15 221 rfl) rfl
theorem q3808 : (Jvm.Cond.constantLong "RingHouseModel" (780 : Nat) (-3750763034362895579 : Int64)) ∈ lw_all := lw_g (lw_at lw_m15 222 rfl) rfl
theorem q3810 : (Jvm.Cond.instanceMethod ({ cls := "RingHouseModel", name := "logout", desc := "(I)I" } : Jvm.MethodName)) ∈ lw_all := lw_g (lw_at lw_m15 224 rfl) rfl
theorem q3811 : (Jvm.Cond.selects "RingHouseModel" ({ cls := "RingHouseModel", name := "logout", desc := "(I)I" } : Jvm.MethodName) ({ cls := "RingHouseModel", name := "logout", desc := "(I)I" } : Jvm.MethodName)) ∈ lw_all := lw_g (lw_at lw_m15 225 rfl) rfl
theorem q3812 : (Jvm.Cond.code ({ cls := "RingHouseModel", name := "logout", desc := "(I)I" } : Jvm.MethodName) prog_69_method_110_code (2 : Nat) (Option.some Jvm.ClassFile.FieldType.int)) ∈ lw_all := lw_g (lw_at lw_m15 226 rfl) rfl
theorem q3813 : (Jvm.Cond.methodLink "RingHouseModel" (782 : Nat) ({ cls := "RingHouseModel", name := "isThere", desc := "(I)Z" } : Jvm.MethodName)) ∈ lw_all := lw_g (lw_at lw_m15 227 rfl) rfl
theorem q3814 : (Jvm.Cond.privateMethod ({ cls := "RingHouseModel", name := "isThere", desc := "(I)Z" } : Jvm.MethodName)) ∈ lw_tbl := lw_at lw_m15 228 rfl
theorem q3815 : (Jvm.Cond.instanceMethod ({ cls := "RingHouseModel", name := "isThere", desc := "(I)Z" } : Jvm.MethodName)) ∈ lw_all := lw_g (lw_at lw_m15 229 rfl) rfl
theorem q3816 : (Jvm.Cond.code ({ cls := "RingHouseModel", name := "isThere", desc := "(I)Z" } : Jvm.MethodName) prog_69_method_108_code (2 : Nat) (Option.some Jvm.ClassFile.FieldType.boolean)) ∈ lw_all := lw_g (lw_at lw_m15 230 rfl) rfl
theorem q3818 : (Jvm.Cond.instanceMethod ({ cls := "RingHouseModel", name := "send", desc := "(IJ)I" } : Jvm.MethodName)) ∈ lw_all := lw_g (lw_at lw_m15 232 rfl) rfl
theorem q3819 : (Jvm.Cond.selects "RingHouseModel" ({ cls := "RingHouseModel", name := "send", desc := "(IJ)I" } : Jvm.MethodName) ({ cls := "RingHouseModel", name := "send", desc := "(IJ)I" } : Jvm.MethodName)) ∈ lw_all := lw_g (lw_at lw_m15 233 rfl) rfl
theorem q3820 : (Jvm.Cond.code ({ cls := "RingHouseModel", name := "send", desc := "(IJ)I" } : Jvm.MethodName) prog_69_method_111_code (4 : Nat) (Option.some Jvm.ClassFile.FieldType.int)) ∈ lw_all := lw_g (lw_at lw_m15 234 rfl) rfl
theorem q3822 : (Jvm.Cond.instanceMethod ({ cls := "RingHouseModel", name := "tick", desc := "(II)I" } : Jvm.MethodName)) ∈ lw_all := lw_g (lw_at lw_m15 236 rfl) rfl
theorem q3823 : (Jvm.Cond.selects "RingHouseModel" ({ cls := "RingHouseModel", name := "tick", desc := "(II)I" } : Jvm.MethodName) ({ cls := "RingHouseModel", name := "tick", desc := "(II)I" } : Jvm.MethodName)) ∈ lw_all := lw_g (lw_at lw_m15 237 rfl) rfl
theorem q3824 : (Jvm.Cond.code ({ cls := "RingHouseModel", name := "tick", desc := "(II)I" } : Jvm.MethodName) prog_69_method_112_code (5 : Nat) (Option.some Jvm.ClassFile.FieldType.int)) ∈ lw_all := lw_g (lw_at lw_m15 238 rfl) rfl
theorem q3825 : (Jvm.Cond.constantLong "RingHouseModel" (785 : Nat) (1000 : Int64)) ∈ lw_all := lw_g (lw_at lw_m15 239 rfl) rfl
theorem q3826 : (Jvm.Cond.methodLink "RingHouseModel" (787 : Nat) ({ cls := "RingHouseModel", name := "isTicked", desc := "(I)Z" } : Jvm.MethodName)) ∈ lw_all := lw_g (lw_at lw_m16 0 rfl) rfl
theorem q3827 : (Jvm.Cond.privateMethod ({ cls := "RingHouseModel", name := "isTicked", desc := "(I)Z" } : Jvm.MethodName)) ∈ lw_tbl := lw_at lw_m16 1 rfl
theorem q3828 : (Jvm.Cond.instanceMethod ({ cls := "RingHouseModel", name := "isTicked", desc := "(I)Z" } : Jvm.MethodName)) ∈ lw_all := lw_g (lw_at lw_m16 2 rfl) rfl
theorem q3829 : (Jvm.Cond.code ({ cls := "RingHouseModel", name := "isTicked", desc := "(I)Z" } : Jvm.MethodName) prog_69_method_80_code (2 : Nat) (Option.some Jvm.ClassFile.FieldType.boolean)) ∈ lw_all := lw_g (lw_at lw_m16 3 rfl) rfl
theorem q3830 : (Jvm.Cond.methodLink "RingHouseModel" (616 : Nat) ({ cls := "RingHouseModel", name := "tell", desc := "(IIJJJ)V" } : Jvm.MethodName)) ∈ lw_all := lw_g (lw_at lw_m16 4 rfl) rfl
theorem q3831 : (Jvm.Cond.privateMethod ({ cls := "RingHouseModel", name := "tell", desc := "(IIJJJ)V" } : Jvm.MethodName)) ∈ lw_tbl := lw_at lw_m16 5 rfl
theorem q3832 : (Jvm.Cond.instanceMethod ({ cls := "RingHouseModel", name := "tell", desc := "(IIJJJ)V" } : Jvm.MethodName)) ∈ lw_all := lw_g (lw_at lw_m16 6 rfl) rfl
theorem q3833 : (Jvm.Cond.code ({ cls := "RingHouseModel", name := "tell", desc := "(IIJJJ)V" } : Jvm.MethodName) prog_69_method_55_code (11 : Nat) (Option.none : Option Jvm.ClassFile.FieldType)) ∈ lw_all := lw_g (lw_at lw_m16 7 rfl) rfl
theorem q3834 : (Jvm.Cond.constantLong "RingHouseModel" (522 : Nat) (1099511628211 : Int64)) ∈ lw_all := lw_g (lw_at lw_m16 8 rfl) rfl
theorem q3835 : (Jvm.Cond.methodLink "RingHouseModel" (652 : Nat) ({ cls := "RingHouseModel", name := "perform", desc := "(I)V" } : Jvm.MethodName)) ∈ lw_all := lw_g (lw_at lw_m16 9 rfl) rfl
theorem q3836 : (Jvm.Cond.privateMethod ({ cls := "RingHouseModel", name := "perform", desc := "(I)V" } : Jvm.MethodName)) ∈ lw_tbl := lw_at lw_m16 10 rfl
theorem q3837 : (Jvm.Cond.instanceMethod ({ cls := "RingHouseModel", name := "perform", desc := "(I)V" } : Jvm.MethodName)) ∈ lw_all := lw_g (lw_at lw_m16 11 rfl) rfl
theorem q3838 : (Jvm.Cond.code ({ cls := "RingHouseModel", name := "perform", desc := "(I)V" } : Jvm.MethodName) prog_69_method_77_code (9 : Nat) (Option.none : Option Jvm.ClassFile.FieldType)) ∈ lw_all := lw_g (lw_at lw_m16 12 rfl) rfl
theorem q3839 : (Jvm.Cond.methodLink "RingHouseModel" (573 : Nat) ({ cls := "RingHouseModel", name := "access", desc := "(IIIII)Z" } : Jvm.MethodName)) ∈ lw_all := lw_g (lw_at lw_m16 13 rfl) rfl
theorem q3840 : (Jvm.Cond.privateMethod ({ cls := "RingHouseModel", name := "access", desc := "(IIIII)Z" } : Jvm.MethodName)) ∈ lw_tbl := lw_at lw_m16 14 rfl
theorem q3841 : (Jvm.Cond.instanceMethod ({ cls := "RingHouseModel", name := "access", desc := "(IIIII)Z" } : Jvm.MethodName)) ∈ lw_all := lw_g (lw_at lw_m16 15 rfl) rfl
theorem q3842 : (Jvm.Cond.code ({ cls := "RingHouseModel", name := "access", desc := "(IIIII)Z" } : Jvm.MethodName) prog_69_method_58_code (7 : Nat) (Option.some Jvm.ClassFile.FieldType.boolean)) ∈ lw_all := lw_g (lw_at lw_m16 16 rfl) rfl
theorem q3843 : (Jvm.Cond.methodLink "RingHouseModel" (524 : Nat) ({ cls := "RingHouseModel", name := "missing", desc := "(III)I" } : Jvm.MethodName)) ∈ lw_all := lw_g (lw_at lw_m16 17 rfl) rfl
theorem q3844 : (Jvm.Cond.privateMethod ({ cls := "RingHouseModel", name := "missing", desc := "(III)I" } : Jvm.MethodName)) ∈ lw_tbl := lw_at lw_m16 18 rfl
theorem q3845 : (Jvm.Cond.instanceMethod ({ cls := "RingHouseModel", name := "missing", desc := "(III)I" } : Jvm.MethodName)) ∈ lw_all := lw_g (lw_at lw_m16 19 rfl) rfl
theorem q3846 : (Jvm.Cond.code ({ cls := "RingHouseModel", name := "missing", desc := "(III)I" } : Jvm.MethodName) prog_69_method_57_code (4 : Nat) (Option.some Jvm.ClassFile.FieldType.int)) ∈ lw_all := lw_g (lw_at lw_m16 20 rfl) rfl
theorem q3847 : (Jvm.Cond.methodLink "RingHouseModel" (527 : Nat) ({ cls := "RingHouseModel", name := "barred", desc := "(IIII)I" } : Jvm.MethodName)) ∈ lw_all := lw_g (lw_at lw_m16 21 rfl) rfl
theorem q3848 : (Jvm.Cond.privateMethod ({ cls := "RingHouseModel", name := "barred", desc := "(IIII)I" } : Jvm.MethodName)) ∈ lw_tbl := lw_at lw_m16 22 rfl
theorem q3849 : (Jvm.Cond.instanceMethod ({ cls := "RingHouseModel", name := "barred", desc := "(IIII)I" } : Jvm.MethodName)) ∈ lw_all := lw_g (lw_at lw_m16 23 rfl) rfl
theorem q3850 : (Jvm.Cond.code ({ cls := "RingHouseModel", name := "barred", desc := "(IIII)I" } : Jvm.MethodName) prog_69_method_56_code (9 : Nat) (Option.some Jvm.ClassFile.FieldType.int)) ∈ lw_all := lw_g (lw_at lw_m16 24 rfl) rfl
theorem q3851 : (Jvm.Cond.methodLink "RingHouseModel" (531 : Nat) ({ cls := "RingHouseModel", name := "fail", desc := "(IIII)V" } : Jvm.MethodName)) ∈ lw_all := lw_g (lw_at lw_m16 25 rfl) rfl
theorem q3852 : (Jvm.Cond.privateMethod ({ cls := "RingHouseModel", name := "fail", desc := "(IIII)V" } : Jvm.MethodName)) ∈ lw_tbl := lw_at lw_m16 26 rfl
theorem q3853 : (Jvm.Cond.instanceMethod ({ cls := "RingHouseModel", name := "fail", desc := "(IIII)V" } : Jvm.MethodName)) ∈ lw_all := lw_g (lw_at lw_m16 27 rfl) rfl
theorem q3854 : (Jvm.Cond.code ({ cls := "RingHouseModel", name := "fail", desc := "(IIII)V" } : Jvm.MethodName) prog_69_method_54_code (5 : Nat) (Option.none : Option Jvm.ClassFile.FieldType)) ∈ lw_all := lw_g (lw_at lw_m16 28 rfl) rfl
theorem q3855 : (Jvm.Cond.methodLink "RingHouseModel" (576 : Nat) ({ cls := "RingHouseModel", name := "wordAt", desc := "(III)J" } : Jvm.MethodName)) ∈ lw_all := lw_g (lw_at lw_m16 29 rfl) rfl
theorem q3856 : (Jvm.Cond.privateMethod ({ cls := "RingHouseModel", name := "wordAt", desc := "(III)J" } : Jvm.MethodName)) ∈ lw_tbl := lw_at lw_m16 30 rfl
theorem q3857 : (Jvm.Cond.instanceMethod ({ cls := "RingHouseModel", name := "wordAt", desc := "(III)J" } : Jvm.MethodName)) ∈ lw_all := lw_g (lw_at lw_m16 31 rfl) rfl
theorem q3858 : (Jvm.Cond.code ({ cls := "RingHouseModel", name := "wordAt", desc := "(III)J" } : Jvm.MethodName) prog_69_method_59_code (4 : Nat) (Option.some Jvm.ClassFile.FieldType.long)) ∈ lw_all := lw_g (lw_at lw_m16 32 rfl) rfl
theorem q3859 : (Jvm.Cond.methodLink "RingHouseModel" (623 : Nat) ({ cls := "RingHouseModel", name := "isLegal", desc := "(I)Z" } : Jvm.MethodName)) ∈ lw_all := lw_g (lw_at lw_m16 33 rfl) rfl
theorem q3860 : (Jvm.Cond.privateMethod ({ cls := "RingHouseModel", name := "isLegal", desc := "(I)Z" } : Jvm.MethodName)) ∈ lw_tbl := lw_at lw_m16 34 rfl
theorem q3861 : (Jvm.Cond.instanceMethod ({ cls := "RingHouseModel", name := "isLegal", desc := "(I)Z" } : Jvm.MethodName)) ∈ lw_all := lw_g (lw_at lw_m16 35 rfl) rfl
theorem q3862 : (Jvm.Cond.code ({ cls := "RingHouseModel", name := "isLegal", desc := "(I)Z" } : Jvm.MethodName) prog_69_method_64_code (4 : Nat) (Option.some Jvm.ClassFile.FieldType.boolean)) ∈ lw_all := lw_g (lw_at lw_m16 36 rfl) rfl
theorem q3863 : (Jvm.Cond.constantLong "RingHouseModel" (540 : Nat) (13 : Int64)) ∈ lw_all := lw_g (lw_at lw_m16 37 rfl) rfl
theorem q3864 : (Jvm.Cond.constantLong "RingHouseModel" (542 : Nat) (20 : Int64)) ∈ lw_all := lw_g (lw_at lw_m16 38 rfl) rfl
theorem q3865 : (Jvm.Cond.constantLong "RingHouseModel" (544 : Nat) (24 : Int64)) ∈ lw_all := lw_g (lw_at lw_m16 39 rfl) rfl
theorem q3866 : (Jvm.Cond.methodLink "RingHouseModel" (626 : Nat) ({ cls := "RingHouseModel", name := "find", desc := "(I)Z" } : Jvm.MethodName)) ∈ lw_all := lw_g (lw_at lw_m16 40 rfl) rfl
theorem q3867 : (Jvm.Cond.privateMethod ({ cls := "RingHouseModel", name := "find", desc := "(I)Z" } : Jvm.MethodName)) ∈ lw_tbl := lw_at lw_m16 41 rfl
theorem q3868 : (Jvm.Cond.instanceMethod ({ cls := "RingHouseModel", name := "find", desc := "(I)Z" } : Jvm.MethodName)) ∈ lw_all := lw_g (lw_at lw_m16 42 rfl) rfl
theorem q3869 : (Jvm.Cond.code ({ cls := "RingHouseModel", name := "find", desc := "(I)Z" } : Jvm.MethodName) prog_69_method_65_code (5 : Nat) (Option.some Jvm.ClassFile.FieldType.boolean)) ∈ lw_all := lw_g (lw_at lw_m16 43 rfl) rfl
theorem q3870 : (Jvm.Cond.methodLink "RingHouseModel" (567 : Nat) ({ cls := "RingHouseModel", name := "bind", desc := "(II)Z" } : Jvm.MethodName)) ∈ lw_all := lw_g (lw_at lw_m16 44 rfl) rfl
theorem q3871 : (Jvm.Cond.privateMethod ({ cls := "RingHouseModel", name := "bind", desc := "(II)Z" } : Jvm.MethodName)) ∈ lw_tbl := lw_at lw_m16 45 rfl
theorem q3872 : (Jvm.Cond.instanceMethod ({ cls := "RingHouseModel", name := "bind", desc := "(II)Z" } : Jvm.MethodName)) ∈ lw_all := lw_g (lw_at lw_m16 46 rfl) rfl
theorem q3873 : (Jvm.Cond.code ({ cls := "RingHouseModel", name := "bind", desc := "(II)Z" } : Jvm.MethodName) prog_69_method_87_code (4 : Nat) (Option.some Jvm.ClassFile.FieldType.boolean)) ∈ lw_all := lw_g (lw_at lw_m16 47 rfl) rfl
theorem q3874 : (Jvm.Cond.methodLink "RingHouseModel" (668 : Nat) ({ cls := "RingHouseModel", name := "bindNow", desc := "(III)Z" } : Jvm.MethodName)) ∈ lw_all := lw_g (lw_at lw_m16 48 rfl) rfl
theorem q3875 : (Jvm.Cond.privateMethod ({ cls := "RingHouseModel", name := "bindNow", desc := "(III)Z" } : Jvm.MethodName)) ∈ lw_tbl := lw_at lw_m16 49 rfl
theorem q3876 : (Jvm.Cond.instanceMethod ({ cls := "RingHouseModel", name := "bindNow", desc := "(III)Z" } : Jvm.MethodName)) ∈ lw_all := lw_g (lw_at lw_m16 50 rfl) rfl
theorem q3877 : (Jvm.Cond.code ({ cls := "RingHouseModel", name := "bindNow", desc := "(III)Z" } : Jvm.MethodName) prog_69_method_88_code (9 : Nat) (Option.some Jvm.ClassFile.FieldType.boolean)) ∈ lw_all := lw_g (lw_at lw_m16 51 rfl) rfl
theorem q3878 : (Jvm.Cond.methodLink "RingHouseModel" (671 : Nat) ({ cls := "RingHouseModel", name := "isObject", desc := "(I)Z" } : Jvm.MethodName)) ∈ lw_all := lw_g (lw_at lw_m16 52 rfl) rfl
theorem q3879 : (Jvm.Cond.privateMethod ({ cls := "RingHouseModel", name := "isObject", desc := "(I)Z" } : Jvm.MethodName)) ∈ lw_tbl := lw_at lw_m16 53 rfl
theorem q3880 : (Jvm.Cond.instanceMethod ({ cls := "RingHouseModel", name := "isObject", desc := "(I)Z" } : Jvm.MethodName)) ∈ lw_all := lw_g (lw_at lw_m16 54 rfl) rfl
theorem q3881 : (Jvm.Cond.code ({ cls := "RingHouseModel", name := "isObject", desc := "(I)Z" } : Jvm.MethodName) prog_69_method_81_code (2 : Nat) (Option.some Jvm.ClassFile.FieldType.boolean)) ∈ lw_all := lw_g (lw_at lw_m16 55 rfl) rfl
theorem q3882 : (Jvm.Cond.constantLong "RingHouseModel" (658 : Nat) (365 : Int64)) ∈ lw_all := lw_g (lw_at lw_m16 56 rfl) rfl
theorem q3883 : (Jvm.Cond.methodLink "RingHouseModel" (674 : Nat) ({ cls := "RingHouseModel", name := "linkPlace", desc := "(II)I" } : Jvm.MethodName)) ∈ lw_all := lw_g (lw_at lw_m16 57 rfl) rfl
theorem q3884 : (Jvm.Cond.privateMethod ({ cls := "RingHouseModel", name := "linkPlace", desc := "(II)I" } : Jvm.MethodName)) ∈ lw_tbl := lw_at lw_m16 58 rfl
theorem q3885 : (Jvm.Cond.instanceMethod ({ cls := "RingHouseModel", name := "linkPlace", desc := "(II)I" } : Jvm.MethodName)) ∈ lw_all := lw_g (lw_at lw_m16 59 rfl) rfl
theorem q3886 : (Jvm.Cond.code ({ cls := "RingHouseModel", name := "linkPlace", desc := "(II)I" } : Jvm.MethodName) prog_69_method_82_code (7 : Nat) (Option.some Jvm.ClassFile.FieldType.int)) ∈ lw_all := lw_g (lw_at lw_m16 60 rfl) rfl
theorem q3887 : (Jvm.Cond.constantLong "RingHouseModel" (660 : Nat) (511 : Int64)) ∈ lw_all := lw_g (lw_at lw_m16 61 rfl) rfl
theorem q3888 : (Jvm.Cond.methodLink "RingHouseModel" (677 : Nat) ({ cls := "RingHouseModel", name := "searched", desc := "(IJ)I" } : Jvm.MethodName)) ∈ lw_all := lw_g (lw_at lw_m16 62 rfl) rfl
theorem q3889 : (Jvm.Cond.privateMethod ({ cls := "RingHouseModel", name := "searched", desc := "(IJ)I" } : Jvm.MethodName)) ∈ lw_tbl := lw_at lw_m16 63 rfl
theorem q3890 : (Jvm.Cond.instanceMethod ({ cls := "RingHouseModel", name := "searched", desc := "(IJ)I" } : Jvm.MethodName)) ∈ lw_all := lw_g (lw_at lw_m16 64 rfl) rfl
theorem q3891 : (Jvm.Cond.code ({ cls := "RingHouseModel", name := "searched", desc := "(IJ)I" } : Jvm.MethodName) prog_69_method_86_code (7 : Nat) (Option.some Jvm.ClassFile.FieldType.int)) ∈ lw_all := lw_g (lw_at lw_m16 65 rfl) rfl
theorem q3892 : (Jvm.Cond.methodLink "RingHouseModel" (665 : Nat) ({ cls := "RingHouseModel", name := "askDirectory", desc := "(III)I" } : Jvm.MethodName)) ∈ lw_all := lw_g (lw_at lw_m16 66 rfl) rfl
theorem q3893 : (Jvm.Cond.privateMethod ({ cls := "RingHouseModel", name := "askDirectory", desc := "(III)I" } : Jvm.MethodName)) ∈ lw_tbl := lw_at lw_m16 67 rfl
theorem q3894 : (Jvm.Cond.instanceMethod ({ cls := "RingHouseModel", name := "askDirectory", desc := "(III)I" } : Jvm.MethodName)) ∈ lw_all := lw_g (lw_at lw_m16 68 rfl) rfl
theorem q3895 : (Jvm.Cond.code ({ cls := "RingHouseModel", name := "askDirectory", desc := "(III)I" } : Jvm.MethodName) prog_69_method_89_code (4 : Nat) (Option.some Jvm.ClassFile.FieldType.int)) ∈ lw_all := lw_g (lw_at lw_m16 69 rfl) rfl
theorem q3896 : (Jvm.Cond.methodLink "RingHouseModel" (680 : Nat) ({ cls := "RingHouseModel", name := "numberFor", desc := "(II)I" } : Jvm.MethodName)) ∈ lw_all := lw_g (lw_at lw_m16 70 rfl) rfl
theorem q3897 : (Jvm.Cond.privateMethod ({ cls := "RingHouseModel", name := "numberFor", desc := "(II)I" } : Jvm.MethodName)) ∈ lw_tbl := lw_at lw_m16 71 rfl
theorem q3898 : (Jvm.Cond.instanceMethod ({ cls := "RingHouseModel", name := "numberFor", desc := "(II)I" } : Jvm.MethodName)) ∈ lw_all := lw_g (lw_at lw_m16 72 rfl) rfl
theorem q3899 : (Jvm.Cond.code ({ cls := "RingHouseModel", name := "numberFor", desc := "(II)I" } : Jvm.MethodName) prog_69_method_85_code (4 : Nat) (Option.some Jvm.ClassFile.FieldType.int)) ∈ lw_all := lw_g (lw_at lw_m16 73 rfl) rfl
theorem q3900 : (Jvm.Cond.methodLink "RingHouseModel" (683 : Nat) ({ cls := "RingHouseModel", name := "defined", desc := "(IJ)I" } : Jvm.MethodName)) ∈ lw_all := lw_g (lw_at lw_m16 74 rfl) rfl
theorem q3901 : (Jvm.Cond.privateMethod ({ cls := "RingHouseModel", name := "defined", desc := "(IJ)I" } : Jvm.MethodName)) ∈ lw_tbl := lw_at lw_m16 75 rfl
theorem q3902 : (Jvm.Cond.instanceMethod ({ cls := "RingHouseModel", name := "defined", desc := "(IJ)I" } : Jvm.MethodName)) ∈ lw_all := lw_g (lw_at lw_m16 76 rfl) rfl
theorem q3903 : (Jvm.Cond.code ({ cls := "RingHouseModel", name := "defined", desc := "(IJ)I" } : Jvm.MethodName) prog_69_method_84_code (6 : Nat) (Option.some Jvm.ClassFile.FieldType.int)) ∈ lw_all := lw_g (lw_at lw_m16 77 rfl) rfl
theorem q3904 : (Jvm.Cond.methodLink "RingHouseModel" (662 : Nat) ({ cls := "RingHouseModel", name := "definitionPlace", desc := "(II)I" } : Jvm.MethodName)) ∈ lw_all := lw_g (lw_at lw_m16 78 rfl) rfl
theorem q3905 : (Jvm.Cond.privateMethod ({ cls := "RingHouseModel", name := "definitionPlace", desc := "(II)I" } : Jvm.MethodName)) ∈ lw_tbl := lw_at lw_m16 79 rfl
theorem q3906 : (Jvm.Cond.instanceMethod ({ cls := "RingHouseModel", name := "definitionPlace", desc := "(II)I" } : Jvm.MethodName)) ∈ lw_all := lw_g (lw_at lw_m16 80 rfl) rfl
theorem q3907 : (Jvm.Cond.code ({ cls := "RingHouseModel", name := "definitionPlace", desc := "(II)I" } : Jvm.MethodName) prog_69_method_83_code (7 : Nat) (Option.some Jvm.ClassFile.FieldType.int)) ∈ lw_all := lw_g (lw_at lw_m16 81 rfl) rfl
theorem q3908 : (Jvm.Cond.methodLink "RingHouseModel" (570 : Nat) ({ cls := "RingHouseModel", name := "follow", desc := "(I)Z" } : Jvm.MethodName)) ∈ lw_all := lw_g (lw_at lw_m16 82 rfl) rfl
theorem q3909 : (Jvm.Cond.privateMethod ({ cls := "RingHouseModel", name := "follow", desc := "(I)Z" } : Jvm.MethodName)) ∈ lw_tbl := lw_at lw_m16 83 rfl
theorem q3910 : (Jvm.Cond.instanceMethod ({ cls := "RingHouseModel", name := "follow", desc := "(I)Z" } : Jvm.MethodName)) ∈ lw_all := lw_g (lw_at lw_m16 84 rfl) rfl
theorem q3911 : (Jvm.Cond.code ({ cls := "RingHouseModel", name := "follow", desc := "(I)Z" } : Jvm.MethodName) prog_69_method_66_code (8 : Nat) (Option.some Jvm.ClassFile.FieldType.boolean)) ∈ lw_all := lw_g (lw_at lw_m16 85 rfl) rfl
theorem q3912 : (Jvm.Cond.constantLong "RingHouseModel" (580 : Nat) (5 : Int64)) ∈ lw_all := lw_g (lw_at lw_m16 86 rfl) rfl
theorem q3913 : (Jvm.Cond.methodLink "RingHouseModel" (629 : Nat) ({ cls := "RingHouseModel", name := "call", desc := "(III)V" } : Jvm.MethodName)) ∈ lw_all := lw_g (lw_at lw_m16 87 rfl) rfl
theorem q3914 : (Jvm.Cond.privateMethod ({ cls := "RingHouseModel", name := "call", desc := "(III)V" } : Jvm.MethodName)) ∈ lw_tbl := lw_at lw_m16 88 rfl
theorem q3915 : (Jvm.Cond.instanceMethod ({ cls := "RingHouseModel", name := "call", desc := "(III)V" } : Jvm.MethodName)) ∈ lw_all := lw_g (lw_at lw_m16 89 rfl) rfl
theorem q3916 : (Jvm.Cond.code ({ cls := "RingHouseModel", name := "call", desc := "(III)V" } : Jvm.MethodName) prog_69_method_76_code (8 : Nat) (Option.none : Option Jvm.ClassFile.FieldType)) ∈ lw_all := lw_g (lw_at lw_m16 90 rfl) rfl
theorem q3917 : (Jvm.Cond.methodLink "RingHouseModel" (620 : Nat) ({ cls := "RingHouseModel", name := "turnTo", desc := "(II)V" } : Jvm.MethodName)) ∈ lw_all := lw_g (lw_at lw_m16 91 rfl) rfl
theorem q3918 : (Jvm.Cond.privateMethod ({ cls := "RingHouseModel", name := "turnTo", desc := "(II)V" } : Jvm.MethodName)) ∈ lw_tbl := lw_at lw_m16 92 rfl
theorem q3919 : (Jvm.Cond.instanceMethod ({ cls := "RingHouseModel", name := "turnTo", desc := "(II)V" } : Jvm.MethodName)) ∈ lw_all := lw_g (lw_at lw_m16 93 rfl) rfl
theorem q3920 : (Jvm.Cond.code ({ cls := "RingHouseModel", name := "turnTo", desc := "(II)V" } : Jvm.MethodName) prog_69_method_75_code (3 : Nat) (Option.none : Option Jvm.ClassFile.FieldType)) ∈ lw_all := lw_g (lw_at lw_m16 94 rfl) rfl
theorem q3921 : (Jvm.Cond.methodLink "RingHouseModel" (613 : Nat) ({ cls := "RingHouseModel", name := "go", desc := "(I)V" } : Jvm.MethodName)) ∈ lw_all := lw_g (lw_at lw_m16 95 rfl) rfl
theorem q3922 : (Jvm.Cond.privateMethod ({ cls := "RingHouseModel", name := "go", desc := "(I)V" } : Jvm.MethodName)) ∈ lw_tbl := lw_at lw_m16 96 rfl
theorem q3923 : (Jvm.Cond.instanceMethod ({ cls := "RingHouseModel", name := "go", desc := "(I)V" } : Jvm.MethodName)) ∈ lw_all := lw_g (lw_at lw_m16 97 rfl) rfl
theorem q3924 : (Jvm.Cond.code ({ cls := "RingHouseModel", name := "go", desc := "(I)V" } : Jvm.MethodName) prog_69_method_73_code (2 : Nat) (Option.none : Option Jvm.ClassFile.FieldType)) ∈ lw_all := lw_g (lw_at lw_m16 98 rfl) rfl
theorem q3925 : (Jvm.Cond.methodLink "RingHouseModel" (632 : Nat) ({ cls := "RingHouseModel", name := "service", desc := "(II)V" } : Jvm.MethodName)) ∈ lw_all := lw_g (lw_at lw_m16 99 rfl) rfl
theorem q3926 : (Jvm.Cond.privateMethod ({ cls := "RingHouseModel", name := "service", desc := "(II)V" } : Jvm.MethodName)) ∈ lw_tbl := lw_at lw_m16 100 rfl
theorem q3927 : (Jvm.Cond.instanceMethod ({ cls := "RingHouseModel", name := "service", desc := "(II)V" } : Jvm.MethodName)) ∈ lw_all := lw_g (lw_at lw_m16 101 rfl) rfl
theorem q3928 : (Jvm.Cond.code ({ cls := "RingHouseModel", name := "service", desc := "(II)V" } : Jvm.MethodName) prog_69_method_91_code (5 : Nat) (Option.none : Option Jvm.ClassFile.FieldType)) ∈ lw_all := lw_g (lw_at lw_m16 102 rfl) rfl
theorem q3929 : (Jvm.Cond.methodLink "RingHouseModel" (686 : Nat) ({ cls := "RingHouseModel", name := "comeBack", desc := "(II)V" } : Jvm.MethodName)) ∈ lw_all := lw_g (lw_at lw_m16 103 rfl) rfl
theorem q3930 : (Jvm.Cond.privateMethod ({ cls := "RingHouseModel", name := "comeBack", desc := "(II)V" } : Jvm.MethodName)) ∈ lw_tbl := lw_at lw_m16 104 rfl
theorem q3931 : (Jvm.Cond.instanceMethod ({ cls := "RingHouseModel", name := "comeBack", desc := "(II)V" } : Jvm.MethodName)) ∈ lw_all := lw_g (lw_at lw_m16 105 rfl) rfl
theorem q3932 : (Jvm.Cond.code ({ cls := "RingHouseModel", name := "comeBack", desc := "(II)V" } : Jvm.MethodName) prog_69_method_92_code (7 : Nat) (Option.none : Option Jvm.ClassFile.FieldType)) ∈ lw_all := lw_g (lw_at lw_m16 106 rfl) rfl
theorem q3933 : (Jvm.Cond.methodLink "RingHouseModel" (649 : Nat) ({ cls := "RingHouseModel", name := "note", desc := "(IIII)V" } : Jvm.MethodName)) ∈ lw_all := lw_g (lw_at lw_m16 107 rfl) rfl
theorem q3934 : (Jvm.Cond.privateMethod ({ cls := "RingHouseModel", name := "note", desc := "(IIII)V" } : Jvm.MethodName)) ∈ lw_tbl := lw_at lw_m16 108 rfl
theorem q3935 : (Jvm.Cond.instanceMethod ({ cls := "RingHouseModel", name := "note", desc := "(IIII)V" } : Jvm.MethodName)) ∈ lw_all := lw_g (lw_at lw_m16 109 rfl) rfl
theorem q3936 : (Jvm.Cond.code ({ cls := "RingHouseModel", name := "note", desc := "(IIII)V" } : Jvm.MethodName) prog_69_method_52_code (6 : Nat) (Option.none : Option Jvm.ClassFile.FieldType)) ∈ lw_all := lw_g (lw_at lw_m16 110 rfl) rfl
theorem q3937 : (Jvm.Cond.methodLink "RingHouseModel" (692 : Nat) ({ cls := "RingHouseModel", name := "isOfEntry", desc := "(I)Z" } : Jvm.MethodName)) ∈ lw_all := lw_g (lw_at lw_m16 111 rfl) rfl
theorem q3938 : (Jvm.Cond.static ({ cls := "RingHouseModel", name := "isOfEntry", desc := "(I)Z" } : Jvm.MethodName)) ∈ lw_all := lw_g (lw_at lw_m16 112 rfl) rfl
theorem q3939 : (Jvm.Cond.code ({ cls := "RingHouseModel", name := "isOfEntry", desc := "(I)Z" } : Jvm.MethodName) prog_69_method_93_code (1 : Nat) (Option.some Jvm.ClassFile.FieldType.boolean)) ∈ lw_all := lw_g (lw_at lw_m16 113 rfl) rfl
theorem q3940 : (Jvm.Cond.constantLong "RingHouseModel" (704 : Nat) (10 : Int64)) ∈ lw_all := lw_g (lw_at lw_m16 114 rfl) rfl
theorem q3941 : (Jvm.Cond.constantLong "RingHouseModel" (706 : Nat) (25 : Int64)) ∈ lw_all := lw_g (lw_at lw_m16 115 rfl) rfl
theorem q3942 : (Jvm.Cond.constantLong "RingHouseModel" (708 : Nat) (27 : Int64)) ∈ lw_all := lw_g (lw_at lw_m16 116 rfl) rfl
theorem q3943 : (Jvm.Cond.methodLink "RingHouseModel" (695 : Nat) ({ cls := "RingHouseModel", name := "onEntry", desc := "(II)I" } : Jvm.MethodName)) ∈ lw_all := lw_g (lw_at lw_m16 117 rfl) rfl
theorem q3944 : (Jvm.Cond.privateMethod ({ cls := "RingHouseModel", name := "onEntry", desc := "(II)I" } : Jvm.MethodName)) ∈ lw_tbl := lw_at lw_m16 118 rfl
theorem q3945 : (Jvm.Cond.instanceMethod ({ cls := "RingHouseModel", name := "onEntry", desc := "(II)I" } : Jvm.MethodName)) ∈ lw_all := lw_g (lw_at lw_m16 119 rfl) rfl
theorem q3946 : (Jvm.Cond.code ({ cls := "RingHouseModel", name := "onEntry", desc := "(II)I" } : Jvm.MethodName) prog_69_method_94_code (6 : Nat) (Option.some Jvm.ClassFile.FieldType.int)) ∈ lw_all := lw_g (lw_at lw_m16 120 rfl) rfl
theorem q3947 : (Jvm.Cond.methodLink "RingHouseModel" (710 : Nat) ({ cls := "RingHouseModel", name := "onMailbox", desc := "(III)I" } : Jvm.MethodName)) ∈ lw_all := lw_g (lw_at lw_m16 121 rfl) rfl
theorem q3948 : (Jvm.Cond.privateMethod ({ cls := "RingHouseModel", name := "onMailbox", desc := "(III)I" } : Jvm.MethodName)) ∈ lw_tbl := lw_at lw_m16 122 rfl
theorem q3949 : (Jvm.Cond.instanceMethod ({ cls := "RingHouseModel", name := "onMailbox", desc := "(III)I" } : Jvm.MethodName)) ∈ lw_all := lw_g (lw_at lw_m16 123 rfl) rfl
theorem q3950 : (Jvm.Cond.code ({ cls := "RingHouseModel", name := "onMailbox", desc := "(III)I" } : Jvm.MethodName) prog_69_method_100_code (12 : Nat) (Option.some Jvm.ClassFile.FieldType.int)) ∈ lw_all := lw_g (lw_at lw_m16 124 rfl) rfl
theorem q3951 : (Jvm.Cond.methodLink "RingHouseModel" (750 : Nat) ({ cls := "RingHouseModel", name := "askMailbox", desc := "(III)I" } : Jvm.MethodName)) ∈ lw_all := lw_g (lw_at lw_m16 125 rfl) rfl
theorem q3952 : (Jvm.Cond.privateMethod ({ cls := "RingHouseModel", name := "askMailbox", desc := "(III)I" } : Jvm.MethodName)) ∈ lw_tbl := lw_at lw_m16 126 rfl
theorem q3953 : (Jvm.Cond.instanceMethod ({ cls := "RingHouseModel", name := "askMailbox", desc := "(III)I" } : Jvm.MethodName)) ∈ lw_all := lw_g (lw_at lw_m16 127 rfl) rfl
theorem q3954 : (Jvm.Cond.code ({ cls := "RingHouseModel", name := "askMailbox", desc := "(III)I" } : Jvm.MethodName) prog_69_method_90_code (4 : Nat) (Option.some Jvm.ClassFile.FieldType.int)) ∈ lw_all := lw_g (lw_at lw_m16 128 rfl) rfl
theorem q3955 : (Jvm.Cond.methodLink "RingHouseModel" (713 : Nat) ({ cls := "RingHouseModel", name := "modify", desc := "(III)I" } : Jvm.MethodName)) ∈ lw_all := lw_g (lw_at lw_m16 129 rfl) rfl
theorem q3956 : (Jvm.Cond.privateMethod ({ cls := "RingHouseModel", name := "modify", desc := "(III)I" } : Jvm.MethodName)) ∈ lw_tbl := lw_at lw_m16 130 rfl
theorem q3957 : (Jvm.Cond.instanceMethod ({ cls := "RingHouseModel", name := "modify", desc := "(III)I" } : Jvm.MethodName)) ∈ lw_all := lw_g (lw_at lw_m16 131 rfl) rfl
theorem q3958 : (Jvm.Cond.code ({ cls := "RingHouseModel", name := "modify", desc := "(III)I" } : Jvm.MethodName) prog_69_method_97_code (6 : Nat) (Option.some Jvm.ClassFile.FieldType.int)) ∈ lw_all := lw_g (lw_at lw_m16 132 rfl) rfl
theorem q3959 : (Jvm.Cond.methodLink "RingHouseModel" (727 : Nat) ({ cls := "RingHouseModel", name := "isUpgraded", desc := "(I)Z" } : Jvm.MethodName)) ∈ lw_all := lw_g (lw_at lw_m16 133 rfl) rfl
theorem q3960 : (Jvm.Cond.privateMethod ({ cls := "RingHouseModel", name := "isUpgraded", desc := "(I)Z" } : Jvm.MethodName)) ∈ lw_tbl := lw_at lw_m16 134 rfl
theorem q3961 : (Jvm.Cond.instanceMethod ({ cls := "RingHouseModel", name := "isUpgraded", desc := "(I)Z" } : Jvm.MethodName)) ∈ lw_all := lw_g (lw_at lw_m16 135 rfl) rfl
theorem q3962 : (Jvm.Cond.code ({ cls := "RingHouseModel", name := "isUpgraded", desc := "(I)Z" } : Jvm.MethodName) prog_69_method_14_code (2 : Nat) (Option.some Jvm.ClassFile.FieldType.boolean)) ∈ lw_all := lw_g (lw_at lw_m16 136 rfl) rfl
theorem q3963 : (Jvm.Cond.methodLink "RingHouseModel" (730 : Nat) ({ cls := "RingHouseModel", name := "isOutOfRing", desc := "(II)Z" } : Jvm.MethodName)) ∈ lw_all := lw_g (lw_at lw_m16 137 rfl) rfl
theorem q3964 : (Jvm.Cond.privateMethod ({ cls := "RingHouseModel", name := "isOutOfRing", desc := "(II)Z" } : Jvm.MethodName)) ∈ lw_tbl := lw_at lw_m16 138 rfl
theorem q3965 : (Jvm.Cond.instanceMethod ({ cls := "RingHouseModel", name := "isOutOfRing", desc := "(II)Z" } : Jvm.MethodName)) ∈ lw_all := lw_g (lw_at lw_m16 139 rfl) rfl
theorem q3966 : (Jvm.Cond.code ({ cls := "RingHouseModel", name := "isOutOfRing", desc := "(II)Z" } : Jvm.MethodName) prog_69_method_96_code (3 : Nat) (Option.some Jvm.ClassFile.FieldType.boolean)) ∈ lw_all := lw_g (lw_at lw_m16 140 rfl) rfl
theorem q3967 : (Jvm.Cond.methodLink "RingHouseModel" (733 : Nat) ({ cls := "RingHouseModel", name := "rename", desc := "(IJ)I" } : Jvm.MethodName)) ∈ lw_all := lw_g (lw_at lw_m16 141 rfl) rfl
theorem q3968 : (Jvm.Cond.methodLink "RingHouseModel" (736 : Nat) ({ cls := "RingHouseModel", name := "item", desc := "(IIII)I" } : Jvm.MethodName)) ∈ lw_all := lw_g (lw_at lw_m16 142 rfl) rfl
theorem q3969 : (Jvm.Cond.methodLink "RingHouseModel" (738 : Nat) ({ cls := "RingHouseModel", name := "newBrackets", desc := "(II)I" } : Jvm.MethodName)) ∈ lw_all := lw_g (lw_at lw_m16 143 rfl) rfl
theorem q3970 : (Jvm.Cond.privateMethod ({ cls := "RingHouseModel", name := "newBrackets", desc := "(II)I" } : Jvm.MethodName)) ∈ lw_tbl := lw_at lw_m16 144 rfl
theorem q3971 : (Jvm.Cond.instanceMethod ({ cls := "RingHouseModel", name := "newBrackets", desc := "(II)I" } : Jvm.MethodName)) ∈ lw_all := lw_g (lw_at lw_m16 145 rfl) rfl
theorem q3972 : (Jvm.Cond.code ({ cls := "RingHouseModel", name := "newBrackets", desc := "(II)I" } : Jvm.MethodName) prog_69_method_98_code (5 : Nat) (Option.some Jvm.ClassFile.FieldType.int)) ∈ lw_all := lw_g (lw_at lw_m16 146 rfl) rfl
theorem q3973 : (Jvm.Cond.constantLong "RingHouseModel" (744 : Nat) (32767 : Int64)) ∈ lw_all := lw_g (lw_at lw_m16 147 rfl) rfl
theorem q3974 : (Jvm.Cond.methodLink "RingHouseModel" (746 : Nat) ({ cls := "RingHouseModel", name := "brackets", desc := "(IIIII)I" } : Jvm.MethodName)) ∈ lw_all := lw_g (lw_at lw_m16 148 rfl) rfl
theorem q3975 : (Jvm.Cond.methodLink "RingHouseModel" (741 : Nat) ({ cls := "RingHouseModel", name := "newLimit", desc := "(II)I" } : Jvm.MethodName)) ∈ lw_all := lw_g (lw_at lw_m16 149 rfl) rfl
theorem q3976 : (Jvm.Cond.privateMethod ({ cls := "RingHouseModel", name := "newLimit", desc := "(II)I" } : Jvm.MethodName)) ∈ lw_tbl := lw_at lw_m16 150 rfl
theorem q3977 : (Jvm.Cond.instanceMethod ({ cls := "RingHouseModel", name := "newLimit", desc := "(II)I" } : Jvm.MethodName)) ∈ lw_all := lw_g (lw_at lw_m16 151 rfl) rfl
theorem q3978 : (Jvm.Cond.code ({ cls := "RingHouseModel", name := "newLimit", desc := "(II)I" } : Jvm.MethodName) prog_69_method_99_code (3 : Nat) (Option.some Jvm.ClassFile.FieldType.int)) ∈ lw_all := lw_g (lw_at lw_m16 152 rfl) rfl
theorem q3979 : (Jvm.Cond.methodLink "RingHouseModel" (716 : Nat) ({ cls := "RingHouseModel", name := "look", desc := "(III)I" } : Jvm.MethodName)) ∈ lw_all := lw_g (lw_at lw_m16 153 rfl) rfl
theorem q3980 : (Jvm.Cond.privateMethod ({ cls := "RingHouseModel", name := "look", desc := "(III)I" } : Jvm.MethodName)) ∈ lw_tbl := lw_at lw_m16 154 rfl
theorem q3981 : (Jvm.Cond.instanceMethod ({ cls := "RingHouseModel", name := "look", desc := "(III)I" } : Jvm.MethodName)) ∈ lw_all := lw_g (lw_at lw_m16 155 rfl) rfl
theorem q3982 : (Jvm.Cond.code ({ cls := "RingHouseModel", name := "look", desc := "(III)I" } : Jvm.MethodName) prog_69_method_95_code (5 : Nat) (Option.some Jvm.ClassFile.FieldType.int)) ∈ lw_all := lw_g (lw_at lw_m16 156 rfl) rfl
theorem q3983 : (Jvm.Cond.constantLong "RingHouseModel" (719 : Nat) (4 : Int64)) ∈ lw_all := lw_g (lw_at lw_m16 157 rfl) rfl
theorem q3984 : (Jvm.Cond.constantLong "RingHouseModel" (721 : Nat) (128 : Int64)) ∈ lw_all := lw_g (lw_at lw_m16 158 rfl) rfl
theorem q3985 : (Jvm.Cond.constantLong "RingHouseModel" (723 : Nat) (8192 : Int64)) ∈ lw_all := lw_g (lw_at lw_m16 159 rfl) rfl
theorem q3986 : (Jvm.Cond.constantLong "RingHouseModel" (725 : Nat) (65536 : Int64)) ∈ lw_all := lw_g (lw_at lw_m16 160 rfl) rfl
theorem q3987 : (Jvm.Cond.methodLink "RingHouseModel" (698 : Nat) ({ cls := "RingHouseModel", name := "add", desc := "(II)I" } : Jvm.MethodName)) ∈ lw_all := lw_g (lw_at lw_m16 161 rfl) rfl
theorem q3988 : (Jvm.Cond.privateMethod ({ cls := "RingHouseModel", name := "add", desc := "(II)I" } : Jvm.MethodName)) ∈ lw_tbl := lw_at lw_m16 162 rfl
theorem q3989 : (Jvm.Cond.instanceMethod ({ cls := "RingHouseModel", name := "add", desc := "(II)I" } : Jvm.MethodName)) ∈ lw_all := lw_g (lw_at lw_m16 163 rfl) rfl
theorem q3990 : (Jvm.Cond.code ({ cls := "RingHouseModel", name := "add", desc := "(II)I" } : Jvm.MethodName) prog_69_method_101_code (10 : Nat) (Option.some Jvm.ClassFile.FieldType.int)) ∈ lw_all := lw_g (lw_at lw_m16 164 rfl) rfl
theorem q3991 : (Jvm.Cond.constantLong "RingHouseModel" (753 : Nat) (32 : Int64)) ∈ lw_all := lw_g (lw_at lw_m16 165 rfl) rfl
theorem q3992 : (Jvm.Cond.methodLink "RingHouseModel" (701 : Nat) ({ cls := "RingHouseModel", name := "plain", desc := "(II)I" } : Jvm.MethodName)) ∈ lw_all := lw_g (lw_at lw_m16 166 rfl) rfl
theorem q3993 : (Jvm.Cond.privateMethod ({ cls := "RingHouseModel", name := "plain", desc := "(II)I" } : Jvm.MethodName)) ∈ lw_tbl := lw_at lw_m16 167 rfl
theorem q3994 : (Jvm.Cond.instanceMethod ({ cls := "RingHouseModel", name := "plain", desc := "(II)I" } : Jvm.MethodName)) ∈ lw_all := lw_g (lw_at lw_m16 168 rfl) rfl
theorem q3995 : (Jvm.Cond.code ({ cls := "RingHouseModel", name := "plain", desc := "(II)I" } : Jvm.MethodName) prog_69_method_102_code (3 : Nat) (Option.some Jvm.ClassFile.FieldType.int)) ∈ lw_all := lw_g (lw_at lw_m16 169 rfl) rfl
theorem q3996 : (Jvm.Cond.methodLink "RingHouseModel" (755 : Nat) ({ cls := "RingHouseModel", name := "nameOf", desc := "(I)I" } : Jvm.MethodName)) ∈ lw_all := lw_g (lw_at lw_m16 170 rfl) rfl
theorem q3997 : (Jvm.Cond.privateMethod ({ cls := "RingHouseModel", name := "nameOf", desc := "(I)I" } : Jvm.MethodName)) ∈ lw_tbl := lw_at lw_m16 171 rfl
theorem q3998 : (Jvm.Cond.instanceMethod ({ cls := "RingHouseModel", name := "nameOf", desc := "(I)I" } : Jvm.MethodName)) ∈ lw_all := lw_g (lw_at lw_m16 172 rfl) rfl
theorem q3999 : (Jvm.Cond.code ({ cls := "RingHouseModel", name := "nameOf", desc := "(I)I" } : Jvm.MethodName) prog_69_method_103_code (4 : Nat) (Option.some Jvm.ClassFile.FieldType.int)) ∈ lw_all := lw_g (lw_at lw_m16 173 rfl) rfl
theorem q4000 : (Jvm.Cond.constantLong "RingHouseModel" (767 : Nat) (256 : Int64)) ∈ lw_all := lw_g (lw_at lw_m16 174 rfl) rfl
theorem q4001 : (Jvm.Cond.methodLink "RingHouseModel" (769 : Nat) ({ cls := "RingHouseModel", name := "entryAt", desc := "(IJ)I" } : Jvm.MethodName)) ∈ lw_all := lw_g (lw_at lw_m16 175 rfl) rfl
theorem q4002 : (Jvm.Cond.privateMethod ({ cls := "RingHouseModel", name := "entryAt", desc := "(IJ)I" } : Jvm.MethodName)) ∈ lw_tbl := lw_at lw_m16 176 rfl
theorem q4003 : (Jvm.Cond.instanceMethod ({ cls := "RingHouseModel", name := "entryAt", desc := "(IJ)I" } : Jvm.MethodName)) ∈ lw_all := lw_g (lw_at lw_m16 177 rfl) rfl
theorem q4004 : (Jvm.Cond.code ({ cls := "RingHouseModel", name := "entryAt", desc := "(IJ)I" } : Jvm.MethodName) prog_69_method_12_code (7 : Nat) (Option.some Jvm.ClassFile.FieldType.int)) ∈ lw_all := lw_g (lw_at lw_m16 178 rfl) rfl
theorem q4005 : (Jvm.Cond.methodLink "RingHouseModel" (383 : Nat) ({ cls := "RingHouseModel", name := "entryBehind", desc := "(II)I" } : Jvm.MethodName)) ∈ lw_all := lw_g (lw_at lw_m16 179 rfl) rfl
theorem q4006 : (Jvm.Cond.privateMethod ({ cls := "RingHouseModel", name := "entryBehind", desc := "(II)I" } : Jvm.MethodName)) ∈ lw_tbl := lw_at lw_m16 180 rfl
theorem q4007 : (Jvm.Cond.instanceMethod ({ cls := "RingHouseModel", name := "entryBehind", desc := "(II)I" } : Jvm.MethodName)) ∈ lw_all := lw_g (lw_at lw_m16 181 rfl) rfl
theorem q4008 : (Jvm.Cond.code ({ cls := "RingHouseModel", name := "entryBehind", desc := "(II)I" } : Jvm.MethodName) prog_69_method_11_code (6 : Nat) (Option.some Jvm.ClassFile.FieldType.int)) ∈ lw_all := lw_g (lw_at lw_m16 182 rfl) rfl
theorem q4009 : (Jvm.Cond.methodLink "RingHouseModel" (758 : Nat) ({ cls := "RingHouseModel", name := "newLength", desc := "(I)I" } : Jvm.MethodName)) ∈ lw_all := lw_g (lw_at lw_m16 183 rfl) rfl
theorem q4010 : (Jvm.Cond.privateMethod ({ cls := "RingHouseModel", name := "newLength", desc := "(I)I" } : Jvm.MethodName)) ∈ lw_tbl := lw_at lw_m16 184 rfl
theorem q4011 : (Jvm.Cond.instanceMethod ({ cls := "RingHouseModel", name := "newLength", desc := "(I)I" } : Jvm.MethodName)) ∈ lw_all := lw_g (lw_at lw_m16 185 rfl) rfl
theorem q4012 : (Jvm.Cond.code ({ cls := "RingHouseModel", name := "newLength", desc := "(I)I" } : Jvm.MethodName) prog_69_method_104_code (4 : Nat) (Option.some Jvm.ClassFile.FieldType.int)) ∈ lw_all := lw_g (lw_at lw_m16 186 rfl) rfl
theorem q4013 : (Jvm.Cond.methodLink "RingHouseModel" (761 : Nat) ({ cls := "RingHouseModel", name := "newFirst", desc := "(I)I" } : Jvm.MethodName)) ∈ lw_all := lw_g (lw_at lw_m16 187 rfl) rfl
theorem q4014 : (Jvm.Cond.privateMethod ({ cls := "RingHouseModel", name := "newFirst", desc := "(I)I" } : Jvm.MethodName)) ∈ lw_tbl := lw_at lw_m16 188 rfl
theorem q4015 : (Jvm.Cond.instanceMethod ({ cls := "RingHouseModel", name := "newFirst", desc := "(I)I" } : Jvm.MethodName)) ∈ lw_all := lw_g (lw_at lw_m16 189 rfl) rfl
theorem q4016 : (Jvm.Cond.code ({ cls := "RingHouseModel", name := "newFirst", desc := "(I)I" } : Jvm.MethodName) prog_69_method_105_code (5 : Nat) (Option.some Jvm.ClassFile.FieldType.int)) ∈ lw_all := lw_g (lw_at lw_m16 190 rfl) rfl
theorem q4017 : (Jvm.Cond.methodLink "RingHouseModel" (772 : Nat) ({ cls := "RingHouseModel", name := "initial", desc := "(IIIII)I" } : Jvm.MethodName)) ∈ lw_all := lw_g (lw_at lw_m16 191 rfl) rfl
theorem q4018 : (Jvm.Cond.methodLink "RingHouseModel" (764 : Nat) ({ cls := "RingHouseModel", name := "among", desc := "(II)I" } : Jvm.MethodName)) ∈ lw_all := lw_g (lw_at lw_m16 192 rfl) rfl
theorem q4019 : (Jvm.Cond.privateMethod ({ cls := "RingHouseModel", name := "among", desc := "(II)I" } : Jvm.MethodName)) ∈ lw_tbl := lw_at lw_m16 193 rfl
theorem q4020 : (Jvm.Cond.instanceMethod ({ cls := "RingHouseModel", name := "among", desc := "(II)I" } : Jvm.MethodName)) ∈ lw_all := lw_g (lw_at lw_m16 194 rfl) rfl
theorem q4021 : (Jvm.Cond.code ({ cls := "RingHouseModel", name := "among", desc := "(II)I" } : Jvm.MethodName) prog_69_method_106_code (4 : Nat) (Option.some Jvm.ClassFile.FieldType.int)) ∈ lw_all := lw_g (lw_at lw_m16 195 rfl) rfl
theorem q4022 : (Jvm.Cond.constantLong "RingHouseModel" (775 : Nat) (4096 : Int64)) ∈ lw_all := lw_g (lw_at lw_m16 196 rfl) rfl
theorem q4023 : (Jvm.Cond.methodLink "RingHouseModel" (777 : Nat) ({ cls := "RingHouseModel", name := "doable", desc := "(I)I" } : Jvm.MethodName)) ∈ lw_all := lw_g (lw_at lw_m16 197 rfl) rfl
theorem q4024 : (Jvm.Cond.privateMethod ({ cls := "RingHouseModel", name := "doable", desc := "(I)I" } : Jvm.MethodName)) ∈ lw_tbl := lw_at lw_m16 198 rfl
theorem q4025 : (Jvm.Cond.instanceMethod ({ cls := "RingHouseModel", name := "doable", desc := "(I)I" } : Jvm.MethodName)) ∈ lw_all := lw_g (lw_at lw_m16 199 rfl) rfl
theorem q4026 : (Jvm.Cond.code ({ cls := "RingHouseModel", name := "doable", desc := "(I)I" } : Jvm.MethodName) prog_69_method_107_code (4 : Nat) (Option.some Jvm.ClassFile.FieldType.int)) ∈ lw_all := lw_g (lw_at lw_m16 200 rfl) rfl
theorem q4027 : (Jvm.Cond.methodLink "RingHouseModel" (635 : Nat) ({ cls := "RingHouseModel", name := "act", desc := "(III)V" } : Jvm.MethodName)) ∈ lw_all := lw_g (lw_at lw_m16 201 rfl) rfl
theorem q4028 : (Jvm.Cond.privateMethod ({ cls := "RingHouseModel", name := "act", desc := "(III)V" } : Jvm.MethodName)) ∈ lw_tbl := lw_at lw_m16 202 rfl
theorem q4029 : (Jvm.Cond.instanceMethod ({ cls := "RingHouseModel", name := "act", desc := "(III)V" } : Jvm.MethodName)) ∈ lw_all := lw_g (lw_at lw_m16 203 rfl) rfl
theorem q4030 : (Jvm.Cond.code ({ cls := "RingHouseModel", name := "act", desc := "(III)V" } : Jvm.MethodName) prog_69_method_78_code (6 : Nat) (Option.none : Option Jvm.ClassFile.FieldType)) ∈ lw_all := lw_g (lw_at lw_m16 204 rfl) rfl
theorem q4031 : (Jvm.Cond.methodLink "RingHouseModel" (591 : Nat) ({ cls := "RingHouseModel", name := "flag", desc := "(IJ)V" } : Jvm.MethodName)) ∈ lw_all := lw_g (lw_at lw_m16 205 rfl) rfl
theorem q4032 : (Jvm.Cond.privateMethod ({ cls := "RingHouseModel", name := "flag", desc := "(IJ)V" } : Jvm.MethodName)) ∈ lw_tbl := lw_at lw_m16 206 rfl
theorem q4033 : (Jvm.Cond.instanceMethod ({ cls := "RingHouseModel", name := "flag", desc := "(IJ)V" } : Jvm.MethodName)) ∈ lw_all := lw_g (lw_at lw_m16 207 rfl) rfl
theorem q4034 : (Jvm.Cond.code ({ cls := "RingHouseModel", name := "flag", desc := "(IJ)V" } : Jvm.MethodName) prog_69_method_62_code (4 : Nat) (Option.none : Option Jvm.ClassFile.FieldType)) ∈ lw_all := lw_g (lw_at lw_m16 208 rfl) rfl
theorem q4035 : (Jvm.Cond.constantLong "RingHouseModel" (375 : Nat) (34359738368 : Int64)) ∈ lw_all := lw_g (lw_at lw_m16 209 rfl) rfl
theorem q4036 : (Jvm.Cond.methodLink "RingHouseModel" (638 : Nat) ({ cls := "RingHouseModel", name := "jump", desc := "(II)V" } : Jvm.MethodName)) ∈ lw_all := lw_g (lw_at lw_m16 210 rfl) rfl
theorem q4037 : (Jvm.Cond.privateMethod ({ cls := "RingHouseModel", name := "jump", desc := "(II)V" } : Jvm.MethodName)) ∈ lw_tbl := lw_at lw_m16 211 rfl
theorem q4038 : (Jvm.Cond.instanceMethod ({ cls := "RingHouseModel", name := "jump", desc := "(II)V" } : Jvm.MethodName)) ∈ lw_all := lw_g (lw_at lw_m16 212 rfl) rfl
theorem q4039 : (Jvm.Cond.code ({ cls := "RingHouseModel", name := "jump", desc := "(II)V" } : Jvm.MethodName) prog_69_method_74_code (4 : Nat) (Option.none : Option Jvm.ClassFile.FieldType)) ∈ lw_all := lw_g (lw_at lw_m16 213 rfl) rfl
theorem q4040 : (Jvm.Cond.methodLink "RingHouseModel" (599 : Nat) ({ cls := "RingHouseModel", name := "flagHalf", desc := "(II)V" } : Jvm.MethodName)) ∈ lw_all := lw_g (lw_at lw_m16 214 rfl) rfl
theorem q4041 : (Jvm.Cond.privateMethod ({ cls := "RingHouseModel", name := "flagHalf", desc := "(II)V" } : Jvm.MethodName)) ∈ lw_tbl := lw_at lw_m16 215 rfl
theorem q4042 : (Jvm.Cond.instanceMethod ({ cls := "RingHouseModel", name := "flagHalf", desc := "(II)V" } : Jvm.MethodName)) ∈ lw_all := lw_g (lw_at lw_m16 216 rfl) rfl
theorem q4043 : (Jvm.Cond.code ({ cls := "RingHouseModel", name := "flagHalf", desc := "(II)V" } : Jvm.MethodName) prog_69_method_63_code (3 : Nat) (Option.none : Option Jvm.ClassFile.FieldType)) ∈ lw_all := lw_g (lw_at lw_m16 217 rfl) rfl
theorem q4044 : (Jvm.Cond.constant "RingHouseModel" (536 : Nat) (131072 : Int32)) ∈ lw_all := lw_g (lw_at lw_m16 218 rfl) rfl
theorem q4045 : (Jvm.Cond.methodLink "RingHouseModel" (641 : Nat) ({ cls := "RingHouseModel", name := "place", desc := "(II)V" } : Jvm.MethodName)) ∈ lw_all := lw_g (lw_at lw_m16 219 rfl) rfl
theorem q4046 : (Jvm.Cond.privateMethod ({ cls := "RingHouseModel", name := "place", desc := "(II)V" } : Jvm.MethodName)) ∈ lw_tbl := lw_at lw_m16 220 rfl
theorem q4047 : (Jvm.Cond.instanceMethod ({ cls := "RingHouseModel", name := "place", desc := "(II)V" } : Jvm.MethodName)) ∈ lw_all := lw_g (lw_at lw_m16 221 rfl) rfl
theorem q4048 : (Jvm.Cond.code ({ cls := "RingHouseModel", name := "place", desc := "(II)V" } : Jvm.MethodName) prog_69_method_72_code (3 : Nat) (Option.none : Option Jvm.ClassFile.FieldType)) ∈ lw_all := lw_g (lw_at lw_m16 222 rfl) rfl
theorem q4049 : (Jvm.Cond.methodLink "RingHouseModel" (606 : Nat) ({ cls := "RingHouseModel", name := "pointerWord", desc := "(III)J" } : Jvm.MethodName)) ∈ lw_all := lw_g (lw_at lw_m16 223 rfl) rfl
theorem q4050 : (Jvm.Cond.static ({ cls := "RingHouseModel", name := "pointerWord", desc := "(III)J" } : Jvm.MethodName)) ∈ lw_all := lw_g (lw_at lw_m16 224 rfl) rfl
theorem q4051 : (Jvm.Cond.code ({ cls := "RingHouseModel", name := "pointerWord", desc := "(III)J" } : Jvm.MethodName) prog_69_method_61_code (3 : Nat) (Option.some Jvm.ClassFile.FieldType.long)) ∈ lw_all := lw_g (lw_at lw_m16 225 rfl) rfl
theorem q4052 : (Jvm.Cond.constantLong "RingHouseModel" (534 : Nat) (42949672960 : Int64)) ∈ lw_all := lw_g (lw_at lw_m16 226 rfl) rfl
theorem q4053 : (Jvm.Cond.methodLink "RingHouseModel" (609 : Nat) ({ cls := "RingHouseModel", name := "shifted", desc := "(JII)J" } : Jvm.MethodName)) ∈ lw_all := lw_g (lw_at lw_m16 227 rfl) rfl
theorem q4054 : (Jvm.Cond.static ({ cls := "RingHouseModel", name := "shifted", desc := "(JII)J" } : Jvm.MethodName)) ∈ lw_all := lw_g (lw_at lw_m16 228 rfl) rfl
theorem q4055 : (Jvm.Cond.code ({ cls := "RingHouseModel", name := "shifted", desc := "(JII)J" } : Jvm.MethodName) prog_69_method_71_code (4 : Nat) (Option.some Jvm.ClassFile.FieldType.long)) ∈ lw_all := lw_g (lw_at lw_m16 229 rfl) rfl
theorem q4056 : (Jvm.Cond.methodLink "RingHouseModel" (595 : Nat) ({ cls := "RingHouseModel", name := "signed", desc := "(J)J" } : Jvm.MethodName)) ∈ lw_all := lw_g (lw_at lw_m16 230 rfl) rfl
theorem q4057 : (Jvm.Cond.static ({ cls := "RingHouseModel", name := "signed", desc := "(J)J" } : Jvm.MethodName)) ∈ lw_all := lw_g (lw_at lw_m16 231 rfl) rfl
theorem q4058 : (Jvm.Cond.code ({ cls := "RingHouseModel", name := "signed", desc := "(J)J" } : Jvm.MethodName) prog_69_method_6_code (2 : Nat) (Option.some Jvm.ClassFile.FieldType.long)) ∈ lw_all := lw_g (lw_at lw_m16 232 rfl) rfl
theorem q4059 : (Jvm.Cond.methodLink "RingHouseModel" (643 : Nat) ({ cls := "RingHouseModel", name := "reckon", desc := "(II)V" } : Jvm.MethodName)) ∈ lw_all := lw_g (lw_at lw_m16 233 rfl) rfl
theorem q4060 : (Jvm.Cond.privateMethod ({ cls := "RingHouseModel", name := "reckon", desc := "(II)V" } : Jvm.MethodName)) ∈ lw_tbl := lw_at lw_m16 234 rfl
theorem q4061 : (Jvm.Cond.instanceMethod ({ cls := "RingHouseModel", name := "reckon", desc := "(II)V" } : Jvm.MethodName)) ∈ lw_all := lw_g (lw_at lw_m16 235 rfl) rfl
theorem q4062 : (Jvm.Cond.code ({ cls := "RingHouseModel", name := "reckon", desc := "(II)V" } : Jvm.MethodName) prog_69_method_69_code (8 : Nat) (Option.none : Option Jvm.ClassFile.FieldType)) ∈ lw_all := lw_g (lw_at lw_m16 236 rfl) rfl
theorem q4063 : (Jvm.Cond.methodLink "RingHouseModel" (587 : Nat) ({ cls := "RingHouseModel", name := "value", desc := "(I)J" } : Jvm.MethodName)) ∈ lw_all := lw_g (lw_at lw_m16 237 rfl) rfl
theorem q4064 : (Jvm.Cond.privateMethod ({ cls := "RingHouseModel", name := "value", desc := "(I)J" } : Jvm.MethodName)) ∈ lw_tbl := lw_at lw_m16 238 rfl
theorem q4065 : (Jvm.Cond.instanceMethod ({ cls := "RingHouseModel", name := "value", desc := "(I)J" } : Jvm.MethodName)) ∈ lw_all := lw_g (lw_at lw_m16 239 rfl) rfl
theorem q4066 : (Jvm.Cond.code ({ cls := "RingHouseModel", name := "value", desc := "(I)J" } : Jvm.MethodName) prog_69_method_68_code (2 : Nat) (Option.some Jvm.ClassFile.FieldType.long)) ∈ lw_all := lw_g (lw_at lw_m17 0 rfl) rfl
theorem q4067 : (Jvm.Cond.methodLink "RingHouseModel" (584 : Nat) ({ cls := "RingHouseModel", name := "may", desc := "(II)Z" } : Jvm.MethodName)) ∈ lw_all := lw_g (lw_at lw_m17 1 rfl) rfl
theorem q4068 : (Jvm.Cond.privateMethod ({ cls := "RingHouseModel", name := "may", desc := "(II)Z" } : Jvm.MethodName)) ∈ lw_tbl := lw_at lw_m17 2 rfl
theorem q4069 : (Jvm.Cond.instanceMethod ({ cls := "RingHouseModel", name := "may", desc := "(II)Z" } : Jvm.MethodName)) ∈ lw_all := lw_g (lw_at lw_m17 3 rfl) rfl
theorem q4070 : (Jvm.Cond.code ({ cls := "RingHouseModel", name := "may", desc := "(II)Z" } : Jvm.MethodName) prog_69_method_67_code (3 : Nat) (Option.some Jvm.ClassFile.FieldType.boolean)) ∈ lw_all := lw_g (lw_at lw_m17 4 rfl) rfl
theorem q4071 : (Jvm.Cond.methodLink "RingHouseModel" (646 : Nat) ({ cls := "RingHouseModel", name := "write", desc := "(II)V" } : Jvm.MethodName)) ∈ lw_all := lw_g (lw_at lw_m17 5 rfl) rfl
theorem q4072 : (Jvm.Cond.privateMethod ({ cls := "RingHouseModel", name := "write", desc := "(II)V" } : Jvm.MethodName)) ∈ lw_tbl := lw_at lw_m17 6 rfl
theorem q4073 : (Jvm.Cond.instanceMethod ({ cls := "RingHouseModel", name := "write", desc := "(II)V" } : Jvm.MethodName)) ∈ lw_all := lw_g (lw_at lw_m17 7 rfl) rfl
theorem q4074 : (Jvm.Cond.code ({ cls := "RingHouseModel", name := "write", desc := "(II)V" } : Jvm.MethodName) prog_69_method_70_code (6 : Nat) (Option.none : Option Jvm.ClassFile.FieldType)) ∈ lw_all := lw_g (lw_at lw_m17 8 rfl) rfl
theorem q4075 : (Jvm.Cond.methodLink "RingHouseModel" (602 : Nat) ({ cls := "RingHouseModel", name := "setWord", desc := "(IIIJ)V" } : Jvm.MethodName)) ∈ lw_all := lw_g (lw_at lw_m17 9 rfl) rfl
theorem q4076 : (Jvm.Cond.privateMethod ({ cls := "RingHouseModel", name := "setWord", desc := "(IIIJ)V" } : Jvm.MethodName)) ∈ lw_tbl := lw_at lw_m17 10 rfl
theorem q4077 : (Jvm.Cond.instanceMethod ({ cls := "RingHouseModel", name := "setWord", desc := "(IIIJ)V" } : Jvm.MethodName)) ∈ lw_all := lw_g (lw_at lw_m17 11 rfl) rfl
theorem q4078 : (Jvm.Cond.code ({ cls := "RingHouseModel", name := "setWord", desc := "(IIIJ)V" } : Jvm.MethodName) prog_69_method_60_code (6 : Nat) (Option.none : Option Jvm.ClassFile.FieldType)) ∈ lw_all := lw_g (lw_at lw_m17 12 rfl) rfl
theorem q4079 : (Jvm.Cond.methodLink "RingHouseModel" (655 : Nat) ({ cls := "RingHouseModel", name := "suffer", desc := "(I)V" } : Jvm.MethodName)) ∈ lw_all := lw_g (lw_at lw_m17 13 rfl) rfl
theorem q4080 : (Jvm.Cond.privateMethod ({ cls := "RingHouseModel", name := "suffer", desc := "(I)V" } : Jvm.MethodName)) ∈ lw_tbl := lw_at lw_m17 14 rfl
theorem q4081 : (Jvm.Cond.instanceMethod ({ cls := "RingHouseModel", name := "suffer", desc := "(I)V" } : Jvm.MethodName)) ∈ lw_all := lw_g (lw_at lw_m17 15 rfl) rfl
theorem q4082 : (Jvm.Cond.code ({ cls := "RingHouseModel", name := "suffer", desc := "(I)V" } : Jvm.MethodName) prog_69_method_79_code (4 : Nat) (Option.none : Option Jvm.ClassFile.FieldType)) ∈ lw_all := lw_g (lw_at lw_m17 16 rfl) rfl
theorem q4084 : (Jvm.Cond.instanceMethod ({ cls := "RingHouseModel", name := "schedule", desc := "(II)I" } : Jvm.MethodName)) ∈ lw_all := lw_g (lw_at lw_m17 18 rfl) rfl
theorem q4085 : (Jvm.Cond.selects "RingHouseModel" ({ cls := "RingHouseModel", name := "schedule", desc := "(II)I" } : Jvm.MethodName) ({ cls := "RingHouseModel", name := "schedule", desc := "(II)I" } : Jvm.MethodName)) ∈ lw_all := lw_g (lw_at lw_m17 19 rfl) rfl
theorem q4086 : (Jvm.Cond.code ({ cls := "RingHouseModel", name := "schedule", desc := "(II)I" } : Jvm.MethodName) prog_69_method_113_code (4 : Nat) (Option.some Jvm.ClassFile.FieldType.int)) ∈ lw_all := lw_g (lw_at lw_m17 20 rfl) rfl
theorem q4088 : (Jvm.Cond.instanceMethod ({ cls := "RingHouseModel", name := "run", desc := "(I)I" } : Jvm.MethodName)) ∈ lw_all := lw_g (lw_at lw_m17 22 rfl) rfl
theorem q4089 : (Jvm.Cond.selects "RingHouseModel" ({ cls := "RingHouseModel", name := "run", desc := "(I)I" } : Jvm.MethodName) ({ cls := "RingHouseModel", name := "run", desc := "(I)I" } : Jvm.MethodName)) ∈ lw_all := lw_g (lw_at lw_m17 23 rfl) rfl
theorem q4090 : (Jvm.Cond.code ({ cls := "RingHouseModel", name := "run", desc := "(I)I" } : Jvm.MethodName) prog_69_method_114_code (5 : Nat) (Option.some Jvm.ClassFile.FieldType.int)) ∈ lw_all := lw_g (lw_at lw_m17 24 rfl) rfl
theorem q4091 : (Jvm.Cond.constantLong "RingHouseModel" (790 : Nat) (2000 : Int64)) ∈ lw_all := lw_g (lw_at lw_m17 25 rfl) rfl
theorem q4093 : (Jvm.Cond.instanceMethod ({ cls := "RingHouseModel", name := "register", desc := "(II)J" } : Jvm.MethodName)) ∈ lw_all := lw_g (lw_at lw_m17 27 rfl) rfl
theorem q4094 : (Jvm.Cond.selects "RingHouseModel" ({ cls := "RingHouseModel", name := "register", desc := "(II)J" } : Jvm.MethodName) ({ cls := "RingHouseModel", name := "register", desc := "(II)J" } : Jvm.MethodName)) ∈ lw_all := lw_g (lw_at lw_m17 28 rfl) rfl
theorem q4095 : (Jvm.Cond.code ({ cls := "RingHouseModel", name := "register", desc := "(II)J" } : Jvm.MethodName) prog_69_method_115_code (4 : Nat) (Option.some Jvm.ClassFile.FieldType.long)) ∈ lw_all := lw_g (lw_at lw_m17 29 rfl) rfl
theorem q4096 : (Jvm.Cond.constantLong "RingHouseModel" (795 : Nat) (23 : Int64)) ∈ lw_all := lw_g (lw_at lw_m17 30 rfl) rfl
theorem q4098 : (Jvm.Cond.instanceMethod ({ cls := "RingHouseModel", name := "process", desc := "(II)I" } : Jvm.MethodName)) ∈ lw_all := lw_g (lw_at lw_m17 32 rfl) rfl
theorem q4099 : (Jvm.Cond.selects "RingHouseModel" ({ cls := "RingHouseModel", name := "process", desc := "(II)I" } : Jvm.MethodName) ({ cls := "RingHouseModel", name := "process", desc := "(II)I" } : Jvm.MethodName)) ∈ lw_all := lw_g (lw_at lw_m17 33 rfl) rfl
theorem q4100 : (Jvm.Cond.code ({ cls := "RingHouseModel", name := "process", desc := "(II)I" } : Jvm.MethodName) prog_69_method_116_code (3 : Nat) (Option.some Jvm.ClassFile.FieldType.int)) ∈ lw_all := lw_g (lw_at lw_m17 34 rfl) rfl
theorem q4101 : (Jvm.Cond.constantLong "RingHouseModel" (797 : Nat) (11 : Int64)) ∈ lw_all := lw_g (lw_at lw_m17 35 rfl) rfl
theorem q4103 : (Jvm.Cond.instanceMethod ({ cls := "RingHouseModel", name := "stack", desc := "(III)J" } : Jvm.MethodName)) ∈ lw_all := lw_g (lw_at lw_m17 37 rfl) rfl
theorem q4104 : (Jvm.Cond.selects "RingHouseModel" ({ cls := "RingHouseModel", name := "stack", desc := "(III)J" } : Jvm.MethodName) ({ cls := "RingHouseModel", name := "stack", desc := "(III)J" } : Jvm.MethodName)) ∈ lw_all := lw_g (lw_at lw_m17 38 rfl) rfl
theorem q4105 : (Jvm.Cond.code ({ cls := "RingHouseModel", name := "stack", desc := "(III)J" } : Jvm.MethodName) prog_69_method_117_code (4 : Nat) (Option.some Jvm.ClassFile.FieldType.long)) ∈ lw_all := lw_g (lw_at lw_m17 39 rfl) rfl
theorem q4107 : (Jvm.Cond.instanceMethod ({ cls := "RingHouseModel", name := "known", desc := "(II)I" } : Jvm.MethodName)) ∈ lw_all := lw_g (lw_at lw_m17 41 rfl) rfl
theorem q4108 : (Jvm.Cond.selects "RingHouseModel" ({ cls := "RingHouseModel", name := "known", desc := "(II)I" } : Jvm.MethodName) ({ cls := "RingHouseModel", name := "known", desc := "(II)I" } : Jvm.MethodName)) ∈ lw_all := lw_g (lw_at lw_m17 42 rfl) rfl
theorem q4109 : (Jvm.Cond.code ({ cls := "RingHouseModel", name := "known", desc := "(II)I" } : Jvm.MethodName) prog_69_method_118_code (3 : Nat) (Option.some Jvm.ClassFile.FieldType.int)) ∈ lw_all := lw_g (lw_at lw_m17 43 rfl) rfl
theorem q4111 : (Jvm.Cond.instanceMethod ({ cls := "RingHouseModel", name := "link", desc := "(III)J" } : Jvm.MethodName)) ∈ lw_all := lw_g (lw_at lw_m17 45 rfl) rfl
theorem q4112 : (Jvm.Cond.selects "RingHouseModel" ({ cls := "RingHouseModel", name := "link", desc := "(III)J" } : Jvm.MethodName) ({ cls := "RingHouseModel", name := "link", desc := "(III)J" } : Jvm.MethodName)) ∈ lw_all := lw_g (lw_at lw_m17 46 rfl) rfl
theorem q4113 : (Jvm.Cond.code ({ cls := "RingHouseModel", name := "link", desc := "(III)J" } : Jvm.MethodName) prog_69_method_119_code (4 : Nat) (Option.some Jvm.ClassFile.FieldType.long)) ∈ lw_all := lw_g (lw_at lw_m17 47 rfl) rfl
theorem q4115 : (Jvm.Cond.instanceMethod ({ cls := "RingHouseModel", name := "event", desc := "(III)J" } : Jvm.MethodName)) ∈ lw_all := lw_g (lw_at lw_m17 49 rfl) rfl
theorem q4116 : (Jvm.Cond.selects "RingHouseModel" ({ cls := "RingHouseModel", name := "event", desc := "(III)J" } : Jvm.MethodName) ({ cls := "RingHouseModel", name := "event", desc := "(III)J" } : Jvm.MethodName)) ∈ lw_all := lw_g (lw_at lw_m17 50 rfl) rfl
theorem q4117 : (Jvm.Cond.code ({ cls := "RingHouseModel", name := "event", desc := "(III)J" } : Jvm.MethodName) prog_69_method_120_code (4 : Nat) (Option.some Jvm.ClassFile.FieldType.long)) ∈ lw_all := lw_g (lw_at lw_m17 51 rfl) rfl
theorem q4119 : (Jvm.Cond.instanceMethod ({ cls := "RingHouseModel", name := "sum", desc := "(I)J" } : Jvm.MethodName)) ∈ lw_all := lw_g (lw_at lw_m17 53 rfl) rfl
theorem q4120 : (Jvm.Cond.selects "RingHouseModel" ({ cls := "RingHouseModel", name := "sum", desc := "(I)J" } : Jvm.MethodName) ({ cls := "RingHouseModel", name := "sum", desc := "(I)J" } : Jvm.MethodName)) ∈ lw_all := lw_g (lw_at lw_m17 54 rfl) rfl
theorem q4121 : (Jvm.Cond.code ({ cls := "RingHouseModel", name := "sum", desc := "(I)J" } : Jvm.MethodName) prog_69_method_121_code (2 : Nat) (Option.some Jvm.ClassFile.FieldType.long)) ∈ lw_all := lw_g (lw_at lw_m17 55 rfl) rfl
theorem q4123 : (Jvm.Cond.instanceMethod ({ cls := "RingHouseModel", name := "assemble", desc := "(I)I" } : Jvm.MethodName)) ∈ lw_all := lw_g (lw_at lw_m17 57 rfl) rfl
theorem q4124 : (Jvm.Cond.selects "RingHouseModel" ({ cls := "RingHouseModel", name := "assemble", desc := "(I)I" } : Jvm.MethodName) ({ cls := "RingHouseModel", name := "assemble", desc := "(I)I" } : Jvm.MethodName)) ∈ lw_all := lw_g (lw_at lw_m17 58 rfl) rfl
theorem q4125 : (Jvm.Cond.code ({ cls := "RingHouseModel", name := "assemble", desc := "(I)I" } : Jvm.MethodName) prog_69_method_158_code (6 : Nat) (Option.some Jvm.ClassFile.FieldType.int)) ∈ lw_all := lw_g (lw_at lw_m17 59 rfl) rfl
theorem q4126 : (Jvm.Cond.methodLink "RingHouseModel" (986 : Nat) ({ cls := "RingHouseModel", name := "readText", desc := "(Z)V" } : Jvm.MethodName)) ∈ lw_all := lw_g (lw_at lw_m17 60 rfl) rfl
theorem q4127 : (Jvm.Cond.privateMethod ({ cls := "RingHouseModel", name := "readText", desc := "(Z)V" } : Jvm.MethodName)) ∈ lw_tbl := lw_at lw_m17 61 rfl
theorem q4128 : (Jvm.Cond.instanceMethod ({ cls := "RingHouseModel", name := "readText", desc := "(Z)V" } : Jvm.MethodName)) ∈ lw_all := lw_g (lw_at lw_m17 62 rfl) rfl
theorem q4129 : (Jvm.Cond.code ({ cls := "RingHouseModel", name := "readText", desc := "(Z)V" } : Jvm.MethodName) prog_69_method_157_code (3 : Nat) (Option.none : Option Jvm.ClassFile.FieldType)) ∈ lw_all := lw_g (lw_at lw_m17 63 rfl) rfl
theorem q4130 : (Jvm.Cond.methodLink "RingHouseModel" (980 : Nat) ({ cls := "RingHouseModel", name := "lineEnd", desc := "(I)I" } : Jvm.MethodName)) ∈ lw_all := lw_g (lw_at lw_m17 64 rfl) rfl
theorem q4131 : (Jvm.Cond.privateMethod ({ cls := "RingHouseModel", name := "lineEnd", desc := "(I)I" } : Jvm.MethodName)) ∈ lw_tbl := lw_at lw_m17 65 rfl
theorem q4132 : (Jvm.Cond.instanceMethod ({ cls := "RingHouseModel", name := "lineEnd", desc := "(I)I" } : Jvm.MethodName)) ∈ lw_all := lw_g (lw_at lw_m17 66 rfl) rfl
theorem q4133 : (Jvm.Cond.code ({ cls := "RingHouseModel", name := "lineEnd", desc := "(I)I" } : Jvm.MethodName) prog_69_method_127_code (3 : Nat) (Option.some Jvm.ClassFile.FieldType.int)) ∈ lw_all := lw_g (lw_at lw_m17 67 rfl) rfl
theorem q4134 : (Jvm.Cond.methodLink "RingHouseModel" (983 : Nat) ({ cls := "RingHouseModel", name := "lineOfText", desc := "()V" } : Jvm.MethodName)) ∈ lw_all := lw_g (lw_at lw_m17 68 rfl) rfl
theorem q4135 : (Jvm.Cond.privateMethod ({ cls := "RingHouseModel", name := "lineOfText", desc := "()V" } : Jvm.MethodName)) ∈ lw_tbl := lw_at lw_m17 69 rfl
theorem q4136 : (Jvm.Cond.instanceMethod ({ cls := "RingHouseModel", name := "lineOfText", desc := "()V" } : Jvm.MethodName)) ∈ lw_all := lw_g (lw_at lw_m17 70 rfl) rfl
theorem q4137 : (Jvm.Cond.code ({ cls := "RingHouseModel", name := "lineOfText", desc := "()V" } : Jvm.MethodName) prog_69_method_156_code (4 : Nat) (Option.none : Option Jvm.ClassFile.FieldType)) ∈ lw_all := lw_g (lw_at lw_m17 71 rfl) rfl
theorem q4138 : (Jvm.Cond.methodLink "RingHouseModel" (846 : Nat) ({ cls := "RingHouseModel", name := "next", desc := "()V" } : Jvm.MethodName)) ∈ lw_all := lw_g (lw_at lw_m17 72 rfl) rfl
theorem q4139 : (Jvm.Cond.privateMethod ({ cls := "RingHouseModel", name := "next", desc := "()V" } : Jvm.MethodName)) ∈ lw_tbl := lw_at lw_m17 73 rfl
theorem q4140 : (Jvm.Cond.instanceMethod ({ cls := "RingHouseModel", name := "next", desc := "()V" } : Jvm.MethodName)) ∈ lw_all := lw_g (lw_at lw_m17 74 rfl) rfl
theorem q4141 : (Jvm.Cond.code ({ cls := "RingHouseModel", name := "next", desc := "()V" } : Jvm.MethodName) prog_69_method_128_code (3 : Nat) (Option.none : Option Jvm.ClassFile.FieldType)) ∈ lw_all := lw_g (lw_at lw_m17 75 rfl) rfl
theorem q4142 : (Jvm.Cond.methodLink "RingHouseModel" (840 : Nat) ({ cls := "RingHouseModel", name := "isOfWord", desc := "(I)Z" } : Jvm.MethodName)) ∈ lw_all := lw_g (lw_at lw_m17 76 rfl) rfl
theorem q4143 : (Jvm.Cond.static ({ cls := "RingHouseModel", name := "isOfWord", desc := "(I)Z" } : Jvm.MethodName)) ∈ lw_all := lw_g (lw_at lw_m17 77 rfl) rfl
theorem q4144 : (Jvm.Cond.code ({ cls := "RingHouseModel", name := "isOfWord", desc := "(I)Z" } : Jvm.MethodName) prog_69_method_124_code (1 : Nat) (Option.some Jvm.ClassFile.FieldType.boolean)) ∈ lw_all := lw_g (lw_at lw_m17 78 rfl) rfl
theorem q4145 : (Jvm.Cond.methodLink "RingHouseModel" (807 : Nat) ({ cls := "RingHouseModel", name := "isLetter", desc := "(I)Z" } : Jvm.MethodName)) ∈ lw_all := lw_g (lw_at lw_m17 79 rfl) rfl
theorem q4146 : (Jvm.Cond.static ({ cls := "RingHouseModel", name := "isLetter", desc := "(I)Z" } : Jvm.MethodName)) ∈ lw_all := lw_g (lw_at lw_m17 80 rfl) rfl
theorem q4147 : (Jvm.Cond.code ({ cls := "RingHouseModel", name := "isLetter", desc := "(I)Z" } : Jvm.MethodName) prog_69_method_123_code (1 : Nat) (Option.some Jvm.ClassFile.FieldType.boolean)) ∈ lw_all := lw_g (lw_at lw_m17 81 rfl) rfl
theorem q4148 : (Jvm.Cond.constantLong "RingHouseModel" (803 : Nat) (97 : Int64)) ∈ lw_all := lw_g (lw_at lw_m17 82 rfl) rfl
theorem q4149 : (Jvm.Cond.constantLong "RingHouseModel" (805 : Nat) (122 : Int64)) ∈ lw_all := lw_g (lw_at lw_m17 83 rfl) rfl
theorem q4150 : (Jvm.Cond.methodLink "RingHouseModel" (810 : Nat) ({ cls := "RingHouseModel", name := "isDigit", desc := "(I)Z" } : Jvm.MethodName)) ∈ lw_all := lw_g (lw_at lw_m17 84 rfl) rfl
theorem q4151 : (Jvm.Cond.static ({ cls := "RingHouseModel", name := "isDigit", desc := "(I)Z" } : Jvm.MethodName)) ∈ lw_all := lw_g (lw_at lw_m17 85 rfl) rfl
theorem q4152 : (Jvm.Cond.code ({ cls := "RingHouseModel", name := "isDigit", desc := "(I)Z" } : Jvm.MethodName) prog_69_method_122_code (1 : Nat) (Option.some Jvm.ClassFile.FieldType.boolean)) ∈ lw_all := lw_g (lw_at lw_m17 86 rfl) rfl
theorem q4153 : (Jvm.Cond.constantLong "RingHouseModel" (799 : Nat) (48 : Int64)) ∈ lw_all := lw_g (lw_at lw_m17 87 rfl) rfl
theorem q4154 : (Jvm.Cond.constantLong "RingHouseModel" (801 : Nat) (57 : Int64)) ∈ lw_all := lw_g (lw_at lw_m17 88 rfl) rfl
theorem q4155 : (Jvm.Cond.methodLink "RingHouseModel" (926 : Nat) ({ cls := "RingHouseModel", name := "behindWord", desc := "()I" } : Jvm.MethodName)) ∈ lw_all := lw_g (lw_at lw_m17 89 rfl) rfl
theorem q4156 : (Jvm.Cond.privateMethod ({ cls := "RingHouseModel", name := "behindWord", desc := "()I" } : Jvm.MethodName)) ∈ lw_tbl := lw_at lw_m17 90 rfl
theorem q4157 : (Jvm.Cond.instanceMethod ({ cls := "RingHouseModel", name := "behindWord", desc := "()I" } : Jvm.MethodName)) ∈ lw_all := lw_g (lw_at lw_m17 91 rfl) rfl
theorem q4158 : (Jvm.Cond.code ({ cls := "RingHouseModel", name := "behindWord", desc := "()I" } : Jvm.MethodName) prog_69_method_140_code (2 : Nat) (Option.some Jvm.ClassFile.FieldType.int)) ∈ lw_all := lw_g (lw_at lw_m17 92 rfl) rfl
theorem q4159 : (Jvm.Cond.methodLink "RingHouseModel" (899 : Nat) ({ cls := "RingHouseModel", name := "labelWord", desc := "()J" } : Jvm.MethodName)) ∈ lw_all := lw_g (lw_at lw_m17 93 rfl) rfl
theorem q4160 : (Jvm.Cond.privateMethod ({ cls := "RingHouseModel", name := "labelWord", desc := "()J" } : Jvm.MethodName)) ∈ lw_tbl := lw_at lw_m17 94 rfl
theorem q4161 : (Jvm.Cond.instanceMethod ({ cls := "RingHouseModel", name := "labelWord", desc := "()J" } : Jvm.MethodName)) ∈ lw_all := lw_g (lw_at lw_m17 95 rfl) rfl
theorem q4162 : (Jvm.Cond.code ({ cls := "RingHouseModel", name := "labelWord", desc := "()J" } : Jvm.MethodName) prog_69_method_141_code (3 : Nat) (Option.some Jvm.ClassFile.FieldType.long)) ∈ lw_all := lw_g (lw_at lw_m17 96 rfl) rfl
theorem q4163 : (Jvm.Cond.methodLink "RingHouseModel" (854 : Nat) ({ cls := "RingHouseModel", name := "wrong", desc := "(II)V" } : Jvm.MethodName)) ∈ lw_all := lw_g (lw_at lw_m17 97 rfl) rfl
theorem q4164 : (Jvm.Cond.privateMethod ({ cls := "RingHouseModel", name := "wrong", desc := "(II)V" } : Jvm.MethodName)) ∈ lw_tbl := lw_at lw_m17 98 rfl
theorem q4165 : (Jvm.Cond.instanceMethod ({ cls := "RingHouseModel", name := "wrong", desc := "(II)V" } : Jvm.MethodName)) ∈ lw_all := lw_g (lw_at lw_m17 99 rfl) rfl
theorem q4166 : (Jvm.Cond.code ({ cls := "RingHouseModel", name := "wrong", desc := "(II)V" } : Jvm.MethodName) prog_69_method_125_code (3 : Nat) (Option.none : Option Jvm.ClassFile.FieldType)) ∈ lw_all := lw_g (lw_at lw_m17 100 rfl) rfl
theorem q4167 : (Jvm.Cond.methodLink "RingHouseModel" (860 : Nat) ({ cls := "RingHouseModel", name := "isShort", desc := "()Z" } : Jvm.MethodName)) ∈ lw_all := lw_g (lw_at lw_m17 101 rfl) rfl
theorem q4168 : (Jvm.Cond.privateMethod ({ cls := "RingHouseModel", name := "isShort", desc := "()Z" } : Jvm.MethodName)) ∈ lw_tbl := lw_at lw_m17 102 rfl
theorem q4169 : (Jvm.Cond.instanceMethod ({ cls := "RingHouseModel", name := "isShort", desc := "()Z" } : Jvm.MethodName)) ∈ lw_all := lw_g (lw_at lw_m17 103 rfl) rfl
theorem q4170 : (Jvm.Cond.code ({ cls := "RingHouseModel", name := "isShort", desc := "()Z" } : Jvm.MethodName) prog_69_method_134_code (1 : Nat) (Option.some Jvm.ClassFile.FieldType.boolean)) ∈ lw_all := lw_g (lw_at lw_m17 104 rfl) rfl
theorem q4171 : (Jvm.Cond.methodLink "RingHouseModel" (864 : Nat) ({ cls := "RingHouseModel", name := "nameOfToken", desc := "()J" } : Jvm.MethodName)) ∈ lw_all := lw_g (lw_at lw_m17 105 rfl) rfl
theorem q4172 : (Jvm.Cond.privateMethod ({ cls := "RingHouseModel", name := "nameOfToken", desc := "()J" } : Jvm.MethodName)) ∈ lw_tbl := lw_at lw_m17 106 rfl
theorem q4173 : (Jvm.Cond.instanceMethod ({ cls := "RingHouseModel", name := "nameOfToken", desc := "()J" } : Jvm.MethodName)) ∈ lw_all := lw_g (lw_at lw_m17 107 rfl) rfl
theorem q4174 : (Jvm.Cond.code ({ cls := "RingHouseModel", name := "nameOfToken", desc := "()J" } : Jvm.MethodName) prog_69_method_133_code (4 : Nat) (Option.some Jvm.ClassFile.FieldType.long)) ∈ lw_all := lw_g (lw_at lw_m17 108 rfl) rfl
theorem q4175 : (Jvm.Cond.constantLong "RingHouseModel" (849 : Nat) (64 : Int64)) ∈ lw_all := lw_g (lw_at lw_m17 109 rfl) rfl
theorem q4176 : (Jvm.Cond.methodLink "RingHouseModel" (851 : Nat) ({ cls := "RingHouseModel", name := "signOf", desc := "(I)I" } : Jvm.MethodName)) ∈ lw_all := lw_g (lw_at lw_m17 110 rfl) rfl
theorem q4177 : (Jvm.Cond.static ({ cls := "RingHouseModel", name := "signOf", desc := "(I)I" } : Jvm.MethodName)) ∈ lw_all := lw_g (lw_at lw_m17 111 rfl) rfl
theorem q4178 : (Jvm.Cond.code ({ cls := "RingHouseModel", name := "signOf", desc := "(I)I" } : Jvm.MethodName) prog_69_method_132_code (1 : Nat) (Option.some Jvm.ClassFile.FieldType.int)) ∈ lw_all := lw_g (lw_at lw_m17 112 rfl) rfl
theorem q4179 : (Jvm.Cond.methodLink "RingHouseModel" (886 : Nat) ({ cls := "RingHouseModel", name := "labelNamed", desc := "(J)I" } : Jvm.MethodName)) ∈ lw_all := lw_g (lw_at lw_m17 113 rfl) rfl
theorem q4180 : (Jvm.Cond.privateMethod ({ cls := "RingHouseModel", name := "labelNamed", desc := "(J)I" } : Jvm.MethodName)) ∈ lw_tbl := lw_at lw_m17 114 rfl
theorem q4181 : (Jvm.Cond.instanceMethod ({ cls := "RingHouseModel", name := "labelNamed", desc := "(J)I" } : Jvm.MethodName)) ∈ lw_all := lw_g (lw_at lw_m17 115 rfl) rfl
theorem q4182 : (Jvm.Cond.code ({ cls := "RingHouseModel", name := "labelNamed", desc := "(J)I" } : Jvm.MethodName) prog_69_method_136_code (4 : Nat) (Option.some Jvm.ClassFile.FieldType.int)) ∈ lw_all := lw_g (lw_at lw_m17 116 rfl) rfl
theorem q4183 : (Jvm.Cond.methodLink "RingHouseModel" (977 : Nat) ({ cls := "RingHouseModel", name := "statement", desc := "()V" } : Jvm.MethodName)) ∈ lw_all := lw_g (lw_at lw_m17 117 rfl) rfl
theorem q4184 : (Jvm.Cond.privateMethod ({ cls := "RingHouseModel", name := "statement", desc := "()V" } : Jvm.MethodName)) ∈ lw_tbl := lw_at lw_m17 118 rfl
theorem q4185 : (Jvm.Cond.instanceMethod ({ cls := "RingHouseModel", name := "statement", desc := "()V" } : Jvm.MethodName)) ∈ lw_all := lw_g (lw_at lw_m17 119 rfl) rfl
theorem q4186 : (Jvm.Cond.code ({ cls := "RingHouseModel", name := "statement", desc := "()V" } : Jvm.MethodName) prog_69_method_155_code (7 : Nat) (Option.none : Option Jvm.ClassFile.FieldType)) ∈ lw_all := lw_g (lw_at lw_m17 120 rfl) rfl
theorem q4187 : (Jvm.Cond.methodLink "RingHouseModel" (960 : Nat) ({ cls := "RingHouseModel", name := "isOperation", desc := "()Z" } : Jvm.MethodName)) ∈ lw_all := lw_g (lw_at lw_m17 121 rfl) rfl
theorem q4188 : (Jvm.Cond.privateMethod ({ cls := "RingHouseModel", name := "isOperation", desc := "()Z" } : Jvm.MethodName)) ∈ lw_tbl := lw_at lw_m17 122 rfl
theorem q4189 : (Jvm.Cond.instanceMethod ({ cls := "RingHouseModel", name := "isOperation", desc := "()Z" } : Jvm.MethodName)) ∈ lw_all := lw_g (lw_at lw_m17 123 rfl) rfl
theorem q4190 : (Jvm.Cond.code ({ cls := "RingHouseModel", name := "isOperation", desc := "()Z" } : Jvm.MethodName) prog_69_method_139_code (8 : Nat) (Option.some Jvm.ClassFile.FieldType.boolean)) ∈ lw_all := lw_g (lw_at lw_m17 124 rfl) rfl
theorem q4191 : (Jvm.Cond.constantLong "RingHouseModel" (868 : Nat) (-258049 : Int64)) ∈ lw_all := lw_g (lw_at lw_m17 125 rfl) rfl
theorem q4192 : (Jvm.Cond.methodLink "RingHouseModel" (870 : Nat) ({ cls := "RingHouseModel", name := "takesN", desc := "(I)Z" } : Jvm.MethodName)) ∈ lw_all := lw_g (lw_at lw_m17 126 rfl) rfl
theorem q4193 : (Jvm.Cond.static ({ cls := "RingHouseModel", name := "takesN", desc := "(I)Z" } : Jvm.MethodName)) ∈ lw_all := lw_g (lw_at lw_m17 127 rfl) rfl
theorem q4194 : (Jvm.Cond.code ({ cls := "RingHouseModel", name := "takesN", desc := "(I)Z" } : Jvm.MethodName) prog_69_method_137_code (1 : Nat) (Option.some Jvm.ClassFile.FieldType.boolean)) ∈ lw_all := lw_g (lw_at lw_m17 128 rfl) rfl
theorem q4195 : (Jvm.Cond.methodLink "RingHouseModel" (873 : Nat) ({ cls := "RingHouseModel", name := "mostN", desc := "(I)I" } : Jvm.MethodName)) ∈ lw_all := lw_g (lw_at lw_m17 129 rfl) rfl
theorem q4196 : (Jvm.Cond.static ({ cls := "RingHouseModel", name := "mostN", desc := "(I)I" } : Jvm.MethodName)) ∈ lw_all := lw_g (lw_at lw_m17 130 rfl) rfl
theorem q4197 : (Jvm.Cond.code ({ cls := "RingHouseModel", name := "mostN", desc := "(I)I" } : Jvm.MethodName) prog_69_method_138_code (1 : Nat) (Option.some Jvm.ClassFile.FieldType.int)) ∈ lw_all := lw_g (lw_at lw_m17 131 rfl) rfl
theorem q4198 : (Jvm.Cond.methodLink "RingHouseModel" (943 : Nat) ({ cls := "RingHouseModel", name := "emit", desc := "(J)V" } : Jvm.MethodName)) ∈ lw_all := lw_g (lw_at lw_m17 132 rfl) rfl
theorem q4199 : (Jvm.Cond.privateMethod ({ cls := "RingHouseModel", name := "emit", desc := "(J)V" } : Jvm.MethodName)) ∈ lw_tbl := lw_at lw_m17 133 rfl
theorem q4200 : (Jvm.Cond.instanceMethod ({ cls := "RingHouseModel", name := "emit", desc := "(J)V" } : Jvm.MethodName)) ∈ lw_all := lw_g (lw_at lw_m17 134 rfl) rfl
theorem q4201 : (Jvm.Cond.code ({ cls := "RingHouseModel", name := "emit", desc := "(J)V" } : Jvm.MethodName) prog_69_method_146_code (3 : Nat) (Option.none : Option Jvm.ClassFile.FieldType)) ∈ lw_all := lw_g (lw_at lw_m17 135 rfl) rfl
theorem q4202 : (Jvm.Cond.methodLink "RingHouseModel" (963 : Nat) ({ cls := "RingHouseModel", name := "operand", desc := "()V" } : Jvm.MethodName)) ∈ lw_all := lw_g (lw_at lw_m17 136 rfl) rfl
theorem q4203 : (Jvm.Cond.privateMethod ({ cls := "RingHouseModel", name := "operand", desc := "()V" } : Jvm.MethodName)) ∈ lw_tbl := lw_at lw_m17 137 rfl
theorem q4204 : (Jvm.Cond.instanceMethod ({ cls := "RingHouseModel", name := "operand", desc := "()V" } : Jvm.MethodName)) ∈ lw_all := lw_g (lw_at lw_m17 138 rfl) rfl
theorem q4205 : (Jvm.Cond.code ({ cls := "RingHouseModel", name := "operand", desc := "()V" } : Jvm.MethodName) prog_69_method_149_code (13 : Nat) (Option.none : Option Jvm.ClassFile.FieldType)) ∈ lw_all := lw_g (lw_at lw_m17 139 rfl) rfl
theorem q4206 : (Jvm.Cond.methodLink "RingHouseModel" (906 : Nat) ({ cls := "RingHouseModel", name := "passes", desc := "(I)Z" } : Jvm.MethodName)) ∈ lw_all := lw_g (lw_at lw_m17 140 rfl) rfl
theorem q4207 : (Jvm.Cond.privateMethod ({ cls := "RingHouseModel", name := "passes", desc := "(I)Z" } : Jvm.MethodName)) ∈ lw_tbl := lw_at lw_m17 141 rfl
theorem q4208 : (Jvm.Cond.instanceMethod ({ cls := "RingHouseModel", name := "passes", desc := "(I)Z" } : Jvm.MethodName)) ∈ lw_all := lw_g (lw_at lw_m17 142 rfl) rfl
theorem q4209 : (Jvm.Cond.code ({ cls := "RingHouseModel", name := "passes", desc := "(I)Z" } : Jvm.MethodName) prog_69_method_130_code (3 : Nat) (Option.some Jvm.ClassFile.FieldType.boolean)) ∈ lw_all := lw_g (lw_at lw_m17 143 rfl) rfl
theorem q4210 : (Jvm.Cond.methodLink "RingHouseModel" (843 : Nat) ({ cls := "RingHouseModel", name := "isSign", desc := "(I)Z" } : Jvm.MethodName)) ∈ lw_all := lw_g (lw_at lw_m17 144 rfl) rfl
theorem q4211 : (Jvm.Cond.privateMethod ({ cls := "RingHouseModel", name := "isSign", desc := "(I)Z" } : Jvm.MethodName)) ∈ lw_tbl := lw_at lw_m17 145 rfl
theorem q4212 : (Jvm.Cond.instanceMethod ({ cls := "RingHouseModel", name := "isSign", desc := "(I)Z" } : Jvm.MethodName)) ∈ lw_all := lw_g (lw_at lw_m17 146 rfl) rfl
theorem q4213 : (Jvm.Cond.code ({ cls := "RingHouseModel", name := "isSign", desc := "(I)Z" } : Jvm.MethodName) prog_69_method_129_code (2 : Nat) (Option.some Jvm.ClassFile.FieldType.boolean)) ∈ lw_all := lw_g (lw_at lw_m17 147 rfl) rfl
theorem q4214 : (Jvm.Cond.methodLink "RingHouseModel" (929 : Nat) ({ cls := "RingHouseModel", name := "half", desc := "()J" } : Jvm.MethodName)) ∈ lw_all := lw_g (lw_at lw_m17 148 rfl) rfl
theorem q4215 : (Jvm.Cond.privateMethod ({ cls := "RingHouseModel", name := "half", desc := "()J" } : Jvm.MethodName)) ∈ lw_tbl := lw_at lw_m17 149 rfl
theorem q4216 : (Jvm.Cond.instanceMethod ({ cls := "RingHouseModel", name := "half", desc := "()J" } : Jvm.MethodName)) ∈ lw_all := lw_g (lw_at lw_m17 150 rfl) rfl
theorem q4217 : (Jvm.Cond.code ({ cls := "RingHouseModel", name := "half", desc := "()J" } : Jvm.MethodName) prog_69_method_145_code (1 : Nat) (Option.some Jvm.ClassFile.FieldType.long)) ∈ lw_all := lw_g (lw_at lw_m17 151 rfl) rfl
theorem q4218 : (Jvm.Cond.constantLong "RingHouseModel" (912 : Nat) (-131072 : Int64)) ∈ lw_all := lw_g (lw_at lw_m17 152 rfl) rfl
theorem q4219 : (Jvm.Cond.methodLink "RingHouseModel" (914 : Nat) ({ cls := "RingHouseModel", name := "expression", desc := "(JJ)J" } : Jvm.MethodName)) ∈ lw_all := lw_g (lw_at lw_m17 153 rfl) rfl
theorem q4220 : (Jvm.Cond.privateMethod ({ cls := "RingHouseModel", name := "expression", desc := "(JJ)J" } : Jvm.MethodName)) ∈ lw_tbl := lw_at lw_m17 154 rfl
theorem q4221 : (Jvm.Cond.instanceMethod ({ cls := "RingHouseModel", name := "expression", desc := "(JJ)J" } : Jvm.MethodName)) ∈ lw_all := lw_g (lw_at lw_m17 155 rfl) rfl
theorem q4222 : (Jvm.Cond.code ({ cls := "RingHouseModel", name := "expression", desc := "(JJ)J" } : Jvm.MethodName) prog_69_method_144_code (12 : Nat) (Option.some Jvm.ClassFile.FieldType.long)) ∈ lw_all := lw_g (lw_at lw_m17 156 rfl) rfl
theorem q4223 : (Jvm.Cond.methodLink "RingHouseModel" (909 : Nat) ({ cls := "RingHouseModel", name := "term", desc := "()J" } : Jvm.MethodName)) ∈ lw_all := lw_g (lw_at lw_m17 157 rfl) rfl
theorem q4224 : (Jvm.Cond.privateMethod ({ cls := "RingHouseModel", name := "term", desc := "()J" } : Jvm.MethodName)) ∈ lw_tbl := lw_at lw_m17 158 rfl
theorem q4225 : (Jvm.Cond.instanceMethod ({ cls := "RingHouseModel", name := "term", desc := "()J" } : Jvm.MethodName)) ∈ lw_all := lw_g (lw_at lw_m17 159 rfl) rfl
theorem q4226 : (Jvm.Cond.code ({ cls := "RingHouseModel", name := "term", desc := "()J" } : Jvm.MethodName) prog_69_method_143_code (4 : Nat) (Option.some Jvm.ClassFile.FieldType.long)) ∈ lw_all := lw_g (lw_at lw_m17 160 rfl) rfl
theorem q4227 : (Jvm.Cond.methodLink "RingHouseModel" (893 : Nat) ({ cls := "RingHouseModel", name := "isNumber", desc := "()Z" } : Jvm.MethodName)) ∈ lw_all := lw_g (lw_at lw_m17 161 rfl) rfl
theorem q4228 : (Jvm.Cond.privateMethod ({ cls := "RingHouseModel", name := "isNumber", desc := "()Z" } : Jvm.MethodName)) ∈ lw_tbl := lw_at lw_m17 162 rfl
theorem q4229 : (Jvm.Cond.instanceMethod ({ cls := "RingHouseModel", name := "isNumber", desc := "()Z" } : Jvm.MethodName)) ∈ lw_all := lw_g (lw_at lw_m17 163 rfl) rfl
theorem q4230 : (Jvm.Cond.code ({ cls := "RingHouseModel", name := "isNumber", desc := "()Z" } : Jvm.MethodName) prog_69_method_131_code (3 : Nat) (Option.some Jvm.ClassFile.FieldType.boolean)) ∈ lw_all := lw_g (lw_at lw_m17 164 rfl) rfl
theorem q4231 : (Jvm.Cond.methodLink "RingHouseModel" (896 : Nat) ({ cls := "RingHouseModel", name := "numeral", desc := "()J" } : Jvm.MethodName)) ∈ lw_all := lw_g (lw_at lw_m17 165 rfl) rfl
theorem q4232 : (Jvm.Cond.privateMethod ({ cls := "RingHouseModel", name := "numeral", desc := "()J" } : Jvm.MethodName)) ∈ lw_tbl := lw_at lw_m17 166 rfl
theorem q4233 : (Jvm.Cond.instanceMethod ({ cls := "RingHouseModel", name := "numeral", desc := "()J" } : Jvm.MethodName)) ∈ lw_all := lw_g (lw_at lw_m17 167 rfl) rfl
theorem q4234 : (Jvm.Cond.code ({ cls := "RingHouseModel", name := "numeral", desc := "()J" } : Jvm.MethodName) prog_69_method_135_code (4 : Nat) (Option.some Jvm.ClassFile.FieldType.long)) ∈ lw_all := lw_g (lw_at lw_m17 168 rfl) rfl
theorem q4235 : (Jvm.Cond.methodLink "RingHouseModel" (902 : Nat) ({ cls := "RingHouseModel", name := "labelAt", desc := "(JI)I" } : Jvm.MethodName)) ∈ lw_all := lw_g (lw_at lw_m17 169 rfl) rfl
theorem q4236 : (Jvm.Cond.privateMethod ({ cls := "RingHouseModel", name := "labelAt", desc := "(JI)I" } : Jvm.MethodName)) ∈ lw_tbl := lw_at lw_m17 170 rfl
theorem q4237 : (Jvm.Cond.instanceMethod ({ cls := "RingHouseModel", name := "labelAt", desc := "(JI)I" } : Jvm.MethodName)) ∈ lw_all := lw_g (lw_at lw_m17 171 rfl) rfl
theorem q4238 : (Jvm.Cond.code ({ cls := "RingHouseModel", name := "labelAt", desc := "(JI)I" } : Jvm.MethodName) prog_69_method_142_code (5 : Nat) (Option.some Jvm.ClassFile.FieldType.int)) ∈ lw_all := lw_g (lw_at lw_m17 172 rfl) rfl
theorem q4239 : (Jvm.Cond.methodLink "RingHouseModel" (890 : Nat) ({ cls := "RingHouseModel", name := "late", desc := "(II)V" } : Jvm.MethodName)) ∈ lw_all := lw_g (lw_at lw_m17 173 rfl) rfl
theorem q4240 : (Jvm.Cond.privateMethod ({ cls := "RingHouseModel", name := "late", desc := "(II)V" } : Jvm.MethodName)) ∈ lw_tbl := lw_at lw_m17 174 rfl
theorem q4241 : (Jvm.Cond.instanceMethod ({ cls := "RingHouseModel", name := "late", desc := "(II)V" } : Jvm.MethodName)) ∈ lw_all := lw_g (lw_at lw_m17 175 rfl) rfl
theorem q4242 : (Jvm.Cond.code ({ cls := "RingHouseModel", name := "late", desc := "(II)V" } : Jvm.MethodName) prog_69_method_126_code (3 : Nat) (Option.none : Option Jvm.ClassFile.FieldType)) ∈ lw_all := lw_g (lw_at lw_m17 176 rfl) rfl
theorem q4243 : (Jvm.Cond.methodLink "RingHouseModel" (932 : Nat) ({ cls := "RingHouseModel", name := "isP", desc := "()Z" } : Jvm.MethodName)) ∈ lw_all := lw_g (lw_at lw_m17 177 rfl) rfl
theorem q4244 : (Jvm.Cond.privateMethod ({ cls := "RingHouseModel", name := "isP", desc := "()Z" } : Jvm.MethodName)) ∈ lw_tbl := lw_at lw_m17 178 rfl
theorem q4245 : (Jvm.Cond.instanceMethod ({ cls := "RingHouseModel", name := "isP", desc := "()Z" } : Jvm.MethodName)) ∈ lw_all := lw_g (lw_at lw_m17 179 rfl) rfl
theorem q4246 : (Jvm.Cond.code ({ cls := "RingHouseModel", name := "isP", desc := "()Z" } : Jvm.MethodName) prog_69_method_148_code (1 : Nat) (Option.some Jvm.ClassFile.FieldType.boolean)) ∈ lw_all := lw_g (lw_at lw_m17 180 rfl) rfl
theorem q4247 : (Jvm.Cond.constantLong "RingHouseModel" (924 : Nat) (55 : Int64)) ∈ lw_all := lw_g (lw_at lw_m17 181 rfl) rfl
theorem q4248 : (Jvm.Cond.methodLink "RingHouseModel" (935 : Nat) ({ cls := "RingHouseModel", name := "linkOf", desc := "(JJI)I" } : Jvm.MethodName)) ∈ lw_all := lw_g (lw_at lw_m17 182 rfl) rfl
theorem q4249 : (Jvm.Cond.privateMethod ({ cls := "RingHouseModel", name := "linkOf", desc := "(JJI)I" } : Jvm.MethodName)) ∈ lw_tbl := lw_at lw_m17 183 rfl
theorem q4250 : (Jvm.Cond.instanceMethod ({ cls := "RingHouseModel", name := "linkOf", desc := "(JJI)I" } : Jvm.MethodName)) ∈ lw_all := lw_g (lw_at lw_m17 184 rfl) rfl
theorem q4251 : (Jvm.Cond.code ({ cls := "RingHouseModel", name := "linkOf", desc := "(JJI)I" } : Jvm.MethodName) prog_69_method_147_code (7 : Nat) (Option.some Jvm.ClassFile.FieldType.int)) ∈ lw_all := lw_g (lw_at lw_m17 185 rfl) rfl
theorem q4252 : (Jvm.Cond.constantLong "RingHouseModel" (939 : Nat) (6 : Int64)) ∈ lw_all := lw_g (lw_at lw_m17 186 rfl) rfl
theorem q4253 : (Jvm.Cond.constantLong "RingHouseModel" (941 : Nat) (51 : Int64)) ∈ lw_all := lw_g (lw_at lw_m17 187 rfl) rfl
theorem q4254 : (Jvm.Cond.methodLink "RingHouseModel" (966 : Nat) ({ cls := "RingHouseModel", name := "wordsOfText", desc := "()V" } : Jvm.MethodName)) ∈ lw_all := lw_g (lw_at lw_m17 188 rfl) rfl
theorem q4255 : (Jvm.Cond.privateMethod ({ cls := "RingHouseModel", name := "wordsOfText", desc := "()V" } : Jvm.MethodName)) ∈ lw_tbl := lw_at lw_m17 189 rfl
theorem q4256 : (Jvm.Cond.instanceMethod ({ cls := "RingHouseModel", name := "wordsOfText", desc := "()V" } : Jvm.MethodName)) ∈ lw_all := lw_g (lw_at lw_m17 190 rfl) rfl
theorem q4257 : (Jvm.Cond.code ({ cls := "RingHouseModel", name := "wordsOfText", desc := "()V" } : Jvm.MethodName) prog_69_method_150_code (2 : Nat) (Option.none : Option Jvm.ClassFile.FieldType)) ∈ lw_all := lw_g (lw_at lw_m17 191 rfl) rfl
theorem q4258 : (Jvm.Cond.constantLong "RingHouseModel" (947 : Nat) (-34359738368 : Int64)) ∈ lw_all := lw_g (lw_at lw_m17 192 rfl) rfl
theorem q4259 : (Jvm.Cond.methodLink "RingHouseModel" (969 : Nat) ({ cls := "RingHouseModel", name := "pointerOfText", desc := "()V" } : Jvm.MethodName)) ∈ lw_all := lw_g (lw_at lw_m17 193 rfl) rfl
theorem q4260 : (Jvm.Cond.privateMethod ({ cls := "RingHouseModel", name := "pointerOfText", desc := "()V" } : Jvm.MethodName)) ∈ lw_tbl := lw_at lw_m17 194 rfl
theorem q4261 : (Jvm.Cond.instanceMethod ({ cls := "RingHouseModel", name := "pointerOfText", desc := "()V" } : Jvm.MethodName)) ∈ lw_all := lw_g (lw_at lw_m17 195 rfl) rfl
theorem q4262 : (Jvm.Cond.code ({ cls := "RingHouseModel", name := "pointerOfText", desc := "()V" } : Jvm.MethodName) prog_69_method_153_code (8 : Nat) (Option.none : Option Jvm.ClassFile.FieldType)) ∈ lw_all := lw_g (lw_at lw_m17 196 rfl) rfl
theorem q4263 : (Jvm.Cond.methodLink "RingHouseModel" (949 : Nat) ({ cls := "RingHouseModel", name := "bounded", desc := "(J)J" } : Jvm.MethodName)) ∈ lw_all := lw_g (lw_at lw_m17 197 rfl) rfl
theorem q4264 : (Jvm.Cond.privateMethod ({ cls := "RingHouseModel", name := "bounded", desc := "(J)J" } : Jvm.MethodName)) ∈ lw_tbl := lw_at lw_m17 198 rfl
theorem q4265 : (Jvm.Cond.instanceMethod ({ cls := "RingHouseModel", name := "bounded", desc := "(J)J" } : Jvm.MethodName)) ∈ lw_all := lw_g (lw_at lw_m17 199 rfl) rfl
theorem q4266 : (Jvm.Cond.code ({ cls := "RingHouseModel", name := "bounded", desc := "(J)J" } : Jvm.MethodName) prog_69_method_151_code (6 : Nat) (Option.some Jvm.ClassFile.FieldType.long)) ∈ lw_all := lw_g (lw_at lw_m17 200 rfl) rfl
theorem q4267 : (Jvm.Cond.methodLink "RingHouseModel" (952 : Nat) ({ cls := "RingHouseModel", name := "comma", desc := "()V" } : Jvm.MethodName)) ∈ lw_all := lw_g (lw_at lw_m17 201 rfl) rfl
theorem q4268 : (Jvm.Cond.privateMethod ({ cls := "RingHouseModel", name := "comma", desc := "()V" } : Jvm.MethodName)) ∈ lw_tbl := lw_at lw_m17 202 rfl
theorem q4269 : (Jvm.Cond.instanceMethod ({ cls := "RingHouseModel", name := "comma", desc := "()V" } : Jvm.MethodName)) ∈ lw_all := lw_g (lw_at lw_m17 203 rfl) rfl
theorem q4270 : (Jvm.Cond.code ({ cls := "RingHouseModel", name := "comma", desc := "()V" } : Jvm.MethodName) prog_69_method_152_code (1 : Nat) (Option.none : Option Jvm.ClassFile.FieldType)) ∈ lw_all := lw_g (lw_at lw_m17 204 rfl) rfl
theorem q4271 : (Jvm.Cond.constantLong "RingHouseModel" (955 : Nat) (536870912 : Int64)) ∈ lw_all := lw_g (lw_at lw_m17 205 rfl) rfl
theorem q4272 : (Jvm.Cond.constantLong "RingHouseModel" (972 : Nat) (1023 : Int64)) ∈ lw_all := lw_g (lw_at lw_m17 206 rfl) rfl
theorem q4273 : (Jvm.Cond.methodLink "RingHouseModel" (974 : Nat) ({ cls := "RingHouseModel", name := "definitionOfText", desc := "()V" } : Jvm.MethodName)) ∈ lw_all := lw_g (lw_at lw_m17 207 rfl) rfl
theorem q4274 : (Jvm.Cond.privateMethod ({ cls := "RingHouseModel", name := "definitionOfText", desc := "()V" } : Jvm.MethodName)) ∈ lw_tbl := lw_at lw_m17 208 rfl
theorem q4275 : (Jvm.Cond.instanceMethod ({ cls := "RingHouseModel", name := "definitionOfText", desc := "()V" } : Jvm.MethodName)) ∈ lw_all := lw_g (lw_at lw_m17 209 rfl) rfl
theorem q4276 : (Jvm.Cond.code ({ cls := "RingHouseModel", name := "definitionOfText", desc := "()V" } : Jvm.MethodName) prog_69_method_154_code (4 : Nat) (Option.none : Option Jvm.ClassFile.FieldType)) ∈ lw_all := lw_g (lw_at lw_m17 210 rfl) rfl
theorem q4277 : (Jvm.Cond.constantLong "RingHouseModel" (990 : Nat) (48989470720 : Int64)) ∈ lw_all := lw_g (lw_at lw_m17 211 rfl) rfl
theorem q4279 : (Jvm.Cond.instanceMethod ({ cls := "RingHouseModel", name := "type", desc := "(JI)I" } : Jvm.MethodName)) ∈ lw_all := lw_g (lw_at lw_m17 213 rfl) rfl
theorem q4280 : (Jvm.Cond.selects "RingHouseModel" ({ cls := "RingHouseModel", name := "type", desc := "(JI)I" } : Jvm.MethodName) ({ cls := "RingHouseModel", name := "type", desc := "(JI)I" } : Jvm.MethodName)) ∈ lw_all := lw_g (lw_at lw_m17 214 rfl) rfl
theorem q4281 : (Jvm.Cond.code ({ cls := "RingHouseModel", name := "type", desc := "(JI)I" } : Jvm.MethodName) prog_69_method_159_code (5 : Nat) (Option.some Jvm.ClassFile.FieldType.int)) ∈ lw_all := lw_g (lw_at lw_m17 215 rfl) rfl
theorem q4283 : (Jvm.Cond.instanceMethod ({ cls := "RingHouseModel", name := "place", desc := "()I" } : Jvm.MethodName)) ∈ lw_all := lw_g (lw_at lw_m17 217 rfl) rfl
theorem q4284 : (Jvm.Cond.selects "RingHouseModel" ({ cls := "RingHouseModel", name := "place", desc := "()I" } : Jvm.MethodName) ({ cls := "RingHouseModel", name := "place", desc := "()I" } : Jvm.MethodName)) ∈ lw_all := lw_g (lw_at lw_m17 218 rfl) rfl
theorem q4285 : (Jvm.Cond.code ({ cls := "RingHouseModel", name := "place", desc := "()I" } : Jvm.MethodName) prog_69_method_160_code (1 : Nat) (Option.some Jvm.ClassFile.FieldType.int)) ∈ lw_all := lw_g (lw_at lw_m17 219 rfl) rfl
theorem q4287 : (Jvm.Cond.instanceMethod ({ cls := "RingHouseModel", name := "list", desc := "(J)I" } : Jvm.MethodName)) ∈ lw_all := lw_g (lw_at lw_m17 221 rfl) rfl
theorem q4288 : (Jvm.Cond.selects "RingHouseModel" ({ cls := "RingHouseModel", name := "list", desc := "(J)I" } : Jvm.MethodName) ({ cls := "RingHouseModel", name := "list", desc := "(J)I" } : Jvm.MethodName)) ∈ lw_all := lw_g (lw_at lw_m17 222 rfl) rfl
theorem q4289 : (Jvm.Cond.code ({ cls := "RingHouseModel", name := "list", desc := "(J)I" } : Jvm.MethodName) prog_69_method_165_code (5 : Nat) (Option.some Jvm.ClassFile.FieldType.int)) ∈ lw_all := lw_g (lw_at lw_m17 223 rfl) rfl
theorem q4290 : (Jvm.Cond.methodLink "RingHouseModel" (999 : Nat) ({ cls := "RingHouseModel", name := "isListable", desc := "(J)Z" } : Jvm.MethodName)) ∈ lw_all := lw_g (lw_at lw_m17 224 rfl) rfl
theorem q4291 : (Jvm.Cond.static ({ cls := "RingHouseModel", name := "isListable", desc := "(J)Z" } : Jvm.MethodName)) ∈ lw_all := lw_g (lw_at lw_m17 225 rfl) rfl
theorem q4292 : (Jvm.Cond.code ({ cls := "RingHouseModel", name := "isListable", desc := "(J)Z" } : Jvm.MethodName) prog_69_method_164_code (6 : Nat) (Option.some Jvm.ClassFile.FieldType.boolean)) ∈ lw_all := lw_g (lw_at lw_m17 226 rfl) rfl
theorem q4293 : (Jvm.Cond.constantLong "RingHouseModel" (997 : Nat) (1073741823 : Int64)) ∈ lw_all := lw_g (lw_at lw_m17 227 rfl) rfl
theorem q4294 : (Jvm.Cond.methodLink "RingHouseModel" (1002 : Nat) ({ cls := "RingHouseModel", name := "writeName", desc := "(J)V" } : Jvm.MethodName)) ∈ lw_all := lw_g (lw_at lw_m17 228 rfl) rfl
theorem q4295 : (Jvm.Cond.privateMethod ({ cls := "RingHouseModel", name := "writeName", desc := "(J)V" } : Jvm.MethodName)) ∈ lw_tbl := lw_at lw_m17 229 rfl
theorem q4296 : (Jvm.Cond.instanceMethod ({ cls := "RingHouseModel", name := "writeName", desc := "(J)V" } : Jvm.MethodName)) ∈ lw_all := lw_g (lw_at lw_m17 230 rfl) rfl
theorem q4297 : (Jvm.Cond.code ({ cls := "RingHouseModel", name := "writeName", desc := "(J)V" } : Jvm.MethodName) prog_69_method_163_code (5 : Nat) (Option.none : Option Jvm.ClassFile.FieldType)) ∈ lw_all := lw_g (lw_at lw_m17 231 rfl) rfl
theorem q4298 : (Jvm.Cond.methodLink "RingHouseModel" (995 : Nat) ({ cls := "RingHouseModel", name := "write", desc := "(I)V" } : Jvm.MethodName)) ∈ lw_all := lw_g (lw_at lw_m17 232 rfl) rfl
theorem q4299 : (Jvm.Cond.privateMethod ({ cls := "RingHouseModel", name := "write", desc := "(I)V" } : Jvm.MethodName)) ∈ lw_tbl := lw_at lw_m17 233 rfl
theorem q4300 : (Jvm.Cond.instanceMethod ({ cls := "RingHouseModel", name := "write", desc := "(I)V" } : Jvm.MethodName)) ∈ lw_all := lw_g (lw_at lw_m17 234 rfl) rfl
theorem q4301 : (Jvm.Cond.code ({ cls := "RingHouseModel", name := "write", desc := "(I)V" } : Jvm.MethodName) prog_69_method_161_code (2 : Nat) (Option.none : Option Jvm.ClassFile.FieldType)) ∈ lw_all := lw_g (lw_at lw_m17 235 rfl) rfl
theorem q4302 : (Jvm.Cond.methodLink "RingHouseModel" (1005 : Nat) ({ cls := "RingHouseModel", name := "writeNumber", desc := "(J)V" } : Jvm.MethodName)) ∈ lw_all := lw_g (lw_at lw_m17 236 rfl) rfl
theorem q4303 : (Jvm.Cond.privateMethod ({ cls := "RingHouseModel", name := "writeNumber", desc := "(J)V" } : Jvm.MethodName)) ∈ lw_tbl := lw_at lw_m17 237 rfl
theorem q4304 : (Jvm.Cond.instanceMethod ({ cls := "RingHouseModel", name := "writeNumber", desc := "(J)V" } : Jvm.MethodName)) ∈ lw_all := lw_g (lw_at lw_m17 238 rfl) rfl
theorem q4305 : (Jvm.Cond.code ({ cls := "RingHouseModel", name := "writeNumber", desc := "(J)V" } : Jvm.MethodName) prog_69_method_162_code (5 : Nat) (Option.none : Option Jvm.ClassFile.FieldType)) ∈ lw_all := lw_g (lw_at lw_m17 239 rfl) rfl
theorem q4307 : (Jvm.Cond.instanceMethod ({ cls := "RingHouseModel", name := "listed", desc := "(I)I" } : Jvm.MethodName)) ∈ lw_all := lw_g (lw_at lw_m18 1 rfl) rfl
theorem q4308 : (Jvm.Cond.selects "RingHouseModel" ({ cls := "RingHouseModel", name := "listed", desc := "(I)I" } : Jvm.MethodName) ({ cls := "RingHouseModel", name := "listed", desc := "(I)I" } : Jvm.MethodName)) ∈ lw_all := lw_g (lw_at lw_m18 2 rfl) rfl
theorem q4309 : (Jvm.Cond.code ({ cls := "RingHouseModel", name := "listed", desc := "(I)I" } : Jvm.MethodName) prog_69_method_166_code (2 : Nat) (Option.some Jvm.ClassFile.FieldType.int)) ∈ lw_all := lw_g (lw_at lw_m18 3 rfl) rfl
theorem q4311 : (Jvm.Cond.instanceMethod ({ cls := "RingHouseModel", name := "dump", desc := "(I)I" } : Jvm.MethodName)) ∈ lw_all := lw_g (lw_at lw_m18 5 rfl) rfl
theorem q4312 : (Jvm.Cond.selects "RingHouseModel" ({ cls := "RingHouseModel", name := "dump", desc := "(I)I" } : Jvm.MethodName) ({ cls := "RingHouseModel", name := "dump", desc := "(I)I" } : Jvm.MethodName)) ∈ lw_all := lw_g (lw_at lw_m18 6 rfl) rfl
theorem q4313 : (Jvm.Cond.code ({ cls := "RingHouseModel", name := "dump", desc := "(I)I" } : Jvm.MethodName) prog_69_method_172_code (3 : Nat) (Option.some Jvm.ClassFile.FieldType.int)) ∈ lw_all := lw_g (lw_at lw_m18 7 rfl) rfl
theorem q4314 : (Jvm.Cond.methodLink "RingHouseModel" (1015 : Nat) ({ cls := "RingHouseModel", name := "putByte", desc := "(I)V" } : Jvm.MethodName)) ∈ lw_all := lw_g (lw_at lw_m18 8 rfl) rfl
theorem q4315 : (Jvm.Cond.privateMethod ({ cls := "RingHouseModel", name := "putByte", desc := "(I)V" } : Jvm.MethodName)) ∈ lw_tbl := lw_at lw_m18 9 rfl
theorem q4316 : (Jvm.Cond.instanceMethod ({ cls := "RingHouseModel", name := "putByte", desc := "(I)V" } : Jvm.MethodName)) ∈ lw_all := lw_g (lw_at lw_m18 10 rfl) rfl
theorem q4317 : (Jvm.Cond.code ({ cls := "RingHouseModel", name := "putByte", desc := "(I)V" } : Jvm.MethodName) prog_69_method_167_code (2 : Nat) (Option.none : Option Jvm.ClassFile.FieldType)) ∈ lw_all := lw_g (lw_at lw_m18 11 rfl) rfl
theorem q4318 : (Jvm.Cond.constant "RingHouseModel" (1014 : Nat) (65536 : Int32)) ∈ lw_all := lw_g (lw_at lw_m18 12 rfl) rfl
theorem q4319 : (Jvm.Cond.methodLink "RingHouseModel" (1025 : Nat) ({ cls := "RingHouseModel", name := "putNode", desc := "(I)V" } : Jvm.MethodName)) ∈ lw_all := lw_g (lw_at lw_m18 13 rfl) rfl
theorem q4320 : (Jvm.Cond.privateMethod ({ cls := "RingHouseModel", name := "putNode", desc := "(I)V" } : Jvm.MethodName)) ∈ lw_tbl := lw_at lw_m18 14 rfl
theorem q4321 : (Jvm.Cond.instanceMethod ({ cls := "RingHouseModel", name := "putNode", desc := "(I)V" } : Jvm.MethodName)) ∈ lw_all := lw_g (lw_at lw_m18 15 rfl) rfl
theorem q4322 : (Jvm.Cond.code ({ cls := "RingHouseModel", name := "putNode", desc := "(I)V" } : Jvm.MethodName) prog_69_method_170_code (3 : Nat) (Option.none : Option Jvm.ClassFile.FieldType)) ∈ lw_all := lw_g (lw_at lw_m18 16 rfl) rfl
theorem q4323 : (Jvm.Cond.methodLink "RingHouseModel" (1018 : Nat) ({ cls := "RingHouseModel", name := "putWord", desc := "(J)V" } : Jvm.MethodName)) ∈ lw_all := lw_g (lw_at lw_m18 17 rfl) rfl
theorem q4324 : (Jvm.Cond.privateMethod ({ cls := "RingHouseModel", name := "putWord", desc := "(J)V" } : Jvm.MethodName)) ∈ lw_tbl := lw_at lw_m18 18 rfl
theorem q4325 : (Jvm.Cond.instanceMethod ({ cls := "RingHouseModel", name := "putWord", desc := "(J)V" } : Jvm.MethodName)) ∈ lw_all := lw_g (lw_at lw_m18 19 rfl) rfl
theorem q4326 : (Jvm.Cond.code ({ cls := "RingHouseModel", name := "putWord", desc := "(J)V" } : Jvm.MethodName) prog_69_method_168_code (4 : Nat) (Option.none : Option Jvm.ClassFile.FieldType)) ∈ lw_all := lw_g (lw_at lw_m18 20 rfl) rfl
theorem q4327 : (Jvm.Cond.methodLink "RingHouseModel" (1021 : Nat) ({ cls := "RingHouseModel", name := "putItems", desc := "([III)V" } : Jvm.MethodName)) ∈ lw_all := lw_g (lw_at lw_m18 21 rfl) rfl
theorem q4328 : (Jvm.Cond.privateMethod ({ cls := "RingHouseModel", name := "putItems", desc := "([III)V" } : Jvm.MethodName)) ∈ lw_tbl := lw_at lw_m18 22 rfl
theorem q4329 : (Jvm.Cond.instanceMethod ({ cls := "RingHouseModel", name := "putItems", desc := "([III)V" } : Jvm.MethodName)) ∈ lw_all := lw_g (lw_at lw_m18 23 rfl) rfl
theorem q4330 : (Jvm.Cond.code ({ cls := "RingHouseModel", name := "putItems", desc := "([III)V" } : Jvm.MethodName) prog_69_method_169_code (5 : Nat) (Option.none : Option Jvm.ClassFile.FieldType)) ∈ lw_all := lw_g (lw_at lw_m18 24 rfl) rfl
theorem q4331 : (Jvm.Cond.methodLink "RingHouseModel" (1028 : Nat) ({ cls := "RingHouseModel", name := "behindOnTape", desc := "(II)I" } : Jvm.MethodName)) ∈ lw_all := lw_g (lw_at lw_m18 25 rfl) rfl
theorem q4332 : (Jvm.Cond.privateMethod ({ cls := "RingHouseModel", name := "behindOnTape", desc := "(II)I" } : Jvm.MethodName)) ∈ lw_tbl := lw_at lw_m18 26 rfl
theorem q4333 : (Jvm.Cond.instanceMethod ({ cls := "RingHouseModel", name := "behindOnTape", desc := "(II)I" } : Jvm.MethodName)) ∈ lw_all := lw_g (lw_at lw_m18 27 rfl) rfl
theorem q4334 : (Jvm.Cond.code ({ cls := "RingHouseModel", name := "behindOnTape", desc := "(II)I" } : Jvm.MethodName) prog_69_method_171_code (5 : Nat) (Option.some Jvm.ClassFile.FieldType.int)) ∈ lw_all := lw_g (lw_at lw_m18 28 rfl) rfl
theorem q4336 : (Jvm.Cond.instanceMethod ({ cls := "RingHouseModel", name := "tape", desc := "(I)I" } : Jvm.MethodName)) ∈ lw_all := lw_g (lw_at lw_m18 30 rfl) rfl
theorem q4337 : (Jvm.Cond.selects "RingHouseModel" ({ cls := "RingHouseModel", name := "tape", desc := "(I)I" } : Jvm.MethodName) ({ cls := "RingHouseModel", name := "tape", desc := "(I)I" } : Jvm.MethodName)) ∈ lw_all := lw_g (lw_at lw_m18 31 rfl) rfl
theorem q4338 : (Jvm.Cond.code ({ cls := "RingHouseModel", name := "tape", desc := "(I)I" } : Jvm.MethodName) prog_69_method_173_code (2 : Nat) (Option.some Jvm.ClassFile.FieldType.int)) ∈ lw_all := lw_g (lw_at lw_m18 32 rfl) rfl
theorem q4340 : (Jvm.Cond.instanceMethod ({ cls := "RingHouseModel", name := "alter", desc := "(II)I" } : Jvm.MethodName)) ∈ lw_all := lw_g (lw_at lw_m18 34 rfl) rfl
theorem q4341 : (Jvm.Cond.selects "RingHouseModel" ({ cls := "RingHouseModel", name := "alter", desc := "(II)I" } : Jvm.MethodName) ({ cls := "RingHouseModel", name := "alter", desc := "(II)I" } : Jvm.MethodName)) ∈ lw_all := lw_g (lw_at lw_m18 35 rfl) rfl
theorem q4342 : (Jvm.Cond.code ({ cls := "RingHouseModel", name := "alter", desc := "(II)I" } : Jvm.MethodName) prog_69_method_174_code (3 : Nat) (Option.some Jvm.ClassFile.FieldType.int)) ∈ lw_all := lw_g (lw_at lw_m18 36 rfl) rfl
theorem q4344 : (Jvm.Cond.instanceMethod ({ cls := "RingHouseModel", name := "cut", desc := "(I)I" } : Jvm.MethodName)) ∈ lw_all := lw_g (lw_at lw_m18 38 rfl) rfl
theorem q4345 : (Jvm.Cond.selects "RingHouseModel" ({ cls := "RingHouseModel", name := "cut", desc := "(I)I" } : Jvm.MethodName) ({ cls := "RingHouseModel", name := "cut", desc := "(I)I" } : Jvm.MethodName)) ∈ lw_all := lw_g (lw_at lw_m18 39 rfl) rfl
theorem q4346 : (Jvm.Cond.code ({ cls := "RingHouseModel", name := "cut", desc := "(I)I" } : Jvm.MethodName) prog_69_method_175_code (3 : Nat) (Option.some Jvm.ClassFile.FieldType.int)) ∈ lw_all := lw_g (lw_at lw_m18 40 rfl) rfl
theorem q4348 : (Jvm.Cond.instanceMethod ({ cls := "RingHouseModel", name := "reload", desc := "(IJ)I" } : Jvm.MethodName)) ∈ lw_all := lw_g (lw_at lw_m18 42 rfl) rfl
theorem q4349 : (Jvm.Cond.selects "RingHouseModel" ({ cls := "RingHouseModel", name := "reload", desc := "(IJ)I" } : Jvm.MethodName) ({ cls := "RingHouseModel", name := "reload", desc := "(IJ)I" } : Jvm.MethodName)) ∈ lw_all := lw_g (lw_at lw_m18 43 rfl) rfl
theorem q4350 : (Jvm.Cond.code ({ cls := "RingHouseModel", name := "reload", desc := "(IJ)I" } : Jvm.MethodName) prog_69_method_191_code (5 : Nat) (Option.some Jvm.ClassFile.FieldType.int)) ∈ lw_all := lw_g (lw_at lw_m18 44 rfl) rfl
theorem q4351 : (Jvm.Cond.methodLink "RingHouseModel" (1095 : Nat) ({ cls := "RingHouseModel", name := "takeAll", desc := "(Z)V" } : Jvm.MethodName)) ∈ lw_all := lw_g (lw_at lw_m18 45 rfl) rfl
theorem q4352 : (Jvm.Cond.privateMethod ({ cls := "RingHouseModel", name := "takeAll", desc := "(Z)V" } : Jvm.MethodName)) ∈ lw_tbl := lw_at lw_m18 46 rfl
theorem q4353 : (Jvm.Cond.instanceMethod ({ cls := "RingHouseModel", name := "takeAll", desc := "(Z)V" } : Jvm.MethodName)) ∈ lw_all := lw_g (lw_at lw_m18 47 rfl) rfl
theorem q4354 : (Jvm.Cond.code ({ cls := "RingHouseModel", name := "takeAll", desc := "(Z)V" } : Jvm.MethodName) prog_69_method_190_code (7 : Nat) (Option.none : Option Jvm.ClassFile.FieldType)) ∈ lw_all := lw_g (lw_at lw_m18 48 rfl) rfl
theorem q4355 : (Jvm.Cond.methodLink "RingHouseModel" (1043 : Nat) ({ cls := "RingHouseModel", name := "take", desc := "(II)I" } : Jvm.MethodName)) ∈ lw_all := lw_g (lw_at lw_m18 49 rfl) rfl
theorem q4356 : (Jvm.Cond.privateMethod ({ cls := "RingHouseModel", name := "take", desc := "(II)I" } : Jvm.MethodName)) ∈ lw_tbl := lw_at lw_m18 50 rfl
theorem q4357 : (Jvm.Cond.instanceMethod ({ cls := "RingHouseModel", name := "take", desc := "(II)I" } : Jvm.MethodName)) ∈ lw_all := lw_g (lw_at lw_m18 51 rfl) rfl
theorem q4358 : (Jvm.Cond.code ({ cls := "RingHouseModel", name := "take", desc := "(II)I" } : Jvm.MethodName) prog_69_method_177_code (4 : Nat) (Option.some Jvm.ClassFile.FieldType.int)) ∈ lw_all := lw_g (lw_at lw_m18 52 rfl) rfl
theorem q4359 : (Jvm.Cond.methodLink "RingHouseModel" (1040 : Nat) ({ cls := "RingHouseModel", name := "torn", desc := "(II)V" } : Jvm.MethodName)) ∈ lw_all := lw_g (lw_at lw_m18 53 rfl) rfl
theorem q4360 : (Jvm.Cond.privateMethod ({ cls := "RingHouseModel", name := "torn", desc := "(II)V" } : Jvm.MethodName)) ∈ lw_tbl := lw_at lw_m18 54 rfl
theorem q4361 : (Jvm.Cond.instanceMethod ({ cls := "RingHouseModel", name := "torn", desc := "(II)V" } : Jvm.MethodName)) ∈ lw_all := lw_g (lw_at lw_m18 55 rfl) rfl
theorem q4362 : (Jvm.Cond.code ({ cls := "RingHouseModel", name := "torn", desc := "(II)V" } : Jvm.MethodName) prog_69_method_176_code (3 : Nat) (Option.none : Option Jvm.ClassFile.FieldType)) ∈ lw_all := lw_g (lw_at lw_m18 56 rfl) rfl
theorem q4363 : (Jvm.Cond.methodLink "RingHouseModel" (1092 : Nat) ({ cls := "RingHouseModel", name := "takeNode", desc := "(I)V" } : Jvm.MethodName)) ∈ lw_all := lw_g (lw_at lw_m18 57 rfl) rfl
theorem q4364 : (Jvm.Cond.privateMethod ({ cls := "RingHouseModel", name := "takeNode", desc := "(I)V" } : Jvm.MethodName)) ∈ lw_tbl := lw_at lw_m18 58 rfl
theorem q4365 : (Jvm.Cond.instanceMethod ({ cls := "RingHouseModel", name := "takeNode", desc := "(I)V" } : Jvm.MethodName)) ∈ lw_all := lw_g (lw_at lw_m18 59 rfl) rfl
theorem q4366 : (Jvm.Cond.code ({ cls := "RingHouseModel", name := "takeNode", desc := "(I)V" } : Jvm.MethodName) prog_69_method_188_code (9 : Nat) (Option.none : Option Jvm.ClassFile.FieldType)) ∈ lw_all := lw_g (lw_at lw_m18 60 rfl) rfl
theorem q4367 : (Jvm.Cond.methodLink "RingHouseModel" (1068 : Nat) ({ cls := "RingHouseModel", name := "takeHead", desc := "(I)I" } : Jvm.MethodName)) ∈ lw_all := lw_g (lw_at lw_m18 61 rfl) rfl
theorem q4368 : (Jvm.Cond.privateMethod ({ cls := "RingHouseModel", name := "takeHead", desc := "(I)I" } : Jvm.MethodName)) ∈ lw_tbl := lw_at lw_m18 62 rfl
theorem q4369 : (Jvm.Cond.instanceMethod ({ cls := "RingHouseModel", name := "takeHead", desc := "(I)I" } : Jvm.MethodName)) ∈ lw_all := lw_g (lw_at lw_m18 63 rfl) rfl
theorem q4370 : (Jvm.Cond.code ({ cls := "RingHouseModel", name := "takeHead", desc := "(I)I" } : Jvm.MethodName) prog_69_method_182_code (7 : Nat) (Option.some Jvm.ClassFile.FieldType.int)) ∈ lw_all := lw_g (lw_at lw_m18 64 rfl) rfl
theorem q4371 : (Jvm.Cond.methodLink "RingHouseModel" (1055 : Nat) ({ cls := "RingHouseModel", name := "takeWord", desc := "()J" } : Jvm.MethodName)) ∈ lw_all := lw_g (lw_at lw_m18 65 rfl) rfl
theorem q4372 : (Jvm.Cond.privateMethod ({ cls := "RingHouseModel", name := "takeWord", desc := "()J" } : Jvm.MethodName)) ∈ lw_tbl := lw_at lw_m18 66 rfl
theorem q4373 : (Jvm.Cond.instanceMethod ({ cls := "RingHouseModel", name := "takeWord", desc := "()J" } : Jvm.MethodName)) ∈ lw_all := lw_g (lw_at lw_m18 67 rfl) rfl
theorem q4374 : (Jvm.Cond.code ({ cls := "RingHouseModel", name := "takeWord", desc := "()J" } : Jvm.MethodName) prog_69_method_178_code (5 : Nat) (Option.some Jvm.ClassFile.FieldType.long)) ∈ lw_all := lw_g (lw_at lw_m18 68 rfl) rfl
theorem q4375 : (Jvm.Cond.methodLink "RingHouseModel" (1058 : Nat) ({ cls := "RingHouseModel", name := "hasName", desc := "(IJ)Z" } : Jvm.MethodName)) ∈ lw_all := lw_g (lw_at lw_m18 69 rfl) rfl
theorem q4376 : (Jvm.Cond.privateMethod ({ cls := "RingHouseModel", name := "hasName", desc := "(IJ)Z" } : Jvm.MethodName)) ∈ lw_tbl := lw_at lw_m18 70 rfl
theorem q4377 : (Jvm.Cond.instanceMethod ({ cls := "RingHouseModel", name := "hasName", desc := "(IJ)Z" } : Jvm.MethodName)) ∈ lw_all := lw_g (lw_at lw_m18 71 rfl) rfl
theorem q4378 : (Jvm.Cond.code ({ cls := "RingHouseModel", name := "hasName", desc := "(IJ)Z" } : Jvm.MethodName) prog_69_method_180_code (6 : Nat) (Option.some Jvm.ClassFile.FieldType.boolean)) ∈ lw_all := lw_g (lw_at lw_m18 72 rfl) rfl
theorem q4379 : (Jvm.Cond.methodLink "RingHouseModel" (1062 : Nat) ({ cls := "RingHouseModel", name := "labelAbove", desc := "(I)I" } : Jvm.MethodName)) ∈ lw_all := lw_g (lw_at lw_m18 73 rfl) rfl
theorem q4380 : (Jvm.Cond.privateMethod ({ cls := "RingHouseModel", name := "labelAbove", desc := "(I)I" } : Jvm.MethodName)) ∈ lw_tbl := lw_at lw_m18 74 rfl
theorem q4381 : (Jvm.Cond.instanceMethod ({ cls := "RingHouseModel", name := "labelAbove", desc := "(I)I" } : Jvm.MethodName)) ∈ lw_all := lw_g (lw_at lw_m18 75 rfl) rfl
theorem q4382 : (Jvm.Cond.code ({ cls := "RingHouseModel", name := "labelAbove", desc := "(I)I" } : Jvm.MethodName) prog_69_method_181_code (2 : Nat) (Option.some Jvm.ClassFile.FieldType.int)) ∈ lw_all := lw_g (lw_at lw_m18 76 rfl) rfl
theorem q4383 : (Jvm.Cond.methodLink "RingHouseModel" (1071 : Nat) ({ cls := "RingHouseModel", name := "makeRead", desc := "(II)I" } : Jvm.MethodName)) ∈ lw_all := lw_g (lw_at lw_m18 77 rfl) rfl
theorem q4384 : (Jvm.Cond.privateMethod ({ cls := "RingHouseModel", name := "makeRead", desc := "(II)I" } : Jvm.MethodName)) ∈ lw_tbl := lw_at lw_m18 78 rfl
theorem q4385 : (Jvm.Cond.instanceMethod ({ cls := "RingHouseModel", name := "makeRead", desc := "(II)I" } : Jvm.MethodName)) ∈ lw_all := lw_g (lw_at lw_m18 79 rfl) rfl
theorem q4386 : (Jvm.Cond.code ({ cls := "RingHouseModel", name := "makeRead", desc := "(II)I" } : Jvm.MethodName) prog_69_method_189_code (7 : Nat) (Option.some Jvm.ClassFile.FieldType.int)) ∈ lw_all := lw_g (lw_at lw_m18 80 rfl) rfl
theorem q4387 : (Jvm.Cond.methodLink "RingHouseModel" (1089 : Nat) ({ cls := "RingHouseModel", name := "lengthAhead", desc := "()I" } : Jvm.MethodName)) ∈ lw_all := lw_g (lw_at lw_m18 81 rfl) rfl
theorem q4388 : (Jvm.Cond.privateMethod ({ cls := "RingHouseModel", name := "lengthAhead", desc := "()I" } : Jvm.MethodName)) ∈ lw_tbl := lw_at lw_m18 82 rfl
theorem q4389 : (Jvm.Cond.instanceMethod ({ cls := "RingHouseModel", name := "lengthAhead", desc := "()I" } : Jvm.MethodName)) ∈ lw_all := lw_g (lw_at lw_m18 83 rfl) rfl
theorem q4390 : (Jvm.Cond.code ({ cls := "RingHouseModel", name := "lengthAhead", desc := "()I" } : Jvm.MethodName) prog_69_method_187_code (1 : Nat) (Option.some Jvm.ClassFile.FieldType.int)) ∈ lw_all := lw_g (lw_at lw_m18 84 rfl) rfl
theorem q4391 : (Jvm.Cond.methodLink "RingHouseModel" (1074 : Nat) ({ cls := "RingHouseModel", name := "takeItems", desc := "(III)V" } : Jvm.MethodName)) ∈ lw_all := lw_g (lw_at lw_m18 85 rfl) rfl
theorem q4392 : (Jvm.Cond.privateMethod ({ cls := "RingHouseModel", name := "takeItems", desc := "(III)V" } : Jvm.MethodName)) ∈ lw_tbl := lw_at lw_m18 86 rfl
theorem q4393 : (Jvm.Cond.instanceMethod ({ cls := "RingHouseModel", name := "takeItems", desc := "(III)V" } : Jvm.MethodName)) ∈ lw_all := lw_g (lw_at lw_m18 87 rfl) rfl
theorem q4394 : (Jvm.Cond.code ({ cls := "RingHouseModel", name := "takeItems", desc := "(III)V" } : Jvm.MethodName) prog_69_method_179_code (8 : Nat) (Option.none : Option Jvm.ClassFile.FieldType)) ∈ lw_all := lw_g (lw_at lw_m18 88 rfl) rfl
theorem q4395 : (Jvm.Cond.methodLink "RingHouseModel" (1077 : Nat) ({ cls := "RingHouseModel", name := "takeDirectory", desc := "(I)V" } : Jvm.MethodName)) ∈ lw_all := lw_g (lw_at lw_m18 89 rfl) rfl
theorem q4396 : (Jvm.Cond.privateMethod ({ cls := "RingHouseModel", name := "takeDirectory", desc := "(I)V" } : Jvm.MethodName)) ∈ lw_tbl := lw_at lw_m18 90 rfl
theorem q4397 : (Jvm.Cond.instanceMethod ({ cls := "RingHouseModel", name := "takeDirectory", desc := "(I)V" } : Jvm.MethodName)) ∈ lw_all := lw_g (lw_at lw_m18 91 rfl) rfl
theorem q4398 : (Jvm.Cond.code ({ cls := "RingHouseModel", name := "takeDirectory", desc := "(I)V" } : Jvm.MethodName) prog_69_method_183_code (6 : Nat) (Option.none : Option Jvm.ClassFile.FieldType)) ∈ lw_all := lw_g (lw_at lw_m18 92 rfl) rfl
theorem q4399 : (Jvm.Cond.methodLink "RingHouseModel" (1080 : Nat) ({ cls := "RingHouseModel", name := "takeSegment", desc := "(I)I" } : Jvm.MethodName)) ∈ lw_all := lw_g (lw_at lw_m18 93 rfl) rfl
theorem q4400 : (Jvm.Cond.privateMethod ({ cls := "RingHouseModel", name := "takeSegment", desc := "(I)I" } : Jvm.MethodName)) ∈ lw_tbl := lw_at lw_m18 94 rfl
theorem q4401 : (Jvm.Cond.instanceMethod ({ cls := "RingHouseModel", name := "takeSegment", desc := "(I)I" } : Jvm.MethodName)) ∈ lw_all := lw_g (lw_at lw_m18 95 rfl) rfl
theorem q4402 : (Jvm.Cond.code ({ cls := "RingHouseModel", name := "takeSegment", desc := "(I)I" } : Jvm.MethodName) prog_69_method_185_code (8 : Nat) (Option.some Jvm.ClassFile.FieldType.int)) ∈ lw_all := lw_g (lw_at lw_m18 96 rfl) rfl
theorem q4403 : (Jvm.Cond.methodLink "RingHouseModel" (1083 : Nat) ({ cls := "RingHouseModel", name := "takeLetters", desc := "(II)V" } : Jvm.MethodName)) ∈ lw_all := lw_g (lw_at lw_m18 97 rfl) rfl
theorem q4404 : (Jvm.Cond.privateMethod ({ cls := "RingHouseModel", name := "takeLetters", desc := "(II)V" } : Jvm.MethodName)) ∈ lw_tbl := lw_at lw_m18 98 rfl
theorem q4405 : (Jvm.Cond.instanceMethod ({ cls := "RingHouseModel", name := "takeLetters", desc := "(II)V" } : Jvm.MethodName)) ∈ lw_all := lw_g (lw_at lw_m18 99 rfl) rfl
theorem q4406 : (Jvm.Cond.code ({ cls := "RingHouseModel", name := "takeLetters", desc := "(II)V" } : Jvm.MethodName) prog_69_method_184_code (9 : Nat) (Option.none : Option Jvm.ClassFile.FieldType)) ∈ lw_all := lw_g (lw_at lw_m18 100 rfl) rfl
theorem q4407 : (Jvm.Cond.methodLink "RingHouseModel" (1086 : Nat) ({ cls := "RingHouseModel", name := "charge", desc := "(II)V" } : Jvm.MethodName)) ∈ lw_all := lw_g (lw_at lw_m18 101 rfl) rfl
theorem q4408 : (Jvm.Cond.privateMethod ({ cls := "RingHouseModel", name := "charge", desc := "(II)V" } : Jvm.MethodName)) ∈ lw_tbl := lw_at lw_m18 102 rfl
theorem q4409 : (Jvm.Cond.instanceMethod ({ cls := "RingHouseModel", name := "charge", desc := "(II)V" } : Jvm.MethodName)) ∈ lw_all := lw_g (lw_at lw_m18 103 rfl) rfl
theorem q4410 : (Jvm.Cond.code ({ cls := "RingHouseModel", name := "charge", desc := "(II)V" } : Jvm.MethodName) prog_69_method_186_code (4 : Nat) (Option.none : Option Jvm.ClassFile.FieldType)) ∈ lw_all := lw_g (lw_at lw_m18 104 rfl) rfl
theorem q4411 : (Jvm.Cond.methodLink "RingHouseModel" (1098 : Nat) ({ cls := "RingHouseModel", name := "hasRoomFor", desc := "(I)Z" } : Jvm.MethodName)) ∈ lw_all := lw_g (lw_at lw_m18 105 rfl) rfl
theorem q4412 : (Jvm.Cond.privateMethod ({ cls := "RingHouseModel", name := "hasRoomFor", desc := "(I)Z" } : Jvm.MethodName)) ∈ lw_tbl := lw_at lw_m18 106 rfl
theorem q4413 : (Jvm.Cond.instanceMethod ({ cls := "RingHouseModel", name := "hasRoomFor", desc := "(I)Z" } : Jvm.MethodName)) ∈ lw_all := lw_g (lw_at lw_m18 107 rfl) rfl
theorem q4414 : (Jvm.Cond.code ({ cls := "RingHouseModel", name := "hasRoomFor", desc := "(I)Z" } : Jvm.MethodName) prog_69_method_192_code (5 : Nat) (Option.some Jvm.ClassFile.FieldType.boolean)) ∈ lw_all := lw_g (lw_at lw_m18 108 rfl) rfl
theorem q4416 : (Jvm.Cond.instanceMethod ({ cls := "RingHouseModel", name := "count", desc := "(I)I" } : Jvm.MethodName)) ∈ lw_all := lw_g (lw_at lw_m18 110 rfl) rfl
theorem q4417 : (Jvm.Cond.selects "RingHouseModel" ({ cls := "RingHouseModel", name := "count", desc := "(I)I" } : Jvm.MethodName) ({ cls := "RingHouseModel", name := "count", desc := "(I)I" } : Jvm.MethodName)) ∈ lw_all := lw_g (lw_at lw_m18 111 rfl) rfl
theorem q4418 : (Jvm.Cond.code ({ cls := "RingHouseModel", name := "count", desc := "(I)I" } : Jvm.MethodName) prog_69_method_193_code (4 : Nat) (Option.some Jvm.ClassFile.FieldType.int)) ∈ lw_all := lw_g (lw_at lw_m18 112 rfl) rfl
theorem in_X67 : ∀ w ∈ wsX670, w ∈ lw_all := lw_in wsX670 [3344, 3346, 3348, 3350, 3352, 3354, 3356, 3358, 3360, 3362, 3364, 3366, 3368, 3370, 3372, 3374, 3376, 3378, 3380, 3382, 3384, 3386, 3388, 3390, 3392, 3394, 3396, 3398, 3400, 3402, 3404, 3406, 3408, 3410, 3412, 3414, 3416, 3418, 3420, 3422, 3424, 3426, 3428, 3430, 3432, 3434, 3436, 3438, 3440, 3442, 3444, 3446, 3448, 3450, 3452, 3454, 3456, 3458, 3460, 3462, 3464, 3466, 3468, 3470, 3472, 3474, 3476, 3478, 3480, 3482, 3484, 3486, 3488, 3490, 3492, 3494, 3496, 3498, 3500, 3502, 3504, 3506, 3508, 3510, 3512, 3514, 3516, 3518, 3520, 3522, 3524, 3526, 3528, 3530, 3532, 3534, 3536, 3538, 3540, 3542, 3544, 3546, 3548, 3550, 3552, 3554, 3556, 3558, 3560, 3562, 3564, 3566, 3568, 3570, 3572, 3574, 3576, 3578, 3580, 3582, 3584, 3586, 3588, 3590, 3592, 3594, 3596, 3598, 3600, 3602] (by decide +kernel) (by decide +kernel)
theorem q315 : (Jvm.Cond.arrayOver (Jvm.ClassFile.FieldType.object "RingHouse$Node")) ∈ lw_tbl := lw_at lw_m1 89 rfl
theorem q343 : (Jvm.Cond.arrayClass Jvm.ClassFile.FieldType.long) ∈ lw_all := lw_g (lw_at lw_m1 117 rfl) rfl
theorem q344 : (Jvm.Cond.arrayClass Jvm.ClassFile.FieldType.int) ∈ lw_all := lw_g (lw_at lw_m1 118 rfl) rfl
theorem q346 : (Jvm.Cond.arrayOver (Jvm.ClassFile.FieldType.object "RingHouse$Box")) ∈ lw_tbl := lw_at lw_m1 120 rfl
theorem q629 : (Jvm.Cond.arrayOver (Jvm.ClassFile.FieldType.object "RingHouse$Process")) ∈ lw_tbl := lw_at lw_m2 163 rfl
theorem q812 : (Jvm.Cond.arrayOver (Jvm.ClassFile.FieldType.object "RingHouse$Registers")) ∈ lw_tbl := lw_at lw_m3 106 rfl
theorem q815 : (Jvm.Cond.arrayOver (Jvm.ClassFile.FieldType.object "RingHouse$Rights")) ∈ lw_tbl := lw_at lw_m3 109 rfl
theorem q1004 : (Jvm.Cond.arrayOver (Jvm.ClassFile.FieldType.object "RingHouse$Decoded")) ∈ lw_tbl := lw_at lw_m4 58 rfl
theorem q1022 : (Jvm.Cond.arrayOver (Jvm.ClassFile.FieldType.object "RingHouse$Operation")) ∈ lw_tbl := lw_at lw_m4 76 rfl
theorem q1055 : (Jvm.Cond.arrayClass Jvm.ClassFile.FieldType.byte) ∈ lw_all := lw_g (lw_at lw_m4 109 rfl) rfl
theorem q1314 : (Jvm.Cond.arrayOver (Jvm.ClassFile.FieldType.object "RingHouse$Service")) ∈ lw_tbl := lw_at lw_m5 128 rfl
theorem q1789 : (Jvm.Cond.arrayClass Jvm.ClassFile.FieldType.char) ∈ lw_all := lw_g (lw_at lw_m7 123 rfl) rfl
theorem q3605 : (Jvm.Cond.arrayClass Jvm.ClassFile.FieldType.boolean) ∈ lw_all := lw_g (lw_at lw_m15 19 rfl) rfl
theorem q226 : (Jvm.Cond.initialized "RingHouseLaw") ∈ lw_all := lw_g (lw_at lw_m1 0 rfl) rfl
theorem q300 : (Jvm.Cond.classLink "RingHouseLaw" (7 : Nat) "RingHouse") ∈ lw_all := lw_g (lw_at lw_m1 74 rfl) rfl
theorem q302 : (Jvm.Cond.methodLink "RingHouseLaw" (9 : Nat) ({ cls := "RingHouse", name := "<init>", desc := "()V" } : Jvm.MethodName)) ∈ lw_all := lw_g (lw_at lw_m1 76 rfl) rfl
theorem q1821 : (Jvm.Cond.methodLink "RingHouseLaw" (15 : Nat) ({ cls := "RingHouse", name := "directory", desc := "(IJII)I" } : Jvm.MethodName)) ∈ lw_all := lw_g (lw_at lw_m7 155 rfl) rfl
theorem q1935 : (Jvm.Cond.methodLink "RingHouseLaw" (20 : Nat) ({ cls := "RingHouse", name := "segment", desc := "(IJI)I" } : Jvm.MethodName)) ∈ lw_all := lw_g (lw_at lw_m8 29 rfl) rfl
theorem q1963 : (Jvm.Cond.methodLink "RingHouseLaw" (25 : Nat) ({ cls := "RingHouse", name := "mailbox", desc := "(IJ)I" } : Jvm.MethodName)) ∈ lw_all := lw_g (lw_at lw_m8 57 rfl) rfl
theorem q1971 : (Jvm.Cond.methodLink "RingHouseLaw" (30 : Nat) ({ cls := "RingHouse", name := "initial", desc := "(IIIII)I" } : Jvm.MethodName)) ∈ lw_all := lw_g (lw_at lw_m8 65 rfl) rfl
theorem q1980 : (Jvm.Cond.methodLink "RingHouseLaw" (35 : Nat) ({ cls := "RingHouse", name := "item", desc := "(IIII)I" } : Jvm.MethodName)) ∈ lw_all := lw_g (lw_at lw_m8 74 rfl) rfl
theorem q1985 : (Jvm.Cond.methodLink "RingHouseLaw" (40 : Nat) ({ cls := "RingHouse", name := "brackets", desc := "(IIIII)I" } : Jvm.MethodName)) ∈ lw_all := lw_g (lw_at lw_m8 79 rfl) rfl
theorem q1994 : (Jvm.Cond.methodLink "RingHouseLaw" (44 : Nat) ({ cls := "RingHouse", name := "length", desc := "(II)I" } : Jvm.MethodName)) ∈ lw_all := lw_g (lw_at lw_m8 88 rfl) rfl
theorem q2007 : (Jvm.Cond.methodLink "RingHouseLaw" (49 : Nat) ({ cls := "RingHouse", name := "limit", desc := "(II)I" } : Jvm.MethodName)) ∈ lw_all := lw_g (lw_at lw_m8 101 rfl) rfl
theorem q2016 : (Jvm.Cond.methodLink "RingHouseLaw" (53 : Nat) ({ cls := "RingHouse", name := "rename", desc := "(IJ)I" } : Jvm.MethodName)) ∈ lw_all := lw_g (lw_at lw_m8 110 rfl) rfl
theorem q2029 : (Jvm.Cond.methodLink "RingHouseLaw" (57 : Nat) ({ cls := "RingHouse", name := "remove", desc := "(I)I" } : Jvm.MethodName)) ∈ lw_all := lw_g (lw_at lw_m8 123 rfl) rfl
theorem q2056 : (Jvm.Cond.methodLink "RingHouseLaw" (62 : Nat) ({ cls := "RingHouse", name := "find", desc := "(IJ)I" } : Jvm.MethodName)) ∈ lw_all := lw_g (lw_at lw_m8 150 rfl) rfl
theorem q2060 : (Jvm.Cond.methodLink "RingHouseLaw" (66 : Nat) ({ cls := "RingHouse", name := "about", desc := "(II)J" } : Jvm.MethodName)) ∈ lw_all := lw_g (lw_at lw_m8 154 rfl) rfl
theorem q2067 : (Jvm.Cond.methodLink "RingHouseLaw" (71 : Nat) ({ cls := "RingHouse", name := "modes", desc := "(III)I" } : Jvm.MethodName)) ∈ lw_all := lw_g (lw_at lw_m8 161 rfl) rfl
theorem q2077 : (Jvm.Cond.methodLink "RingHouseLaw" (76 : Nat) ({ cls := "RingHouse", name := "word", desc := "(II)J" } : Jvm.MethodName)) ∈ lw_all := lw_g (lw_at lw_m8 171 rfl) rfl
theorem q2093 : (Jvm.Cond.methodLink "RingHouseLaw" (80 : Nat) ({ cls := "RingHouse", name := "put", desc := "(IIJ)J" } : Jvm.MethodName)) ∈ lw_all := lw_g (lw_at lw_m8 187 rfl) rfl
theorem q2105 : (Jvm.Cond.methodLink "RingHouseLaw" (85 : Nat) ({ cls := "RingHouse", name := "letter", desc := "(III)J" } : Jvm.MethodName)) ∈ lw_all := lw_g (lw_at lw_m8 199 rfl) rfl
theorem q2113 : (Jvm.Cond.methodLink "RingHouseLaw" (90 : Nat) ({ cls := "RingHouse", name := "audit", desc := "(II)I" } : Jvm.MethodName)) ∈ lw_all := lw_g (lw_at lw_m8 207 rfl) rfl
theorem q2122 : (Jvm.Cond.methodLink "RingHouseLaw" (94 : Nat) ({ cls := "RingHouse", name := "login", desc := "(IIIIII)I" } : Jvm.MethodName)) ∈ lw_all := lw_g (lw_at lw_m8 216 rfl) rfl
theorem q2155 : (Jvm.Cond.methodLink "RingHouseLaw" (99 : Nat) ({ cls := "RingHouse", name := "logout", desc := "(I)I" } : Jvm.MethodName)) ∈ lw_all := lw_g (lw_at lw_m9 9 rfl) rfl
theorem q2163 : (Jvm.Cond.methodLink "RingHouseLaw" (103 : Nat) ({ cls := "RingHouse", name := "send", desc := "(IJ)I" } : Jvm.MethodName)) ∈ lw_all := lw_g (lw_at lw_m9 17 rfl) rfl
theorem q2175 : (Jvm.Cond.methodLink "RingHouseLaw" (107 : Nat) ({ cls := "RingHouse", name := "tick", desc := "(II)I" } : Jvm.MethodName)) ∈ lw_all := lw_g (lw_at lw_m9 29 rfl) rfl
theorem q2730 : (Jvm.Cond.methodLink "RingHouseLaw" (111 : Nat) ({ cls := "RingHouse", name := "schedule", desc := "(II)I" } : Jvm.MethodName)) ∈ lw_all := lw_g (lw_at lw_m11 104 rfl) rfl
theorem q2734 : (Jvm.Cond.methodLink "RingHouseLaw" (115 : Nat) ({ cls := "RingHouse", name := "run", desc := "(I)I" } : Jvm.MethodName)) ∈ lw_all := lw_g (lw_at lw_m11 108 rfl) rfl
theorem q2739 : (Jvm.Cond.methodLink "RingHouseLaw" (119 : Nat) ({ cls := "RingHouse", name := "register", desc := "(II)J" } : Jvm.MethodName)) ∈ lw_all := lw_g (lw_at lw_m11 113 rfl) rfl
theorem q2745 : (Jvm.Cond.methodLink "RingHouseLaw" (123 : Nat) ({ cls := "RingHouse", name := "process", desc := "(II)I" } : Jvm.MethodName)) ∈ lw_all := lw_g (lw_at lw_m11 119 rfl) rfl
theorem q2750 : (Jvm.Cond.methodLink "RingHouseLaw" (127 : Nat) ({ cls := "RingHouse", name := "stack", desc := "(III)J" } : Jvm.MethodName)) ∈ lw_all := lw_g (lw_at lw_m11 124 rfl) rfl
theorem q2754 : (Jvm.Cond.methodLink "RingHouseLaw" (131 : Nat) ({ cls := "RingHouse", name := "known", desc := "(II)I" } : Jvm.MethodName)) ∈ lw_all := lw_g (lw_at lw_m11 128 rfl) rfl
theorem q2759 : (Jvm.Cond.methodLink "RingHouseLaw" (135 : Nat) ({ cls := "RingHouse", name := "link", desc := "(III)J" } : Jvm.MethodName)) ∈ lw_all := lw_g (lw_at lw_m11 133 rfl) rfl
theorem q2764 : (Jvm.Cond.methodLink "RingHouseLaw" (139 : Nat) ({ cls := "RingHouse", name := "event", desc := "(III)J" } : Jvm.MethodName)) ∈ lw_all := lw_g (lw_at lw_m11 138 rfl) rfl
theorem q2772 : (Jvm.Cond.methodLink "RingHouseLaw" (143 : Nat) ({ cls := "RingHouse", name := "sum", desc := "(I)J" } : Jvm.MethodName)) ∈ lw_all := lw_g (lw_at lw_m11 146 rfl) rfl
theorem q2776 : (Jvm.Cond.methodLink "RingHouseLaw" (148 : Nat) ({ cls := "RingHouse", name := "type", desc := "(JI)I" } : Jvm.MethodName)) ∈ lw_all := lw_g (lw_at lw_m11 150 rfl) rfl
theorem q2780 : (Jvm.Cond.methodLink "RingHouseLaw" (153 : Nat) ({ cls := "RingHouse", name := "assemble", desc := "(I)I" } : Jvm.MethodName)) ∈ lw_all := lw_g (lw_at lw_m11 154 rfl) rfl
theorem q2987 : (Jvm.Cond.methodLink "RingHouseLaw" (157 : Nat) ({ cls := "RingHouse", name := "place", desc := "()I" } : Jvm.MethodName)) ∈ lw_all := lw_g (lw_at lw_m12 121 rfl) rfl
theorem q2991 : (Jvm.Cond.methodLink "RingHouseLaw" (162 : Nat) ({ cls := "RingHouse", name := "list", desc := "(J)I" } : Jvm.MethodName)) ∈ lw_all := lw_g (lw_at lw_m12 125 rfl) rfl
theorem q3023 : (Jvm.Cond.methodLink "RingHouseLaw" (167 : Nat) ({ cls := "RingHouse", name := "listed", desc := "(I)I" } : Jvm.MethodName)) ∈ lw_all := lw_g (lw_at lw_m12 157 rfl) rfl
theorem q3027 : (Jvm.Cond.methodLink "RingHouseLaw" (171 : Nat) ({ cls := "RingHouse", name := "dump", desc := "(I)I" } : Jvm.MethodName)) ∈ lw_all := lw_g (lw_at lw_m12 161 rfl) rfl
theorem q3061 : (Jvm.Cond.methodLink "RingHouseLaw" (175 : Nat) ({ cls := "RingHouse", name := "tape", desc := "(I)I" } : Jvm.MethodName)) ∈ lw_all := lw_g (lw_at lw_m12 195 rfl) rfl
theorem q3065 : (Jvm.Cond.methodLink "RingHouseLaw" (179 : Nat) ({ cls := "RingHouse", name := "alter", desc := "(II)I" } : Jvm.MethodName)) ∈ lw_all := lw_g (lw_at lw_m12 199 rfl) rfl
theorem q3070 : (Jvm.Cond.methodLink "RingHouseLaw" (183 : Nat) ({ cls := "RingHouse", name := "cut", desc := "(I)I" } : Jvm.MethodName)) ∈ lw_all := lw_g (lw_at lw_m12 204 rfl) rfl
theorem q3074 : (Jvm.Cond.methodLink "RingHouseLaw" (187 : Nat) ({ cls := "RingHouse", name := "reload", desc := "(IJ)I" } : Jvm.MethodName)) ∈ lw_all := lw_g (lw_at lw_m12 208 rfl) rfl
theorem q3160 : (Jvm.Cond.methodLink "RingHouseLaw" (191 : Nat) ({ cls := "RingHouse", name := "count", desc := "(I)I" } : Jvm.MethodName)) ∈ lw_all := lw_g (lw_at lw_m13 54 rfl) rfl
theorem q3164 : (Jvm.Cond.classLink "RingHouseLaw" (10 : Nat) "RingHouseModel") ∈ lw_all := lw_g (lw_at lw_m13 58 rfl) rfl
theorem q3166 : (Jvm.Cond.methodLink "RingHouseLaw" (12 : Nat) ({ cls := "RingHouseModel", name := "<init>", desc := "()V" } : Jvm.MethodName)) ∈ lw_all := lw_g (lw_at lw_m13 60 rfl) rfl
theorem q3606 : (Jvm.Cond.methodLink "RingHouseLaw" (19 : Nat) ({ cls := "RingHouseModel", name := "directory", desc := "(IJII)I" } : Jvm.MethodName)) ∈ lw_all := lw_g (lw_at lw_m15 20 rfl) rfl
theorem q3674 : (Jvm.Cond.methodLink "RingHouseLaw" (24 : Nat) ({ cls := "RingHouseModel", name := "segment", desc := "(IJI)I" } : Jvm.MethodName)) ∈ lw_all := lw_g (lw_at lw_m15 88 rfl) rfl
theorem q3679 : (Jvm.Cond.methodLink "RingHouseLaw" (29 : Nat) ({ cls := "RingHouseModel", name := "mailbox", desc := "(IJ)I" } : Jvm.MethodName)) ∈ lw_all := lw_g (lw_at lw_m15 93 rfl) rfl
theorem q3683 : (Jvm.Cond.methodLink "RingHouseLaw" (34 : Nat) ({ cls := "RingHouseModel", name := "initial", desc := "(IIIII)I" } : Jvm.MethodName)) ∈ lw_all := lw_g (lw_at lw_m15 97 rfl) rfl
theorem q3697 : (Jvm.Cond.methodLink "RingHouseLaw" (39 : Nat) ({ cls := "RingHouseModel", name := "item", desc := "(IIII)I" } : Jvm.MethodName)) ∈ lw_all := lw_g (lw_at lw_m15 111 rfl) rfl
theorem q3701 : (Jvm.Cond.methodLink "RingHouseLaw" (43 : Nat) ({ cls := "RingHouseModel", name := "brackets", desc := "(IIIII)I" } : Jvm.MethodName)) ∈ lw_all := lw_g (lw_at lw_m15 115 rfl) rfl
theorem q3710 : (Jvm.Cond.methodLink "RingHouseLaw" (48 : Nat) ({ cls := "RingHouseModel", name := "length", desc := "(II)I" } : Jvm.MethodName)) ∈ lw_all := lw_g (lw_at lw_m15 124 rfl) rfl
theorem q3722 : (Jvm.Cond.methodLink "RingHouseLaw" (52 : Nat) ({ cls := "RingHouseModel", name := "limit", desc := "(II)I" } : Jvm.MethodName)) ∈ lw_all := lw_g (lw_at lw_m15 136 rfl) rfl
theorem q3730 : (Jvm.Cond.methodLink "RingHouseLaw" (56 : Nat) ({ cls := "RingHouseModel", name := "rename", desc := "(IJ)I" } : Jvm.MethodName)) ∈ lw_all := lw_g (lw_at lw_m15 144 rfl) rfl
theorem q3734 : (Jvm.Cond.methodLink "RingHouseLaw" (61 : Nat) ({ cls := "RingHouseModel", name := "remove", desc := "(I)I" } : Jvm.MethodName)) ∈ lw_all := lw_g (lw_at lw_m15 148 rfl) rfl
theorem q3760 : (Jvm.Cond.methodLink "RingHouseLaw" (65 : Nat) ({ cls := "RingHouseModel", name := "find", desc := "(IJ)I" } : Jvm.MethodName)) ∈ lw_all := lw_g (lw_at lw_m15 174 rfl) rfl
theorem q3764 : (Jvm.Cond.methodLink "RingHouseLaw" (70 : Nat) ({ cls := "RingHouseModel", name := "about", desc := "(II)J" } : Jvm.MethodName)) ∈ lw_all := lw_g (lw_at lw_m15 178 rfl) rfl
theorem q3773 : (Jvm.Cond.methodLink "RingHouseLaw" (75 : Nat) ({ cls := "RingHouseModel", name := "modes", desc := "(III)I" } : Jvm.MethodName)) ∈ lw_all := lw_g (lw_at lw_m15 187 rfl) rfl
theorem q3782 : (Jvm.Cond.methodLink "RingHouseLaw" (79 : Nat) ({ cls := "RingHouseModel", name := "word", desc := "(II)J" } : Jvm.MethodName)) ∈ lw_all := lw_g (lw_at lw_m15 196 rfl) rfl
theorem q3790 : (Jvm.Cond.methodLink "RingHouseLaw" (84 : Nat) ({ cls := "RingHouseModel", name := "put", desc := "(IIJ)J" } : Jvm.MethodName)) ∈ lw_all := lw_g (lw_at lw_m15 204 rfl) rfl
theorem q3794 : (Jvm.Cond.methodLink "RingHouseLaw" (89 : Nat) ({ cls := "RingHouseModel", name := "letter", desc := "(III)J" } : Jvm.MethodName)) ∈ lw_all := lw_g (lw_at lw_m15 208 rfl) rfl
theorem q3798 : (Jvm.Cond.methodLink "RingHouseLaw" (93 : Nat) ({ cls := "RingHouseModel", name := "audit", desc := "(II)I" } : Jvm.MethodName)) ∈ lw_all := lw_g (lw_at lw_m15 212 rfl) rfl
theorem q3803 : (Jvm.Cond.methodLink "RingHouseLaw" (98 : Nat) ({ cls := "RingHouseModel", name := "login", desc := "(IIIIII)I" } : Jvm.MethodName)) ∈ lw_all := lw_g (lw_at lw_m15 217 rfl) rfl
theorem q3809 : (Jvm.Cond.methodLink "RingHouseLaw" (102 : Nat) ({ cls := "RingHouseModel", name := "logout", desc := "(I)I" } : Jvm.MethodName)) ∈ lw_all := lw_g (lw_at lw_m15 223 rfl) rfl
theorem q3817 : (Jvm.Cond.methodLink "RingHouseLaw" (106 : Nat) ({ cls := "RingHouseModel", name := "send", desc := "(IJ)I" } : Jvm.MethodName)) ∈ lw_all := lw_g (lw_at lw_m15 231 rfl) rfl
theorem q3821 : (Jvm.Cond.methodLink "RingHouseLaw" (110 : Nat) ({ cls := "RingHouseModel", name := "tick", desc := "(II)I" } : Jvm.MethodName)) ∈ lw_all := lw_g (lw_at lw_m15 235 rfl) rfl
theorem q4083 : (Jvm.Cond.methodLink "RingHouseLaw" (114 : Nat) ({ cls := "RingHouseModel", name := "schedule", desc := "(II)I" } : Jvm.MethodName)) ∈ lw_all := lw_g (lw_at lw_m17 17 rfl) rfl
theorem q4087 : (Jvm.Cond.methodLink "RingHouseLaw" (118 : Nat) ({ cls := "RingHouseModel", name := "run", desc := "(I)I" } : Jvm.MethodName)) ∈ lw_all := lw_g (lw_at lw_m17 21 rfl) rfl
theorem q4092 : (Jvm.Cond.methodLink "RingHouseLaw" (122 : Nat) ({ cls := "RingHouseModel", name := "register", desc := "(II)J" } : Jvm.MethodName)) ∈ lw_all := lw_g (lw_at lw_m17 26 rfl) rfl
theorem q4097 : (Jvm.Cond.methodLink "RingHouseLaw" (126 : Nat) ({ cls := "RingHouseModel", name := "process", desc := "(II)I" } : Jvm.MethodName)) ∈ lw_all := lw_g (lw_at lw_m17 31 rfl) rfl
theorem q4102 : (Jvm.Cond.methodLink "RingHouseLaw" (130 : Nat) ({ cls := "RingHouseModel", name := "stack", desc := "(III)J" } : Jvm.MethodName)) ∈ lw_all := lw_g (lw_at lw_m17 36 rfl) rfl
theorem q4106 : (Jvm.Cond.methodLink "RingHouseLaw" (134 : Nat) ({ cls := "RingHouseModel", name := "known", desc := "(II)I" } : Jvm.MethodName)) ∈ lw_all := lw_g (lw_at lw_m17 40 rfl) rfl
theorem q4110 : (Jvm.Cond.methodLink "RingHouseLaw" (138 : Nat) ({ cls := "RingHouseModel", name := "link", desc := "(III)J" } : Jvm.MethodName)) ∈ lw_all := lw_g (lw_at lw_m17 44 rfl) rfl
theorem q4114 : (Jvm.Cond.methodLink "RingHouseLaw" (142 : Nat) ({ cls := "RingHouseModel", name := "event", desc := "(III)J" } : Jvm.MethodName)) ∈ lw_all := lw_g (lw_at lw_m17 48 rfl) rfl
theorem q4118 : (Jvm.Cond.methodLink "RingHouseLaw" (147 : Nat) ({ cls := "RingHouseModel", name := "sum", desc := "(I)J" } : Jvm.MethodName)) ∈ lw_all := lw_g (lw_at lw_m17 52 rfl) rfl
theorem q4122 : (Jvm.Cond.methodLink "RingHouseLaw" (156 : Nat) ({ cls := "RingHouseModel", name := "assemble", desc := "(I)I" } : Jvm.MethodName)) ∈ lw_all := lw_g (lw_at lw_m17 56 rfl) rfl
theorem q4278 : (Jvm.Cond.methodLink "RingHouseLaw" (152 : Nat) ({ cls := "RingHouseModel", name := "type", desc := "(JI)I" } : Jvm.MethodName)) ∈ lw_all := lw_g (lw_at lw_m17 212 rfl) rfl
theorem q4282 : (Jvm.Cond.methodLink "RingHouseLaw" (161 : Nat) ({ cls := "RingHouseModel", name := "place", desc := "()I" } : Jvm.MethodName)) ∈ lw_all := lw_g (lw_at lw_m17 216 rfl) rfl
theorem q4286 : (Jvm.Cond.methodLink "RingHouseLaw" (166 : Nat) ({ cls := "RingHouseModel", name := "list", desc := "(J)I" } : Jvm.MethodName)) ∈ lw_all := lw_g (lw_at lw_m17 220 rfl) rfl
theorem q4306 : (Jvm.Cond.methodLink "RingHouseLaw" (170 : Nat) ({ cls := "RingHouseModel", name := "listed", desc := "(I)I" } : Jvm.MethodName)) ∈ lw_all := lw_g (lw_at lw_m18 0 rfl) rfl
theorem q4310 : (Jvm.Cond.methodLink "RingHouseLaw" (174 : Nat) ({ cls := "RingHouseModel", name := "dump", desc := "(I)I" } : Jvm.MethodName)) ∈ lw_all := lw_g (lw_at lw_m18 4 rfl) rfl
theorem q4335 : (Jvm.Cond.methodLink "RingHouseLaw" (178 : Nat) ({ cls := "RingHouseModel", name := "tape", desc := "(I)I" } : Jvm.MethodName)) ∈ lw_all := lw_g (lw_at lw_m18 29 rfl) rfl
theorem q4339 : (Jvm.Cond.methodLink "RingHouseLaw" (182 : Nat) ({ cls := "RingHouseModel", name := "alter", desc := "(II)I" } : Jvm.MethodName)) ∈ lw_all := lw_g (lw_at lw_m18 33 rfl) rfl
theorem q4343 : (Jvm.Cond.methodLink "RingHouseLaw" (186 : Nat) ({ cls := "RingHouseModel", name := "cut", desc := "(I)I" } : Jvm.MethodName)) ∈ lw_all := lw_g (lw_at lw_m18 37 rfl) rfl
theorem q4347 : (Jvm.Cond.methodLink "RingHouseLaw" (190 : Nat) ({ cls := "RingHouseModel", name := "reload", desc := "(IJ)I" } : Jvm.MethodName)) ∈ lw_all := lw_g (lw_at lw_m18 41 rfl) rfl
theorem q4415 : (Jvm.Cond.methodLink "RingHouseLaw" (194 : Nat) ({ cls := "RingHouseModel", name := "count", desc := "(I)I" } : Jvm.MethodName)) ∈ lw_all := lw_g (lw_at lw_m18 109 rfl) rfl
theorem q4419 : (Jvm.Cond.constantLong "RingHouseLaw" (13 : Nat) (4294967295 : Int64)) ∈ lw_all := lw_g (lw_at lw_m18 113 rfl) rfl
/-! the law's own entry -/
abbrev cL_law : ByteArray := code
