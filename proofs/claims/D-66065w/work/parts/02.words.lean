set_option maxRecDepth 100000
def RJ0 : String := "java/util/AbstractCollection"
abbrev cJ0_init : ByteArray := prog_34_method_1_code
def yJ0_init : MethodName := ⟨RJ0, "<init>", "()V"⟩
theorem q71 : (Jvm.Cond.initialized "java/util/AbstractCollection") ∈ lw_all := lw_g (lw_at lw_m1 3 rfl) rfl
theorem q128 : (Jvm.Cond.instanceMethod ({ cls := "java/util/AbstractCollection", name := "<init>", desc := "()V" } : Jvm.MethodName)) ∈ lw_all := lw_g (lw_at lw_m1 60 rfl) rfl
theorem q129 : (Jvm.Cond.code ({ cls := "java/util/AbstractCollection", name := "<init>", desc := "()V" } : Jvm.MethodName) prog_34_method_1_code (1 : Nat) (Option.none : Option Jvm.ClassFile.FieldType)) ∈ lw_all := lw_g (lw_at lw_m1 61 rfl) rfl
theorem q130 : (Jvm.Cond.methodLink "java/util/AbstractCollection" (1 : Nat) ({ cls := "java/lang/Object", name := "<init>", desc := "()V" } : Jvm.MethodName)) ∈ lw_all := lw_g (lw_at lw_m1 62 rfl) rfl
def RJ1 : String := "java/util/AbstractList"
abbrev cJ1_init : ByteArray := prog_35_method_1_code
def yJ1_init : MethodName := ⟨RJ1, "<init>", "()V"⟩
theorem q72 : (Jvm.Cond.initialized "java/util/AbstractList") ∈ lw_all := lw_g (lw_at lw_m1 4 rfl) rfl
theorem q125 : (Jvm.Cond.instanceMethod ({ cls := "java/util/AbstractList", name := "<init>", desc := "()V" } : Jvm.MethodName)) ∈ lw_all := lw_g (lw_at lw_m1 57 rfl) rfl
theorem q126 : (Jvm.Cond.code ({ cls := "java/util/AbstractList", name := "<init>", desc := "()V" } : Jvm.MethodName) prog_35_method_1_code (1 : Nat) (Option.none : Option Jvm.ClassFile.FieldType)) ∈ lw_all := lw_g (lw_at lw_m1 58 rfl) rfl
theorem q127 : (Jvm.Cond.methodLink "java/util/AbstractList" (1 : Nat) ({ cls := "java/util/AbstractCollection", name := "<init>", desc := "()V" } : Jvm.MethodName)) ∈ lw_all := lw_g (lw_at lw_m1 59 rfl) rfl
theorem q450 : (Jvm.Cond.fieldLink "java/util/AbstractList" (7 : Nat) "java/util/AbstractList" "modCount" "I") ∈ lw_all := lw_g (lw_at lw_m2 142 rfl) rfl
theorem q458 : (Jvm.Cond.soleField "java/util/AbstractList" "modCount") ∈ lw_all := lw_g (lw_at lw_m2 150 rfl) rfl
def RJ10 : String := "java/lang/StringUTF16"
abbrev cJ10_newBytesFor : ByteArray := prog_31_method_2_code
def yJ10_newBytesFor : MethodName := ⟨RJ10, "newBytesFor", "(I)[B"⟩
abbrev cJ10_newBytesLength : ByteArray := prog_31_method_3_code
def yJ10_newBytesLength : MethodName := ⟨RJ10, "newBytesLength", "(I)I"⟩
abbrev cJ10_putCharsAt : ByteArray := prog_31_method_81_code
def yJ10_putCharsAt : MethodName := ⟨RJ10, "putCharsAt", "([BICCCC)I"⟩
abbrev cJ10_checkBoundsBeginEnd : ByteArray := prog_31_method_93_code
def yJ10_checkBoundsBeginEnd : MethodName := ⟨RJ10, "checkBoundsBeginEnd", "(II[B)V"⟩
abbrev cJ10_length : ByteArray := prog_31_method_6_code
def yJ10_length : MethodName := ⟨RJ10, "length", "([B)I"⟩
abbrev cJ10_putChar : ByteArray := prog_31_method_4_code
def yJ10_putChar : MethodName := ⟨RJ10, "putChar", "([BII)V"⟩
abbrev cJ10_inflate : ByteArray := prog_31_method_86_code
def yJ10_inflate : MethodName := ⟨RJ10, "inflate", "([BI[BII)V"⟩
abbrev cJ10_checkBoundsOffCount : ByteArray := prog_31_method_94_code
def yJ10_checkBoundsOffCount : MethodName := ⟨RJ10, "checkBoundsOffCount", "(II[B)V"⟩
abbrev cJ10_getChars : ByteArray := prog_31_method_77_code
def yJ10_getChars : MethodName := ⟨RJ10, "getChars", "(III[B)I"⟩
abbrev cJ10_getChars_2 : ByteArray := prog_31_method_89_code
def yJ10_getChars_2 : MethodName := ⟨RJ10, "getChars", "(II[B)I"⟩
abbrev cJ10_compress : ByteArray := prog_31_method_17_code
def yJ10_compress : MethodName := ⟨RJ10, "compress", "([BII)[B"⟩
abbrev cJ10_compress_2 : ByteArray := prog_31_method_22_code
def yJ10_compress_2 : MethodName := ⟨RJ10, "compress", "([BI[BII)I"⟩
abbrev cJ10_getChar : ByteArray := prog_31_method_5_code
def yJ10_getChar : MethodName := ⟨RJ10, "getChar", "([BI)C"⟩
abbrev cJ10_coderFromArrayLen : ByteArray := prog_31_method_15_code
def yJ10_coderFromArrayLen : MethodName := ⟨RJ10, "coderFromArrayLen", "([BI)B"⟩
theorem q81 : (Jvm.Cond.initialized "java/lang/StringUTF16") ∈ lw_all := lw_g (lw_at lw_m1 13 rfl) rfl
theorem q189 : (Jvm.Cond.static ({ cls := "java/lang/StringUTF16", name := "newBytesFor", desc := "(I)[B" } : Jvm.MethodName)) ∈ lw_all := lw_g (lw_at lw_m1 121 rfl) rfl
theorem q190 : (Jvm.Cond.code ({ cls := "java/lang/StringUTF16", name := "newBytesFor", desc := "(I)[B" } : Jvm.MethodName) prog_31_method_2_code (1 : Nat) (Option.some (Jvm.ClassFile.FieldType.array Jvm.ClassFile.FieldType.byte))) ∈ lw_all := lw_g (lw_at lw_m1 122 rfl) rfl
theorem q191 : (Jvm.Cond.methodLink "java/lang/StringUTF16" (11 : Nat) ({ cls := "java/lang/StringUTF16", name := "newBytesLength", desc := "(I)I" } : Jvm.MethodName)) ∈ lw_all := lw_g (lw_at lw_m1 123 rfl) rfl
theorem q192 : (Jvm.Cond.static ({ cls := "java/lang/StringUTF16", name := "newBytesLength", desc := "(I)I" } : Jvm.MethodName)) ∈ lw_all := lw_g (lw_at lw_m1 124 rfl) rfl
theorem q193 : (Jvm.Cond.code ({ cls := "java/lang/StringUTF16", name := "newBytesLength", desc := "(I)I" } : Jvm.MethodName) prog_31_method_3_code (1 : Nat) (Option.some Jvm.ClassFile.FieldType.int)) ∈ lw_all := lw_g (lw_at lw_m1 125 rfl) rfl
theorem q194 : (Jvm.Cond.constant "java/lang/StringUTF16" (20 : Nat) (1073741823 : Int32)) ∈ lw_all := lw_g (lw_at lw_m1 126 rfl) rfl
theorem q262 : (Jvm.Cond.static ({ cls := "java/lang/StringUTF16", name := "putCharsAt", desc := "([BICCCC)I" } : Jvm.MethodName)) ∈ lw_all := lw_g (lw_at lw_m1 194 rfl) rfl
theorem q263 : (Jvm.Cond.code ({ cls := "java/lang/StringUTF16", name := "putCharsAt", desc := "([BICCCC)I" } : Jvm.MethodName) prog_31_method_81_code (7 : Nat) (Option.some Jvm.ClassFile.FieldType.int)) ∈ lw_all := lw_g (lw_at lw_m1 195 rfl) rfl
theorem q264 : (Jvm.Cond.methodLink "java/lang/StringUTF16" (96 : Nat) ({ cls := "java/lang/StringUTF16", name := "checkBoundsBeginEnd", desc := "(II[B)V" } : Jvm.MethodName)) ∈ lw_all := lw_g (lw_at lw_m1 196 rfl) rfl
theorem q265 : (Jvm.Cond.static ({ cls := "java/lang/StringUTF16", name := "checkBoundsBeginEnd", desc := "(II[B)V" } : Jvm.MethodName)) ∈ lw_all := lw_g (lw_at lw_m1 197 rfl) rfl
theorem q266 : (Jvm.Cond.code ({ cls := "java/lang/StringUTF16", name := "checkBoundsBeginEnd", desc := "(II[B)V" } : Jvm.MethodName) prog_31_method_93_code (3 : Nat) (Option.none : Option Jvm.ClassFile.FieldType)) ∈ lw_all := lw_g (lw_at lw_m1 198 rfl) rfl
theorem q267 : (Jvm.Cond.methodLink "java/lang/StringUTF16" (48 : Nat) ({ cls := "java/lang/StringUTF16", name := "length", desc := "([B)I" } : Jvm.MethodName)) ∈ lw_all := lw_g (lw_at lw_m1 199 rfl) rfl
theorem q268 : (Jvm.Cond.static ({ cls := "java/lang/StringUTF16", name := "length", desc := "([B)I" } : Jvm.MethodName)) ∈ lw_all := lw_g (lw_at lw_m1 200 rfl) rfl
theorem q269 : (Jvm.Cond.code ({ cls := "java/lang/StringUTF16", name := "length", desc := "([B)I" } : Jvm.MethodName) prog_31_method_6_code (1 : Nat) (Option.some Jvm.ClassFile.FieldType.int)) ∈ lw_all := lw_g (lw_at lw_m1 201 rfl) rfl
theorem q270 : (Jvm.Cond.methodLink "java/lang/StringUTF16" (241 : Nat) ({ cls := "java/lang/String", name := "checkBoundsBeginEnd", desc := "(III)V" } : Jvm.MethodName)) ∈ lw_all := lw_g (lw_at lw_m1 202 rfl) rfl
theorem q278 : (Jvm.Cond.methodLink "java/lang/StringUTF16" (111 : Nat) ({ cls := "java/lang/StringUTF16", name := "putChar", desc := "([BII)V" } : Jvm.MethodName)) ∈ lw_all := lw_g (lw_at lw_m1 210 rfl) rfl
theorem q279 : (Jvm.Cond.static ({ cls := "java/lang/StringUTF16", name := "putChar", desc := "([BII)V" } : Jvm.MethodName)) ∈ lw_all := lw_g (lw_at lw_m1 211 rfl) rfl
theorem q280 : (Jvm.Cond.code ({ cls := "java/lang/StringUTF16", name := "putChar", desc := "([BII)V" } : Jvm.MethodName) prog_31_method_4_code (3 : Nat) (Option.none : Option Jvm.ClassFile.FieldType)) ∈ lw_all := lw_g (lw_at lw_m1 212 rfl) rfl
theorem q281 : (Jvm.Cond.fieldLink "java/lang/StringUTF16" (44 : Nat) "java/lang/StringUTF16" "$assertionsDisabled" "Z") ∈ lw_all := lw_g (lw_at lw_m1 213 rfl) rfl
theorem q282 : (Jvm.Cond.laysStatic "java/lang/StringUTF16" "$assertionsDisabled" "Z") ∈ lw_tbl := lw_at lw_m1 214 rfl
theorem q283 : (Jvm.Cond.fieldLink "java/lang/StringUTF16" (59 : Nat) "java/lang/StringUTF16" "HI_BYTE_SHIFT" "I") ∈ lw_all := lw_g (lw_at lw_m1 215 rfl) rfl
theorem q284 : (Jvm.Cond.laysStatic "java/lang/StringUTF16" "HI_BYTE_SHIFT" "I") ∈ lw_tbl := lw_at lw_m1 216 rfl
theorem q285 : (Jvm.Cond.fieldLink "java/lang/StringUTF16" (63 : Nat) "java/lang/StringUTF16" "LO_BYTE_SHIFT" "I") ∈ lw_all := lw_g (lw_at lw_m1 217 rfl) rfl
theorem q286 : (Jvm.Cond.laysStatic "java/lang/StringUTF16" "LO_BYTE_SHIFT" "I") ∈ lw_tbl := lw_at lw_m1 218 rfl
theorem q313 : (Jvm.Cond.static ({ cls := "java/lang/StringUTF16", name := "inflate", desc := "([BI[BII)V" } : Jvm.MethodName)) ∈ lw_all := lw_g (lw_at lw_m2 5 rfl) rfl
theorem q314 : (Jvm.Cond.code ({ cls := "java/lang/StringUTF16", name := "inflate", desc := "([BI[BII)V" } : Jvm.MethodName) prog_31_method_86_code (6 : Nat) (Option.none : Option Jvm.ClassFile.FieldType)) ∈ lw_all := lw_g (lw_at lw_m2 6 rfl) rfl
theorem q315 : (Jvm.Cond.methodLink "java/lang/StringUTF16" (173 : Nat) ({ cls := "java/lang/StringUTF16", name := "checkBoundsOffCount", desc := "(II[B)V" } : Jvm.MethodName)) ∈ lw_all := lw_g (lw_at lw_m2 7 rfl) rfl
theorem q316 : (Jvm.Cond.static ({ cls := "java/lang/StringUTF16", name := "checkBoundsOffCount", desc := "(II[B)V" } : Jvm.MethodName)) ∈ lw_all := lw_g (lw_at lw_m2 8 rfl) rfl
theorem q317 : (Jvm.Cond.code ({ cls := "java/lang/StringUTF16", name := "checkBoundsOffCount", desc := "(II[B)V" } : Jvm.MethodName) prog_31_method_94_code (3 : Nat) (Option.none : Option Jvm.ClassFile.FieldType)) ∈ lw_all := lw_g (lw_at lw_m2 9 rfl) rfl
theorem q318 : (Jvm.Cond.methodLink "java/lang/StringUTF16" (419 : Nat) ({ cls := "java/lang/String", name := "checkBoundsOffCount", desc := "(III)I" } : Jvm.MethodName)) ∈ lw_all := lw_g (lw_at lw_m2 10 rfl) rfl
theorem q348 : (Jvm.Cond.static ({ cls := "java/lang/StringUTF16", name := "getChars", desc := "(III[B)I" } : Jvm.MethodName)) ∈ lw_all := lw_g (lw_at lw_m2 40 rfl) rfl
theorem q349 : (Jvm.Cond.code ({ cls := "java/lang/StringUTF16", name := "getChars", desc := "(III[B)I" } : Jvm.MethodName) prog_31_method_77_code (5 : Nat) (Option.some Jvm.ClassFile.FieldType.int)) ∈ lw_all := lw_g (lw_at lw_m2 41 rfl) rfl
theorem q350 : (Jvm.Cond.methodLink "java/lang/StringUTF16" (393 : Nat) ({ cls := "java/lang/StringUTF16", name := "getChars", desc := "(II[B)I" } : Jvm.MethodName)) ∈ lw_all := lw_g (lw_at lw_m2 42 rfl) rfl
theorem q351 : (Jvm.Cond.static ({ cls := "java/lang/StringUTF16", name := "getChars", desc := "(II[B)I" } : Jvm.MethodName)) ∈ lw_all := lw_g (lw_at lw_m2 43 rfl) rfl
theorem q352 : (Jvm.Cond.code ({ cls := "java/lang/StringUTF16", name := "getChars", desc := "(II[B)I" } : Jvm.MethodName) prog_31_method_89_code (7 : Nat) (Option.some Jvm.ClassFile.FieldType.int)) ∈ lw_all := lw_g (lw_at lw_m2 44 rfl) rfl
theorem q353 : (Jvm.Cond.fieldLink "java/lang/StringUTF16" (403 : Nat) "java/lang/Integer" "DigitOnes" "[B") ∈ lw_all := lw_g (lw_at lw_m2 45 rfl) rfl
theorem q354 : (Jvm.Cond.fieldLink "java/lang/StringUTF16" (407 : Nat) "java/lang/Integer" "DigitTens" "[B") ∈ lw_all := lw_g (lw_at lw_m2 46 rfl) rfl
theorem q424 : (Jvm.Cond.static ({ cls := "java/lang/StringUTF16", name := "compress", desc := "([BII)[B" } : Jvm.MethodName)) ∈ lw_all := lw_g (lw_at lw_m2 116 rfl) rfl
theorem q425 : (Jvm.Cond.code ({ cls := "java/lang/StringUTF16", name := "compress", desc := "([BII)[B" } : Jvm.MethodName) prog_31_method_17_code (6 : Nat) (Option.some (Jvm.ClassFile.FieldType.array Jvm.ClassFile.FieldType.byte))) ∈ lw_all := lw_g (lw_at lw_m2 117 rfl) rfl
theorem q426 : (Jvm.Cond.methodLink "java/lang/StringUTF16" (123 : Nat) ({ cls := "java/lang/StringUTF16", name := "compress", desc := "([BI[BII)I" } : Jvm.MethodName)) ∈ lw_all := lw_g (lw_at lw_m2 118 rfl) rfl
theorem q427 : (Jvm.Cond.static ({ cls := "java/lang/StringUTF16", name := "compress", desc := "([BI[BII)I" } : Jvm.MethodName)) ∈ lw_all := lw_g (lw_at lw_m2 119 rfl) rfl
theorem q428 : (Jvm.Cond.code ({ cls := "java/lang/StringUTF16", name := "compress", desc := "([BI[BII)I" } : Jvm.MethodName) prog_31_method_22_code (7 : Nat) (Option.some Jvm.ClassFile.FieldType.int)) ∈ lw_all := lw_g (lw_at lw_m2 120 rfl) rfl
theorem q429 : (Jvm.Cond.methodLink "java/lang/StringUTF16" (71 : Nat) ({ cls := "java/lang/StringUTF16", name := "getChar", desc := "([BI)C" } : Jvm.MethodName)) ∈ lw_all := lw_g (lw_at lw_m2 121 rfl) rfl
theorem q430 : (Jvm.Cond.static ({ cls := "java/lang/StringUTF16", name := "getChar", desc := "([BI)C" } : Jvm.MethodName)) ∈ lw_all := lw_g (lw_at lw_m2 122 rfl) rfl
theorem q431 : (Jvm.Cond.code ({ cls := "java/lang/StringUTF16", name := "getChar", desc := "([BI)C" } : Jvm.MethodName) prog_31_method_5_code (2 : Nat) (Option.some Jvm.ClassFile.FieldType.char)) ∈ lw_all := lw_g (lw_at lw_m2 123 rfl) rfl
theorem q432 : (Jvm.Cond.methodLink "java/lang/StringUTF16" (126 : Nat) ({ cls := "java/util/Arrays", name := "copyOfRange", desc := "([BII)[B" } : Jvm.MethodName)) ∈ lw_all := lw_g (lw_at lw_m2 124 rfl) rfl
theorem q434 : (Jvm.Cond.static ({ cls := "java/lang/StringUTF16", name := "coderFromArrayLen", desc := "([BI)B" } : Jvm.MethodName)) ∈ lw_all := lw_g (lw_at lw_m2 126 rfl) rfl
theorem q435 : (Jvm.Cond.code ({ cls := "java/lang/StringUTF16", name := "coderFromArrayLen", desc := "([BI)B" } : Jvm.MethodName) prog_31_method_15_code (2 : Nat) (Option.some Jvm.ClassFile.FieldType.byte)) ∈ lw_all := lw_g (lw_at lw_m2 127 rfl) rfl
def RJ11 : String := "jdk/internal/util/ArraysSupport"
abbrev cJ11_newLength : ByteArray := prog_43_method_27_code
def yJ11_newLength : MethodName := ⟨RJ11, "newLength", "(III)I"⟩
abbrev cJ11_hugeLength : ByteArray := prog_43_method_28_code
def yJ11_hugeLength : MethodName := ⟨RJ11, "hugeLength", "(II)I"⟩
theorem q82 : (Jvm.Cond.initialized "jdk/internal/util/ArraysSupport") ∈ lw_all := lw_g (lw_at lw_m1 14 rfl) rfl
theorem q230 : (Jvm.Cond.static ({ cls := "jdk/internal/util/ArraysSupport", name := "newLength", desc := "(III)I" } : Jvm.MethodName)) ∈ lw_all := lw_g (lw_at lw_m1 162 rfl) rfl
theorem q231 : (Jvm.Cond.code ({ cls := "jdk/internal/util/ArraysSupport", name := "newLength", desc := "(III)I" } : Jvm.MethodName) prog_43_method_27_code (4 : Nat) (Option.some Jvm.ClassFile.FieldType.int)) ∈ lw_all := lw_g (lw_at lw_m1 163 rfl) rfl
theorem q232 : (Jvm.Cond.methodLink "jdk/internal/util/ArraysSupport" (194 : Nat) ({ cls := "java/lang/Math", name := "max", desc := "(II)I" } : Jvm.MethodName)) ∈ lw_all := lw_g (lw_at lw_m1 164 rfl) rfl
theorem q235 : (Jvm.Cond.constant "jdk/internal/util/ArraysSupport" (200 : Nat) (2147483639 : Int32)) ∈ lw_all := lw_g (lw_at lw_m1 167 rfl) rfl
theorem q236 : (Jvm.Cond.methodLink "jdk/internal/util/ArraysSupport" (201 : Nat) ({ cls := "jdk/internal/util/ArraysSupport", name := "hugeLength", desc := "(II)I" } : Jvm.MethodName)) ∈ lw_all := lw_g (lw_at lw_m1 168 rfl) rfl
theorem q237 : (Jvm.Cond.static ({ cls := "jdk/internal/util/ArraysSupport", name := "hugeLength", desc := "(II)I" } : Jvm.MethodName)) ∈ lw_all := lw_g (lw_at lw_m1 169 rfl) rfl
theorem q238 : (Jvm.Cond.code ({ cls := "jdk/internal/util/ArraysSupport", name := "hugeLength", desc := "(II)I" } : Jvm.MethodName) prog_43_method_28_code (3 : Nat) (Option.some Jvm.ClassFile.FieldType.int)) ∈ lw_all := lw_g (lw_at lw_m1 170 rfl) rfl
def RJ12 : String := "java/lang/Math"
abbrev cJ12_max : ByteArray := prog_25_method_65_code
def yJ12_max : MethodName := ⟨RJ12, "max", "(II)I"⟩
abbrev cJ12_min : ByteArray := prog_25_method_69_code
def yJ12_min : MethodName := ⟨RJ12, "min", "(II)I"⟩
theorem q83 : (Jvm.Cond.initialized "java/lang/Math") ∈ lw_all := lw_g (lw_at lw_m1 15 rfl) rfl
theorem q233 : (Jvm.Cond.static ({ cls := "java/lang/Math", name := "max", desc := "(II)I" } : Jvm.MethodName)) ∈ lw_all := lw_g (lw_at lw_m1 165 rfl) rfl
theorem q234 : (Jvm.Cond.code ({ cls := "java/lang/Math", name := "max", desc := "(II)I" } : Jvm.MethodName) prog_25_method_65_code (2 : Nat) (Option.some Jvm.ClassFile.FieldType.int)) ∈ lw_all := lw_g (lw_at lw_m1 166 rfl) rfl
theorem q251 : (Jvm.Cond.static ({ cls := "java/lang/Math", name := "min", desc := "(II)I" } : Jvm.MethodName)) ∈ lw_all := lw_g (lw_at lw_m1 183 rfl) rfl
theorem q252 : (Jvm.Cond.code ({ cls := "java/lang/Math", name := "min", desc := "(II)I" } : Jvm.MethodName) prog_25_method_69_code (2 : Nat) (Option.some Jvm.ClassFile.FieldType.int)) ∈ lw_all := lw_g (lw_at lw_m1 184 rfl) rfl
def RJ13 : String := "java/util/Arrays"
abbrev cJ13_copyOf : ByteArray := prog_37_method_121_code
def yJ13_copyOf : MethodName := ⟨RJ13, "copyOf", "([BI)[B"⟩
abbrev cJ13_copyOfRange : ByteArray := prog_37_method_132_code
def yJ13_copyOfRange : MethodName := ⟨RJ13, "copyOfRange", "([BII)[B"⟩
abbrev cJ13_copyOfRangeByte : ByteArray := prog_37_method_133_code
def yJ13_copyOfRangeByte : MethodName := ⟨RJ13, "copyOfRangeByte", "([BII)[B"⟩
abbrev cJ13_checkLength : ByteArray := prog_37_method_131_code
def yJ13_checkLength : MethodName := ⟨RJ13, "checkLength", "(II)V"⟩
abbrev cJ13_copyOf_2 : ByteArray := prog_37_method_119_code
def yJ13_copyOf_2 : MethodName := ⟨RJ13, "copyOf", "([Ljava/lang/Object;I)[Ljava/lang/Object;"⟩
abbrev cJ13_copyOf_3 : ByteArray := prog_37_method_120_code
def yJ13_copyOf_3 : MethodName := ⟨RJ13, "copyOf", "([Ljava/lang/Object;ILjava/lang/Class;)[Ljava/lang/Object;"⟩
theorem q84 : (Jvm.Cond.initialized "java/util/Arrays") ∈ lw_all := lw_g (lw_at lw_m1 16 rfl) rfl
theorem q241 : (Jvm.Cond.static ({ cls := "java/util/Arrays", name := "copyOf", desc := "([BI)[B" } : Jvm.MethodName)) ∈ lw_all := lw_g (lw_at lw_m1 173 rfl) rfl
theorem q242 : (Jvm.Cond.code ({ cls := "java/util/Arrays", name := "copyOf", desc := "([BI)[B" } : Jvm.MethodName) prog_37_method_121_code (3 : Nat) (Option.some (Jvm.ClassFile.FieldType.array Jvm.ClassFile.FieldType.byte))) ∈ lw_all := lw_g (lw_at lw_m1 174 rfl) rfl
theorem q243 : (Jvm.Cond.methodLink "java/util/Arrays" (310 : Nat) ({ cls := "[B", name := "clone", desc := "()Ljava/lang/Object;" } : Jvm.MethodName)) ∈ lw_all := lw_g (lw_at lw_m1 175 rfl) rfl
theorem q249 : (Jvm.Cond.classLink "java/util/Arrays" (311 : Nat) "[B") ∈ lw_all := lw_g (lw_at lw_m1 181 rfl) rfl
theorem q250 : (Jvm.Cond.methodLink "java/util/Arrays" (304 : Nat) ({ cls := "java/lang/Math", name := "min", desc := "(II)I" } : Jvm.MethodName)) ∈ lw_all := lw_g (lw_at lw_m1 182 rfl) rfl
theorem q253 : (Jvm.Cond.methodLink "java/util/Arrays" (150 : Nat) ({ cls := "java/lang/System", name := "arraycopy", desc := "(Ljava/lang/Object;ILjava/lang/Object;II)V" } : Jvm.MethodName)) ∈ lw_all := lw_g (lw_at lw_m1 185 rfl) rfl
theorem q383 : (Jvm.Cond.static ({ cls := "java/util/Arrays", name := "copyOfRange", desc := "([BII)[B" } : Jvm.MethodName)) ∈ lw_all := lw_g (lw_at lw_m2 75 rfl) rfl
theorem q384 : (Jvm.Cond.code ({ cls := "java/util/Arrays", name := "copyOfRange", desc := "([BII)[B" } : Jvm.MethodName) prog_37_method_132_code (3 : Nat) (Option.some (Jvm.ClassFile.FieldType.array Jvm.ClassFile.FieldType.byte))) ∈ lw_all := lw_g (lw_at lw_m2 76 rfl) rfl
theorem q385 : (Jvm.Cond.methodLink "java/util/Arrays" (339 : Nat) ({ cls := "java/util/Arrays", name := "copyOfRangeByte", desc := "([BII)[B" } : Jvm.MethodName)) ∈ lw_all := lw_g (lw_at lw_m2 77 rfl) rfl
theorem q386 : (Jvm.Cond.static ({ cls := "java/util/Arrays", name := "copyOfRangeByte", desc := "([BII)[B" } : Jvm.MethodName)) ∈ lw_all := lw_g (lw_at lw_m2 78 rfl) rfl
theorem q387 : (Jvm.Cond.code ({ cls := "java/util/Arrays", name := "copyOfRangeByte", desc := "([BII)[B" } : Jvm.MethodName) prog_37_method_133_code (5 : Nat) (Option.some (Jvm.ClassFile.FieldType.array Jvm.ClassFile.FieldType.byte))) ∈ lw_all := lw_g (lw_at lw_m2 79 rfl) rfl
theorem q388 : (Jvm.Cond.methodLink "java/util/Arrays" (343 : Nat) ({ cls := "java/util/Arrays", name := "checkLength", desc := "(II)V" } : Jvm.MethodName)) ∈ lw_all := lw_g (lw_at lw_m2 80 rfl) rfl
theorem q389 : (Jvm.Cond.static ({ cls := "java/util/Arrays", name := "checkLength", desc := "(II)V" } : Jvm.MethodName)) ∈ lw_all := lw_g (lw_at lw_m2 81 rfl) rfl
theorem q390 : (Jvm.Cond.code ({ cls := "java/util/Arrays", name := "checkLength", desc := "(II)V" } : Jvm.MethodName) prog_37_method_131_code (2 : Nat) (Option.none : Option Jvm.ClassFile.FieldType)) ∈ lw_all := lw_g (lw_at lw_m2 82 rfl) rfl
theorem q391 : (Jvm.Cond.classLink "java/util/Arrays" (43 : Nat) "java/lang/IllegalArgumentException") ∈ lw_all := lw_g (lw_at lw_m2 83 rfl) rfl
theorem q392 : (Jvm.Cond.classLink "java/util/Arrays" (45 : Nat) "java/lang/StringBuilder") ∈ lw_all := lw_g (lw_at lw_m2 84 rfl) rfl
theorem q393 : (Jvm.Cond.methodLink "java/util/Arrays" (47 : Nat) ({ cls := "java/lang/StringBuilder", name := "<init>", desc := "()V" } : Jvm.MethodName)) ∈ lw_all := lw_g (lw_at lw_m2 85 rfl) rfl
theorem q394 : (Jvm.Cond.methodLink "java/util/Arrays" (54 : Nat) ({ cls := "java/lang/StringBuilder", name := "append", desc := "(I)Ljava/lang/StringBuilder;" } : Jvm.MethodName)) ∈ lw_all := lw_g (lw_at lw_m2 86 rfl) rfl
theorem q395 : (Jvm.Cond.stringRef "java/util/Arrays" (337 : Nat) " > ") ∈ lw_tbl := lw_at lw_m2 87 rfl
theorem q396 : (Jvm.Cond.methodLink "java/util/Arrays" (50 : Nat) ({ cls := "java/lang/StringBuilder", name := "append", desc := "(Ljava/lang/String;)Ljava/lang/StringBuilder;" } : Jvm.MethodName)) ∈ lw_all := lw_g (lw_at lw_m2 88 rfl) rfl
theorem q397 : (Jvm.Cond.methodLink "java/util/Arrays" (61 : Nat) ({ cls := "java/lang/StringBuilder", name := "toString", desc := "()Ljava/lang/String;" } : Jvm.MethodName)) ∈ lw_all := lw_g (lw_at lw_m2 89 rfl) rfl
theorem q398 : (Jvm.Cond.methodLink "java/util/Arrays" (65 : Nat) ({ cls := "java/lang/IllegalArgumentException", name := "<init>", desc := "(Ljava/lang/String;)V" } : Jvm.MethodName)) ∈ lw_all := lw_g (lw_at lw_m2 90 rfl) rfl
theorem q802 : (Jvm.Cond.static ({ cls := "java/util/Arrays", name := "copyOf", desc := "([Ljava/lang/Object;I)[Ljava/lang/Object;" } : Jvm.MethodName)) ∈ lw_all := lw_g (lw_at lw_m4 14 rfl) rfl
theorem q803 : (Jvm.Cond.code ({ cls := "java/util/Arrays", name := "copyOf", desc := "([Ljava/lang/Object;I)[Ljava/lang/Object;" } : Jvm.MethodName) prog_37_method_119_code (2 : Nat) (Option.some (Jvm.ClassFile.FieldType.array (Jvm.ClassFile.FieldType.object "java/lang/Object")))) ∈ lw_all := lw_g (lw_at lw_m4 15 rfl) rfl
theorem q804 : (Jvm.Cond.methodLink "java/util/Arrays" (86 : Nat) ({ cls := "java/lang/Object", name := "getClass", desc := "()Ljava/lang/Class;" } : Jvm.MethodName)) ∈ lw_all := lw_g (lw_at lw_m4 16 rfl) rfl
theorem q826 : (Jvm.Cond.methodLink "java/util/Arrays" (300 : Nat) ({ cls := "java/util/Arrays", name := "copyOf", desc := "([Ljava/lang/Object;ILjava/lang/Class;)[Ljava/lang/Object;" } : Jvm.MethodName)) ∈ lw_all := lw_g (lw_at lw_m4 38 rfl) rfl
theorem q827 : (Jvm.Cond.static ({ cls := "java/util/Arrays", name := "copyOf", desc := "([Ljava/lang/Object;ILjava/lang/Class;)[Ljava/lang/Object;" } : Jvm.MethodName)) ∈ lw_all := lw_g (lw_at lw_m4 39 rfl) rfl
theorem q828 : (Jvm.Cond.code ({ cls := "java/util/Arrays", name := "copyOf", desc := "([Ljava/lang/Object;ILjava/lang/Class;)[Ljava/lang/Object;" } : Jvm.MethodName) prog_37_method_120_code (4 : Nat) (Option.some (Jvm.ClassFile.FieldType.array (Jvm.ClassFile.FieldType.object "java/lang/Object")))) ∈ lw_all := lw_g (lw_at lw_m4 40 rfl) rfl
theorem q829 : (Jvm.Cond.classLink "java/util/Arrays" (110 : Nat) "[Ljava/lang/Object;") ∈ lw_all := lw_g (lw_at lw_m4 41 rfl) rfl
theorem q830 : (Jvm.Cond.classLink "java/util/Arrays" (2 : Nat) "java/lang/Object") ∈ lw_all := lw_g (lw_at lw_m4 42 rfl) rfl
def RJ14 : String := "jdk/internal/util/Preconditions"
abbrev cJ14_checkFromToIndex : ByteArray := prog_44_method_12_code
def yJ14_checkFromToIndex : MethodName := ⟨RJ14, "checkFromToIndex", "(IIILjava/util/function/BiFunction;)I"⟩
abbrev cJ14_checkFromIndexSize : ByteArray := prog_44_method_13_code
def yJ14_checkFromIndexSize : MethodName := ⟨RJ14, "checkFromIndexSize", "(IIILjava/util/function/BiFunction;)I"⟩
abbrev cJ14_checkIndex : ByteArray := prog_44_method_11_code
def yJ14_checkIndex : MethodName := ⟨RJ14, "checkIndex", "(IILjava/util/function/BiFunction;)I"⟩
theorem q86 : (Jvm.Cond.initialized "jdk/internal/util/Preconditions") ∈ lw_all := lw_g (lw_at lw_m1 18 rfl) rfl
theorem q274 : (Jvm.Cond.laysStatic "jdk/internal/util/Preconditions" "SIOOBE_FORMATTER" "Ljava/util/function/BiFunction;") ∈ lw_tbl := lw_at lw_m1 206 rfl
theorem q276 : (Jvm.Cond.static ({ cls := "jdk/internal/util/Preconditions", name := "checkFromToIndex", desc := "(IIILjava/util/function/BiFunction;)I" } : Jvm.MethodName)) ∈ lw_all := lw_g (lw_at lw_m1 208 rfl) rfl
theorem q277 : (Jvm.Cond.code ({ cls := "jdk/internal/util/Preconditions", name := "checkFromToIndex", desc := "(IIILjava/util/function/BiFunction;)I" } : Jvm.MethodName) prog_44_method_12_code (4 : Nat) (Option.some Jvm.ClassFile.FieldType.int)) ∈ lw_all := lw_g (lw_at lw_m1 209 rfl) rfl
theorem q322 : (Jvm.Cond.static ({ cls := "jdk/internal/util/Preconditions", name := "checkFromIndexSize", desc := "(IIILjava/util/function/BiFunction;)I" } : Jvm.MethodName)) ∈ lw_all := lw_g (lw_at lw_m2 14 rfl) rfl
theorem q323 : (Jvm.Cond.code ({ cls := "jdk/internal/util/Preconditions", name := "checkFromIndexSize", desc := "(IIILjava/util/function/BiFunction;)I" } : Jvm.MethodName) prog_44_method_13_code (4 : Nat) (Option.some Jvm.ClassFile.FieldType.int)) ∈ lw_all := lw_g (lw_at lw_m2 15 rfl) rfl
theorem q840 : (Jvm.Cond.static ({ cls := "jdk/internal/util/Preconditions", name := "checkIndex", desc := "(IILjava/util/function/BiFunction;)I" } : Jvm.MethodName)) ∈ lw_all := lw_g (lw_at lw_m4 52 rfl) rfl
theorem q841 : (Jvm.Cond.code ({ cls := "jdk/internal/util/Preconditions", name := "checkIndex", desc := "(IILjava/util/function/BiFunction;)I" } : Jvm.MethodName) prog_44_method_11_code (3 : Nat) (Option.some Jvm.ClassFile.FieldType.int)) ∈ lw_all := lw_g (lw_at lw_m4 53 rfl) rfl
def RJ15 : String := "java/lang/StringLatin1"
abbrev cJ15_inflate : ByteArray := prog_30_method_50_code
def yJ15_inflate : MethodName := ⟨RJ15, "inflate", "([BI[BII)V"⟩
theorem q87 : (Jvm.Cond.initialized "java/lang/StringLatin1") ∈ lw_all := lw_g (lw_at lw_m1 19 rfl) rfl
theorem q310 : (Jvm.Cond.static ({ cls := "java/lang/StringLatin1", name := "inflate", desc := "([BI[BII)V" } : Jvm.MethodName)) ∈ lw_all := lw_g (lw_at lw_m2 2 rfl) rfl
theorem q311 : (Jvm.Cond.code ({ cls := "java/lang/StringLatin1", name := "inflate", desc := "([BI[BII)V" } : Jvm.MethodName) prog_30_method_50_code (5 : Nat) (Option.none : Option Jvm.ClassFile.FieldType)) ∈ lw_all := lw_g (lw_at lw_m2 3 rfl) rfl
theorem q312 : (Jvm.Cond.methodLink "java/lang/StringLatin1" (240 : Nat) ({ cls := "java/lang/StringUTF16", name := "inflate", desc := "([BI[BII)V" } : Jvm.MethodName)) ∈ lw_all := lw_g (lw_at lw_m2 4 rfl) rfl
def RJ16 : String := "java/lang/Integer"
abbrev cJ16_stringSize : ByteArray := prog_23_method_13_code
def yJ16_stringSize : MethodName := ⟨RJ16, "stringSize", "(I)I"⟩
abbrev cJ16_getChars : ByteArray := prog_23_method_12_code
def yJ16_getChars : MethodName := ⟨RJ16, "getChars", "(II[B)I"⟩
theorem q88 : (Jvm.Cond.initialized "java/lang/Integer") ∈ lw_all := lw_g (lw_at lw_m1 20 rfl) rfl
theorem q338 : (Jvm.Cond.static ({ cls := "java/lang/Integer", name := "stringSize", desc := "(I)I" } : Jvm.MethodName)) ∈ lw_all := lw_g (lw_at lw_m2 30 rfl) rfl
theorem q339 : (Jvm.Cond.code ({ cls := "java/lang/Integer", name := "stringSize", desc := "(I)I" } : Jvm.MethodName) prog_23_method_13_code (4 : Nat) (Option.some Jvm.ClassFile.FieldType.int)) ∈ lw_all := lw_g (lw_at lw_m2 31 rfl) rfl
theorem q341 : (Jvm.Cond.static ({ cls := "java/lang/Integer", name := "getChars", desc := "(II[B)I" } : Jvm.MethodName)) ∈ lw_all := lw_g (lw_at lw_m2 33 rfl) rfl
theorem q342 : (Jvm.Cond.code ({ cls := "java/lang/Integer", name := "getChars", desc := "(II[B)I" } : Jvm.MethodName) prog_23_method_12_code (7 : Nat) (Option.some Jvm.ClassFile.FieldType.int)) ∈ lw_all := lw_g (lw_at lw_m2 34 rfl) rfl
theorem q343 : (Jvm.Cond.fieldLink "java/lang/Integer" (83 : Nat) "java/lang/Integer" "DigitOnes" "[B") ∈ lw_all := lw_g (lw_at lw_m2 35 rfl) rfl
theorem q344 : (Jvm.Cond.laysStatic "java/lang/Integer" "DigitOnes" "[B") ∈ lw_tbl := lw_at lw_m2 36 rfl
theorem q345 : (Jvm.Cond.fieldLink "java/lang/Integer" (87 : Nat) "java/lang/Integer" "DigitTens" "[B") ∈ lw_all := lw_g (lw_at lw_m2 37 rfl) rfl
theorem q346 : (Jvm.Cond.laysStatic "java/lang/Integer" "DigitTens" "[B") ∈ lw_tbl := lw_at lw_m2 38 rfl
def RJ17 : String := "java/lang/Enum"
abbrev cJ17_ordinal : ByteArray := prog_18_method_2_code
def yJ17_ordinal : MethodName := ⟨RJ17, "ordinal", "()I"⟩
theorem q95 : (Jvm.Cond.initialized "java/lang/Enum") ∈ lw_all := lw_g (lw_at lw_m1 27 rfl) rfl
theorem q1168 : (Jvm.Cond.declares ({ cls := "java/lang/Enum", name := "ordinal", desc := "()I" } : Jvm.MethodName)) ∈ lw_tbl := lw_at lw_m5 140 rfl
theorem q1170 : (Jvm.Cond.instanceMethod ({ cls := "java/lang/Enum", name := "ordinal", desc := "()I" } : Jvm.MethodName)) ∈ lw_all := lw_g (lw_at lw_m5 142 rfl) rfl
theorem q1171 : (Jvm.Cond.code ({ cls := "java/lang/Enum", name := "ordinal", desc := "()I" } : Jvm.MethodName) prog_18_method_2_code (1 : Nat) (Option.some Jvm.ClassFile.FieldType.int)) ∈ lw_all := lw_g (lw_at lw_m5 143 rfl) rfl
theorem q1921 : (Jvm.Cond.fieldLink "java/lang/Enum" (7 : Nat) "java/lang/Enum" "ordinal" "I") ∈ lw_all := lw_g (lw_at lw_m8 173 rfl) rfl
def RJ18 : String := "java/lang/Record"
abbrev cJ18_init : ByteArray := prog_26_method_1_code
def yJ18_init : MethodName := ⟨RJ18, "<init>", "()V"⟩
theorem q97 : (Jvm.Cond.initialized "java/lang/Record") ∈ lw_all := lw_g (lw_at lw_m1 29 rfl) rfl
theorem q1052 : (Jvm.Cond.instanceMethod ({ cls := "java/lang/Record", name := "<init>", desc := "()V" } : Jvm.MethodName)) ∈ lw_all := lw_g (lw_at lw_m5 24 rfl) rfl
theorem q1053 : (Jvm.Cond.code ({ cls := "java/lang/Record", name := "<init>", desc := "()V" } : Jvm.MethodName) prog_26_method_1_code (1 : Nat) (Option.none : Option Jvm.ClassFile.FieldType)) ∈ lw_all := lw_g (lw_at lw_m5 25 rfl) rfl
theorem q1054 : (Jvm.Cond.methodLink "java/lang/Record" (1 : Nat) ({ cls := "java/lang/Object", name := "<init>", desc := "()V" } : Jvm.MethodName)) ∈ lw_all := lw_g (lw_at lw_m5 26 rfl) rfl
def RJ19 : String := "java/util/Objects"
abbrev cJ19_checkIndex : ByteArray := prog_40_method_17_code
def yJ19_checkIndex : MethodName := ⟨RJ19, "checkIndex", "(II)I"⟩
theorem q99 : (Jvm.Cond.initialized "java/util/Objects") ∈ lw_all := lw_g (lw_at lw_m1 31 rfl) rfl
theorem q837 : (Jvm.Cond.static ({ cls := "java/util/Objects", name := "checkIndex", desc := "(II)I" } : Jvm.MethodName)) ∈ lw_all := lw_g (lw_at lw_m4 49 rfl) rfl
theorem q838 : (Jvm.Cond.code ({ cls := "java/util/Objects", name := "checkIndex", desc := "(II)I" } : Jvm.MethodName) prog_40_method_17_code (2 : Nat) (Option.some Jvm.ClassFile.FieldType.int)) ∈ lw_all := lw_g (lw_at lw_m4 50 rfl) rfl
theorem q839 : (Jvm.Cond.methodLink "java/util/Objects" (105 : Nat) ({ cls := "jdk/internal/util/Preconditions", name := "checkIndex", desc := "(IILjava/util/function/BiFunction;)I" } : Jvm.MethodName)) ∈ lw_all := lw_g (lw_at lw_m4 51 rfl) rfl
def RJ2 : String := "java/util/ArrayList"
def TJ2 : u_T := fun k => match k with
  | 0 => ("java/util/AbstractList", "modCount", "I", false)
  | 1 => ("java/util/ArrayList", "elementData", "[Ljava/lang/Object;", false)
  | _ => ("java/util/ArrayList", "size", "I", false)
def tyJ2 : Nat → FieldType := fun k => match k with
  | 0 => .int
  | 1 => .array (.object "java/lang/Object")
  | _ => .int
abbrev wsJ20 : List Cond := u_ws RJ2 TJ2 3
theorem nmJ2 : ∀ a, a < 3 → ∀ b, b < 3 → a ≠ b → (TJ2 a).2.1 ≠ (TJ2 b).2.1 := by decide +kernel
theorem tyJ2_ok : ∀ k, k < 3 → parseFieldDescriptor (TJ2 k).2.2.1 = some (tyJ2 k) := by decide +kernel
abbrev cJ2_init : ByteArray := prog_36_method_1_code
def yJ2_init : MethodName := ⟨RJ2, "<init>", "(I)V"⟩
abbrev cJ2_size : ByteArray := prog_36_method_8_code
def yJ2_size : MethodName := ⟨RJ2, "size", "()I"⟩
abbrev cJ2_add : ByteArray := prog_36_method_25_code
def yJ2_add : MethodName := ⟨RJ2, "add", "(Ljava/lang/Object;)Z"⟩
abbrev cJ2_add_2 : ByteArray := prog_36_method_24_code
def yJ2_add_2 : MethodName := ⟨RJ2, "add", "(Ljava/lang/Object;[Ljava/lang/Object;I)V"⟩
abbrev cJ2_grow : ByteArray := prog_36_method_7_code
def yJ2_grow : MethodName := ⟨RJ2, "grow", "()[Ljava/lang/Object;"⟩
abbrev cJ2_grow_2 : ByteArray := prog_36_method_6_code
def yJ2_grow_2 : MethodName := ⟨RJ2, "grow", "(I)[Ljava/lang/Object;"⟩
abbrev cJ2_get : ByteArray := prog_36_method_20_code
def yJ2_get : MethodName := ⟨RJ2, "get", "(I)Ljava/lang/Object;"⟩
abbrev cJ2_elementData : ByteArray := prog_36_method_18_code
def yJ2_elementData : MethodName := ⟨RJ2, "elementData", "(I)Ljava/lang/Object;"⟩
abbrev cJ2_clear : ByteArray := prog_36_method_40_code
def yJ2_clear : MethodName := ⟨RJ2, "clear", "()V"⟩
abbrev cJ2_set : ByteArray := prog_36_method_23_code
def yJ2_set : MethodName := ⟨RJ2, "set", "(ILjava/lang/Object;)Ljava/lang/Object;"⟩
theorem q73 : (Jvm.Cond.initialized "java/util/ArrayList") ∈ lw_all := lw_g (lw_at lw_m1 5 rfl) rfl
theorem q120 : (Jvm.Cond.instantiable "java/util/ArrayList" (3 : Nat)) ∈ lw_all := lw_g (lw_at lw_m1 52 rfl) rfl
theorem q122 : (Jvm.Cond.instanceMethod ({ cls := "java/util/ArrayList", name := "<init>", desc := "(I)V" } : Jvm.MethodName)) ∈ lw_all := lw_g (lw_at lw_m1 54 rfl) rfl
theorem q123 : (Jvm.Cond.code ({ cls := "java/util/ArrayList", name := "<init>", desc := "(I)V" } : Jvm.MethodName) prog_36_method_1_code (2 : Nat) (Option.none : Option Jvm.ClassFile.FieldType)) ∈ lw_all := lw_g (lw_at lw_m1 55 rfl) rfl
theorem q124 : (Jvm.Cond.methodLink "java/util/ArrayList" (1 : Nat) ({ cls := "java/util/AbstractList", name := "<init>", desc := "()V" } : Jvm.MethodName)) ∈ lw_all := lw_g (lw_at lw_m1 56 rfl) rfl
theorem q131 : (Jvm.Cond.classLink "java/util/ArrayList" (7 : Nat) "java/lang/Object") ∈ lw_all := lw_g (lw_at lw_m1 63 rfl) rfl
theorem q133 : (Jvm.Cond.fieldLink "java/util/ArrayList" (15 : Nat) "java/util/ArrayList" "EMPTY_ELEMENTDATA" "[Ljava/lang/Object;") ∈ lw_all := lw_g (lw_at lw_m1 65 rfl) rfl
theorem q134 : (Jvm.Cond.laysStatic "java/util/ArrayList" "EMPTY_ELEMENTDATA" "[Ljava/lang/Object;") ∈ lw_tbl := lw_at lw_m1 66 rfl
theorem q135 : (Jvm.Cond.classLink "java/util/ArrayList" (18 : Nat) "java/lang/IllegalArgumentException") ∈ lw_all := lw_g (lw_at lw_m1 67 rfl) rfl
theorem q177 : (Jvm.Cond.classLink "java/util/ArrayList" (20 : Nat) "java/lang/StringBuilder") ∈ lw_all := lw_g (lw_at lw_m1 109 rfl) rfl
theorem q179 : (Jvm.Cond.methodLink "java/util/ArrayList" (22 : Nat) ({ cls := "java/lang/StringBuilder", name := "<init>", desc := "()V" } : Jvm.MethodName)) ∈ lw_all := lw_g (lw_at lw_m1 111 rfl) rfl
theorem q209 : (Jvm.Cond.stringRef "java/util/ArrayList" (23 : Nat) "Illegal Capacity: ") ∈ lw_tbl := lw_at lw_m1 141 rfl
theorem q210 : (Jvm.Cond.methodLink "java/util/ArrayList" (25 : Nat) ({ cls := "java/lang/StringBuilder", name := "append", desc := "(Ljava/lang/String;)Ljava/lang/StringBuilder;" } : Jvm.MethodName)) ∈ lw_all := lw_g (lw_at lw_m1 142 rfl) rfl
theorem q330 : (Jvm.Cond.methodLink "java/util/ArrayList" (29 : Nat) ({ cls := "java/lang/StringBuilder", name := "append", desc := "(I)Ljava/lang/StringBuilder;" } : Jvm.MethodName)) ∈ lw_all := lw_g (lw_at lw_m2 22 rfl) rfl
theorem q355 : (Jvm.Cond.methodLink "java/util/ArrayList" (32 : Nat) ({ cls := "java/lang/StringBuilder", name := "toString", desc := "()Ljava/lang/String;" } : Jvm.MethodName)) ∈ lw_all := lw_g (lw_at lw_m2 47 rfl) rfl
theorem q447 : (Jvm.Cond.methodLink "java/util/ArrayList" (36 : Nat) ({ cls := "java/lang/IllegalArgumentException", name := "<init>", desc := "(Ljava/lang/String;)V" } : Jvm.MethodName)) ∈ lw_all := lw_g (lw_at lw_m2 139 rfl) rfl
theorem q448 : (Jvm.Cond.fieldLink "java/util/ArrayList" (9 : Nat) "java/util/ArrayList" "elementData" "[Ljava/lang/Object;") ∈ lw_all := lw_g (lw_at lw_m2 140 rfl) rfl
theorem q449 : (Jvm.Cond.fieldLink "java/util/ArrayList" (48 : Nat) "java/util/ArrayList" "size" "I") ∈ lw_all := lw_g (lw_at lw_m2 141 rfl) rfl
theorem q451 : (Jvm.Cond.fieldLink "java/util/ArrayList" (63 : Nat) "java/util/ArrayList" "modCount" "I") ∈ lw_all := lw_g (lw_at lw_m2 143 rfl) rfl
theorem q452 : (Jvm.Cond.sameField "java/util/ArrayList" "java/util/AbstractList" "modCount" "I") ∈ lw_all := lw_g (lw_at lw_m2 144 rfl) rfl
theorem q453 : (Jvm.Cond.lays "java/util/ArrayList" "java/util/ArrayList" "elementData" "[Ljava/lang/Object;") ∈ lw_all := lw_g (lw_at lw_m2 145 rfl) rfl
theorem q454 : (Jvm.Cond.soleField "java/util/ArrayList" "elementData") ∈ lw_all := lw_g (lw_at lw_m2 146 rfl) rfl
theorem q455 : (Jvm.Cond.lays "java/util/ArrayList" "java/util/ArrayList" "size" "I") ∈ lw_all := lw_g (lw_at lw_m2 147 rfl) rfl
theorem q456 : (Jvm.Cond.soleField "java/util/ArrayList" "size") ∈ lw_all := lw_g (lw_at lw_m2 148 rfl) rfl
theorem q457 : (Jvm.Cond.lays "java/util/ArrayList" "java/util/AbstractList" "modCount" "I") ∈ lw_all := lw_g (lw_at lw_m2 149 rfl) rfl
theorem q459 : (Jvm.Cond.superclass "java/util/ArrayList" "java/util/AbstractList") ∈ lw_all := lw_g (lw_at lw_m2 151 rfl) rfl
theorem q725 : (Jvm.Cond.instanceMethod ({ cls := "java/util/ArrayList", name := "size", desc := "()I" } : Jvm.MethodName)) ∈ lw_all := lw_g (lw_at lw_m3 177 rfl) rfl
theorem q726 : (Jvm.Cond.selects "java/util/ArrayList" ({ cls := "java/util/ArrayList", name := "size", desc := "()I" } : Jvm.MethodName) ({ cls := "java/util/ArrayList", name := "size", desc := "()I" } : Jvm.MethodName)) ∈ lw_all := lw_g (lw_at lw_m3 178 rfl) rfl
theorem q727 : (Jvm.Cond.code ({ cls := "java/util/ArrayList", name := "size", desc := "()I" } : Jvm.MethodName) prog_36_method_8_code (1 : Nat) (Option.some Jvm.ClassFile.FieldType.int)) ∈ lw_all := lw_g (lw_at lw_m3 179 rfl) rfl
theorem q783 : (Jvm.Cond.instanceMethod ({ cls := "java/util/ArrayList", name := "add", desc := "(Ljava/lang/Object;)Z" } : Jvm.MethodName)) ∈ lw_all := lw_g (lw_at lw_m3 235 rfl) rfl
theorem q784 : (Jvm.Cond.selects "java/util/ArrayList" ({ cls := "java/util/ArrayList", name := "add", desc := "(Ljava/lang/Object;)Z" } : Jvm.MethodName) ({ cls := "java/util/ArrayList", name := "add", desc := "(Ljava/lang/Object;)Z" } : Jvm.MethodName)) ∈ lw_all := lw_g (lw_at lw_m3 236 rfl) rfl
theorem q785 : (Jvm.Cond.code ({ cls := "java/util/ArrayList", name := "add", desc := "(Ljava/lang/Object;)Z" } : Jvm.MethodName) prog_36_method_25_code (2 : Nat) (Option.some Jvm.ClassFile.FieldType.boolean)) ∈ lw_all := lw_g (lw_at lw_m3 237 rfl) rfl
theorem q786 : (Jvm.Cond.methodLink "java/util/ArrayList" (131 : Nat) ({ cls := "java/util/ArrayList", name := "add", desc := "(Ljava/lang/Object;[Ljava/lang/Object;I)V" } : Jvm.MethodName)) ∈ lw_all := lw_g (lw_at lw_m3 238 rfl) rfl
theorem q787 : (Jvm.Cond.privateMethod ({ cls := "java/util/ArrayList", name := "add", desc := "(Ljava/lang/Object;[Ljava/lang/Object;I)V" } : Jvm.MethodName)) ∈ lw_tbl := lw_at lw_m3 239 rfl
theorem q788 : (Jvm.Cond.instanceMethod ({ cls := "java/util/ArrayList", name := "add", desc := "(Ljava/lang/Object;[Ljava/lang/Object;I)V" } : Jvm.MethodName)) ∈ lw_all := lw_g (lw_at lw_m4 0 rfl) rfl
theorem q789 : (Jvm.Cond.code ({ cls := "java/util/ArrayList", name := "add", desc := "(Ljava/lang/Object;[Ljava/lang/Object;I)V" } : Jvm.MethodName) prog_36_method_24_code (4 : Nat) (Option.none : Option Jvm.ClassFile.FieldType)) ∈ lw_all := lw_g (lw_at lw_m4 1 rfl) rfl
theorem q790 : (Jvm.Cond.methodLink "java/util/ArrayList" (129 : Nat) ({ cls := "java/util/ArrayList", name := "grow", desc := "()[Ljava/lang/Object;" } : Jvm.MethodName)) ∈ lw_all := lw_g (lw_at lw_m4 2 rfl) rfl
theorem q791 : (Jvm.Cond.privateMethod ({ cls := "java/util/ArrayList", name := "grow", desc := "()[Ljava/lang/Object;" } : Jvm.MethodName)) ∈ lw_tbl := lw_at lw_m4 3 rfl
theorem q792 : (Jvm.Cond.instanceMethod ({ cls := "java/util/ArrayList", name := "grow", desc := "()[Ljava/lang/Object;" } : Jvm.MethodName)) ∈ lw_all := lw_g (lw_at lw_m4 4 rfl) rfl
theorem q793 : (Jvm.Cond.code ({ cls := "java/util/ArrayList", name := "grow", desc := "()[Ljava/lang/Object;" } : Jvm.MethodName) prog_36_method_7_code (1 : Nat) (Option.some (Jvm.ClassFile.FieldType.array (Jvm.ClassFile.FieldType.object "java/lang/Object")))) ∈ lw_all := lw_g (lw_at lw_m4 5 rfl) rfl
theorem q794 : (Jvm.Cond.methodLink "java/util/ArrayList" (69 : Nat) ({ cls := "java/util/ArrayList", name := "grow", desc := "(I)[Ljava/lang/Object;" } : Jvm.MethodName)) ∈ lw_all := lw_g (lw_at lw_m4 6 rfl) rfl
theorem q795 : (Jvm.Cond.privateMethod ({ cls := "java/util/ArrayList", name := "grow", desc := "(I)[Ljava/lang/Object;" } : Jvm.MethodName)) ∈ lw_tbl := lw_at lw_m4 7 rfl
theorem q796 : (Jvm.Cond.instanceMethod ({ cls := "java/util/ArrayList", name := "grow", desc := "(I)[Ljava/lang/Object;" } : Jvm.MethodName)) ∈ lw_all := lw_g (lw_at lw_m4 8 rfl) rfl
theorem q797 : (Jvm.Cond.code ({ cls := "java/util/ArrayList", name := "grow", desc := "(I)[Ljava/lang/Object;" } : Jvm.MethodName) prog_36_method_6_code (4 : Nat) (Option.some (Jvm.ClassFile.FieldType.array (Jvm.ClassFile.FieldType.object "java/lang/Object")))) ∈ lw_all := lw_g (lw_at lw_m4 9 rfl) rfl
theorem q798 : (Jvm.Cond.fieldLink "java/util/ArrayList" (39 : Nat) "java/util/ArrayList" "DEFAULTCAPACITY_EMPTY_ELEMENTDATA" "[Ljava/lang/Object;") ∈ lw_all := lw_g (lw_at lw_m4 10 rfl) rfl
theorem q799 : (Jvm.Cond.laysStatic "java/util/ArrayList" "DEFAULTCAPACITY_EMPTY_ELEMENTDATA" "[Ljava/lang/Object;") ∈ lw_tbl := lw_at lw_m4 11 rfl
theorem q800 : (Jvm.Cond.methodLink "java/util/ArrayList" (73 : Nat) ({ cls := "jdk/internal/util/ArraysSupport", name := "newLength", desc := "(III)I" } : Jvm.MethodName)) ∈ lw_all := lw_g (lw_at lw_m4 12 rfl) rfl
theorem q801 : (Jvm.Cond.methodLink "java/util/ArrayList" (66 : Nat) ({ cls := "java/util/Arrays", name := "copyOf", desc := "([Ljava/lang/Object;I)[Ljava/lang/Object;" } : Jvm.MethodName)) ∈ lw_all := lw_g (lw_at lw_m4 13 rfl) rfl
theorem q824 : (Jvm.Cond.selects "java/util/ArrayList" ({ cls := "java/lang/Object", name := "getClass", desc := "()Ljava/lang/Class;" } : Jvm.MethodName) ({ cls := "java/lang/Object", name := "getClass", desc := "()Ljava/lang/Class;" } : Jvm.MethodName)) ∈ lw_all := lw_g (lw_at lw_m4 36 rfl) rfl
theorem q831 : (Jvm.Cond.methodLink "java/util/ArrayList" (79 : Nat) ({ cls := "java/lang/Math", name := "max", desc := "(II)I" } : Jvm.MethodName)) ∈ lw_all := lw_g (lw_at lw_m4 43 rfl) rfl
theorem q833 : (Jvm.Cond.instanceMethod ({ cls := "java/util/ArrayList", name := "get", desc := "(I)Ljava/lang/Object;" } : Jvm.MethodName)) ∈ lw_all := lw_g (lw_at lw_m4 45 rfl) rfl
theorem q834 : (Jvm.Cond.selects "java/util/ArrayList" ({ cls := "java/util/ArrayList", name := "get", desc := "(I)Ljava/lang/Object;" } : Jvm.MethodName) ({ cls := "java/util/ArrayList", name := "get", desc := "(I)Ljava/lang/Object;" } : Jvm.MethodName)) ∈ lw_all := lw_g (lw_at lw_m4 46 rfl) rfl
theorem q835 : (Jvm.Cond.code ({ cls := "java/util/ArrayList", name := "get", desc := "(I)Ljava/lang/Object;" } : Jvm.MethodName) prog_36_method_20_code (2 : Nat) (Option.some (Jvm.ClassFile.FieldType.object "java/lang/Object"))) ∈ lw_all := lw_g (lw_at lw_m4 47 rfl) rfl
theorem q836 : (Jvm.Cond.methodLink "java/util/ArrayList" (118 : Nat) ({ cls := "java/util/Objects", name := "checkIndex", desc := "(II)I" } : Jvm.MethodName)) ∈ lw_all := lw_g (lw_at lw_m4 48 rfl) rfl
theorem q842 : (Jvm.Cond.methodLink "java/util/ArrayList" (123 : Nat) ({ cls := "java/util/ArrayList", name := "elementData", desc := "(I)Ljava/lang/Object;" } : Jvm.MethodName)) ∈ lw_all := lw_g (lw_at lw_m4 54 rfl) rfl
theorem q843 : (Jvm.Cond.instanceMethod ({ cls := "java/util/ArrayList", name := "elementData", desc := "(I)Ljava/lang/Object;" } : Jvm.MethodName)) ∈ lw_all := lw_g (lw_at lw_m4 55 rfl) rfl
theorem q844 : (Jvm.Cond.selects "java/util/ArrayList" ({ cls := "java/util/ArrayList", name := "elementData", desc := "(I)Ljava/lang/Object;" } : Jvm.MethodName) ({ cls := "java/util/ArrayList", name := "elementData", desc := "(I)Ljava/lang/Object;" } : Jvm.MethodName)) ∈ lw_all := lw_g (lw_at lw_m4 56 rfl) rfl
theorem q845 : (Jvm.Cond.code ({ cls := "java/util/ArrayList", name := "elementData", desc := "(I)Ljava/lang/Object;" } : Jvm.MethodName) prog_36_method_18_code (2 : Nat) (Option.some (Jvm.ClassFile.FieldType.object "java/lang/Object"))) ∈ lw_all := lw_g (lw_at lw_m4 57 rfl) rfl
theorem q851 : (Jvm.Cond.instanceMethod ({ cls := "java/util/ArrayList", name := "clear", desc := "()V" } : Jvm.MethodName)) ∈ lw_all := lw_g (lw_at lw_m4 63 rfl) rfl
theorem q852 : (Jvm.Cond.selects "java/util/ArrayList" ({ cls := "java/util/ArrayList", name := "clear", desc := "()V" } : Jvm.MethodName) ({ cls := "java/util/ArrayList", name := "clear", desc := "()V" } : Jvm.MethodName)) ∈ lw_all := lw_g (lw_at lw_m4 64 rfl) rfl
theorem q853 : (Jvm.Cond.code ({ cls := "java/util/ArrayList", name := "clear", desc := "()V" } : Jvm.MethodName) prog_36_method_40_code (4 : Nat) (Option.none : Option Jvm.ClassFile.FieldType)) ∈ lw_all := lw_g (lw_at lw_m4 65 rfl) rfl
theorem q1102 : (Jvm.Cond.instanceMethod ({ cls := "java/util/ArrayList", name := "set", desc := "(ILjava/lang/Object;)Ljava/lang/Object;" } : Jvm.MethodName)) ∈ lw_all := lw_g (lw_at lw_m5 74 rfl) rfl
theorem q1103 : (Jvm.Cond.selects "java/util/ArrayList" ({ cls := "java/util/ArrayList", name := "set", desc := "(ILjava/lang/Object;)Ljava/lang/Object;" } : Jvm.MethodName) ({ cls := "java/util/ArrayList", name := "set", desc := "(ILjava/lang/Object;)Ljava/lang/Object;" } : Jvm.MethodName)) ∈ lw_all := lw_g (lw_at lw_m5 75 rfl) rfl
theorem q1104 : (Jvm.Cond.code ({ cls := "java/util/ArrayList", name := "set", desc := "(ILjava/lang/Object;)Ljava/lang/Object;" } : Jvm.MethodName) prog_36_method_23_code (4 : Nat) (Option.some (Jvm.ClassFile.FieldType.object "java/lang/Object"))) ∈ lw_all := lw_g (lw_at lw_m5 76 rfl) rfl
theorem q1899 : (Jvm.Cond.castable "java/util/ArrayList" "java/lang/Object") ∈ lw_tbl := lw_at lw_m8 151 rfl
theorem in_J2 : ∀ w ∈ wsJ20, w ∈ lw_all := lw_in wsJ20 [457, 453, 455] (by decide +kernel) (by decide +kernel)
def RJ20 : String := "java/lang/IllegalStateException"
def TJ20 : u_T := fun k => match k with
  | 0 => ("java/lang/Throwable", "cause", "Ljava/lang/Throwable;", false)
  | 1 => ("java/lang/Throwable", "stackTrace", "[Ljava/lang/StackTraceElement;", false)
  | 2 => ("java/lang/Throwable", "suppressedExceptions", "Ljava/util/List;", false)
  | 3 => ("java/lang/Throwable", "detailMessage", "Ljava/lang/String;", false)
  | 4 => ("java/lang/Throwable", "backtrace", "Ljava/lang/Object;", false)
  | _ => ("java/lang/Throwable", "depth", "I", false)
def tyJ20 : Nat → FieldType := fun k => match k with
  | 0 => .object "java/lang/Throwable"
  | 1 => .array (.object "java/lang/StackTraceElement")
  | 2 => .object "java/util/List"
  | 3 => .object "java/lang/String"
  | 4 => .object "java/lang/Object"
  | _ => .int
abbrev wsJ200 : List Cond := u_ws RJ20 TJ20 6
theorem nmJ20 : ∀ a, a < 6 → ∀ b, b < 6 → a ≠ b → (TJ20 a).2.1 ≠ (TJ20 b).2.1 := by decide +kernel
theorem tyJ20_ok : ∀ k, k < 6 → parseFieldDescriptor (TJ20 k).2.2.1 = some (tyJ20 k) := by decide +kernel
abbrev cJ20_init : ByteArray := prog_21_method_1_code
def yJ20_init : MethodName := ⟨RJ20, "<init>", "()V"⟩
theorem q101 : (Jvm.Cond.initialized "java/lang/IllegalStateException") ∈ lw_all := lw_g (lw_at lw_m1 33 rfl) rfl
theorem q169 : (Jvm.Cond.selects "java/lang/IllegalStateException" ({ cls := "java/lang/Throwable", name := "fillInStackTrace", desc := "()Ljava/lang/Throwable;" } : Jvm.MethodName) ({ cls := "java/lang/Throwable", name := "fillInStackTrace", desc := "()Ljava/lang/Throwable;" } : Jvm.MethodName)) ∈ lw_all := lw_g (lw_at lw_m1 101 rfl) rfl
theorem q820 : (Jvm.Cond.selects "java/lang/IllegalStateException" ({ cls := "java/lang/Object", name := "getClass", desc := "()Ljava/lang/Class;" } : Jvm.MethodName) ({ cls := "java/lang/Object", name := "getClass", desc := "()Ljava/lang/Class;" } : Jvm.MethodName)) ∈ lw_all := lw_g (lw_at lw_m4 32 rfl) rfl
theorem q1138 : (Jvm.Cond.instantiable "java/lang/IllegalStateException" (6 : Nat)) ∈ lw_all := lw_g (lw_at lw_m5 110 rfl) rfl
theorem q1139 : (Jvm.Cond.castable "java/lang/IllegalStateException" "java/lang/IllegalStateException") ∈ lw_tbl := lw_at lw_m5 111 rfl
theorem q1140 : (Jvm.Cond.selects "java/lang/IllegalStateException" ({ cls := "java/lang/Throwable", name := "fillInStackTrace", desc := "(I)Ljava/lang/Throwable;" } : Jvm.MethodName) ({ cls := "java/lang/Throwable", name := "fillInStackTrace", desc := "(I)Ljava/lang/Throwable;" } : Jvm.MethodName)) ∈ lw_all := lw_g (lw_at lw_m5 112 rfl) rfl
theorem q1141 : (Jvm.Cond.lays "java/lang/IllegalStateException" "java/lang/Throwable" "cause" "Ljava/lang/Throwable;") ∈ lw_all := lw_g (lw_at lw_m5 113 rfl) rfl
theorem q1142 : (Jvm.Cond.lays "java/lang/IllegalStateException" "java/lang/Throwable" "stackTrace" "[Ljava/lang/StackTraceElement;") ∈ lw_all := lw_g (lw_at lw_m5 114 rfl) rfl
theorem q1143 : (Jvm.Cond.lays "java/lang/IllegalStateException" "java/lang/Throwable" "suppressedExceptions" "Ljava/util/List;") ∈ lw_all := lw_g (lw_at lw_m5 115 rfl) rfl
theorem q1144 : (Jvm.Cond.lays "java/lang/IllegalStateException" "java/lang/Throwable" "detailMessage" "Ljava/lang/String;") ∈ lw_all := lw_g (lw_at lw_m5 116 rfl) rfl
theorem q1145 : (Jvm.Cond.lays "java/lang/IllegalStateException" "java/lang/Throwable" "backtrace" "Ljava/lang/Object;") ∈ lw_all := lw_g (lw_at lw_m5 117 rfl) rfl
theorem q1147 : (Jvm.Cond.instanceMethod ({ cls := "java/lang/IllegalStateException", name := "<init>", desc := "()V" } : Jvm.MethodName)) ∈ lw_all := lw_g (lw_at lw_m5 119 rfl) rfl
theorem q1148 : (Jvm.Cond.code ({ cls := "java/lang/IllegalStateException", name := "<init>", desc := "()V" } : Jvm.MethodName) prog_21_method_1_code (1 : Nat) (Option.none : Option Jvm.ClassFile.FieldType)) ∈ lw_all := lw_g (lw_at lw_m5 120 rfl) rfl
theorem q1149 : (Jvm.Cond.methodLink "java/lang/IllegalStateException" (1 : Nat) ({ cls := "java/lang/RuntimeException", name := "<init>", desc := "()V" } : Jvm.MethodName)) ∈ lw_all := lw_g (lw_at lw_m5 121 rfl) rfl
theorem q1150 : (Jvm.Cond.lays "java/lang/IllegalStateException" "java/lang/Throwable" "depth" "I") ∈ lw_all := lw_g (lw_at lw_m5 122 rfl) rfl
theorem q1151 : (Jvm.Cond.superclass "java/lang/IllegalStateException" "java/lang/RuntimeException") ∈ lw_all := lw_g (lw_at lw_m5 123 rfl) rfl
theorem q1910 : (Jvm.Cond.castable "java/lang/IllegalStateException" "java/lang/Object") ∈ lw_tbl := lw_at lw_m8 162 rfl
theorem in_J20 : ∀ w ∈ wsJ200, w ∈ lw_all := lw_in wsJ200 [1141, 1142, 1143, 1144, 1145, 1150] (by decide +kernel) (by decide +kernel)
def RJ21 : String := "java/lang/IndexOutOfBoundsException"
def TJ21 : u_T := fun k => match k with
  | 0 => ("java/lang/Throwable", "cause", "Ljava/lang/Throwable;", false)
  | 1 => ("java/lang/Throwable", "stackTrace", "[Ljava/lang/StackTraceElement;", false)
  | 2 => ("java/lang/Throwable", "suppressedExceptions", "Ljava/util/List;", false)
  | 3 => ("java/lang/Throwable", "detailMessage", "Ljava/lang/String;", false)
  | 4 => ("java/lang/Throwable", "backtrace", "Ljava/lang/Object;", false)
  | _ => ("java/lang/Throwable", "depth", "I", false)
def tyJ21 : Nat → FieldType := fun k => match k with
  | 0 => .object "java/lang/Throwable"
  | 1 => .array (.object "java/lang/StackTraceElement")
  | 2 => .object "java/util/List"
  | 3 => .object "java/lang/String"
  | 4 => .object "java/lang/Object"
  | _ => .int
abbrev wsJ210 : List Cond := u_ws RJ21 TJ21 6
theorem nmJ21 : ∀ a, a < 6 → ∀ b, b < 6 → a ≠ b → (TJ21 a).2.1 ≠ (TJ21 b).2.1 := by decide +kernel
theorem tyJ21_ok : ∀ k, k < 6 → parseFieldDescriptor (TJ21 k).2.2.1 = some (tyJ21 k) := by decide +kernel
abbrev cJ21_init : ByteArray := prog_22_method_2_code
def yJ21_init : MethodName := ⟨RJ21, "<init>", "(Ljava/lang/String;)V"⟩
abbrev cJ21_init_2 : ByteArray := prog_22_method_1_code
def yJ21_init_2 : MethodName := ⟨RJ21, "<init>", "()V"⟩
theorem q103 : (Jvm.Cond.initialized "java/lang/IndexOutOfBoundsException") ∈ lw_all := lw_g (lw_at lw_m1 35 rfl) rfl
theorem q170 : (Jvm.Cond.selects "java/lang/IndexOutOfBoundsException" ({ cls := "java/lang/Throwable", name := "fillInStackTrace", desc := "()Ljava/lang/Throwable;" } : Jvm.MethodName) ({ cls := "java/lang/Throwable", name := "fillInStackTrace", desc := "()Ljava/lang/Throwable;" } : Jvm.MethodName)) ∈ lw_all := lw_g (lw_at lw_m1 102 rfl) rfl
theorem q821 : (Jvm.Cond.selects "java/lang/IndexOutOfBoundsException" ({ cls := "java/lang/Object", name := "getClass", desc := "()Ljava/lang/Class;" } : Jvm.MethodName) ({ cls := "java/lang/Object", name := "getClass", desc := "()Ljava/lang/Class;" } : Jvm.MethodName)) ∈ lw_all := lw_g (lw_at lw_m4 33 rfl) rfl
theorem q1326 : (Jvm.Cond.instanceMethod ({ cls := "java/lang/IndexOutOfBoundsException", name := "<init>", desc := "(Ljava/lang/String;)V" } : Jvm.MethodName)) ∈ lw_all := lw_g (lw_at lw_m6 58 rfl) rfl
theorem q1327 : (Jvm.Cond.code ({ cls := "java/lang/IndexOutOfBoundsException", name := "<init>", desc := "(Ljava/lang/String;)V" } : Jvm.MethodName) prog_22_method_2_code (2 : Nat) (Option.none : Option Jvm.ClassFile.FieldType)) ∈ lw_all := lw_g (lw_at lw_m6 59 rfl) rfl
theorem q1328 : (Jvm.Cond.methodLink "java/lang/IndexOutOfBoundsException" (7 : Nat) ({ cls := "java/lang/RuntimeException", name := "<init>", desc := "(Ljava/lang/String;)V" } : Jvm.MethodName)) ∈ lw_all := lw_g (lw_at lw_m6 60 rfl) rfl
theorem q1337 : (Jvm.Cond.declares ({ cls := "java/lang/IndexOutOfBoundsException", name := "<init>", desc := "()V" } : Jvm.MethodName)) ∈ lw_tbl := lw_at lw_m6 69 rfl
theorem q1338 : (Jvm.Cond.declares ({ cls := "java/lang/IndexOutOfBoundsException", name := "<init>", desc := "(Ljava/lang/String;)V" } : Jvm.MethodName)) ∈ lw_tbl := lw_at lw_m6 70 rfl
theorem q1345 : (Jvm.Cond.instantiable "java/lang/IndexOutOfBoundsException" (6 : Nat)) ∈ lw_all := lw_g (lw_at lw_m6 77 rfl) rfl
theorem q1346 : (Jvm.Cond.castable "java/lang/IndexOutOfBoundsException" "java/lang/IndexOutOfBoundsException") ∈ lw_tbl := lw_at lw_m6 78 rfl
theorem q1347 : (Jvm.Cond.selects "java/lang/IndexOutOfBoundsException" ({ cls := "java/lang/Throwable", name := "fillInStackTrace", desc := "(I)Ljava/lang/Throwable;" } : Jvm.MethodName) ({ cls := "java/lang/Throwable", name := "fillInStackTrace", desc := "(I)Ljava/lang/Throwable;" } : Jvm.MethodName)) ∈ lw_all := lw_g (lw_at lw_m6 79 rfl) rfl
theorem q1348 : (Jvm.Cond.lays "java/lang/IndexOutOfBoundsException" "java/lang/Throwable" "cause" "Ljava/lang/Throwable;") ∈ lw_all := lw_g (lw_at lw_m6 80 rfl) rfl
theorem q1349 : (Jvm.Cond.lays "java/lang/IndexOutOfBoundsException" "java/lang/Throwable" "stackTrace" "[Ljava/lang/StackTraceElement;") ∈ lw_all := lw_g (lw_at lw_m6 81 rfl) rfl
theorem q1350 : (Jvm.Cond.lays "java/lang/IndexOutOfBoundsException" "java/lang/Throwable" "suppressedExceptions" "Ljava/util/List;") ∈ lw_all := lw_g (lw_at lw_m6 82 rfl) rfl
theorem q1351 : (Jvm.Cond.lays "java/lang/IndexOutOfBoundsException" "java/lang/Throwable" "detailMessage" "Ljava/lang/String;") ∈ lw_all := lw_g (lw_at lw_m6 83 rfl) rfl
theorem q1352 : (Jvm.Cond.lays "java/lang/IndexOutOfBoundsException" "java/lang/Throwable" "backtrace" "Ljava/lang/Object;") ∈ lw_all := lw_g (lw_at lw_m6 84 rfl) rfl
theorem q1354 : (Jvm.Cond.instanceMethod ({ cls := "java/lang/IndexOutOfBoundsException", name := "<init>", desc := "()V" } : Jvm.MethodName)) ∈ lw_all := lw_g (lw_at lw_m6 86 rfl) rfl
theorem q1355 : (Jvm.Cond.code ({ cls := "java/lang/IndexOutOfBoundsException", name := "<init>", desc := "()V" } : Jvm.MethodName) prog_22_method_1_code (1 : Nat) (Option.none : Option Jvm.ClassFile.FieldType)) ∈ lw_all := lw_g (lw_at lw_m6 87 rfl) rfl
theorem q1356 : (Jvm.Cond.methodLink "java/lang/IndexOutOfBoundsException" (1 : Nat) ({ cls := "java/lang/RuntimeException", name := "<init>", desc := "()V" } : Jvm.MethodName)) ∈ lw_all := lw_g (lw_at lw_m6 88 rfl) rfl
theorem q1357 : (Jvm.Cond.lays "java/lang/IndexOutOfBoundsException" "java/lang/Throwable" "depth" "I") ∈ lw_all := lw_g (lw_at lw_m6 89 rfl) rfl
theorem q1358 : (Jvm.Cond.superclass "java/lang/IndexOutOfBoundsException" "java/lang/RuntimeException") ∈ lw_all := lw_g (lw_at lw_m6 90 rfl) rfl
theorem q1913 : (Jvm.Cond.castable "java/lang/IndexOutOfBoundsException" "java/lang/Object") ∈ lw_tbl := lw_at lw_m8 165 rfl
theorem in_J21 : ∀ w ∈ wsJ210, w ∈ lw_all := lw_in wsJ210 [1348, 1349, 1350, 1351, 1352, 1357] (by decide +kernel) (by decide +kernel)
def RJ22 : String := "java/lang/ArrayIndexOutOfBoundsException"
def TJ22 : u_T := fun k => match k with
  | 0 => ("java/lang/Throwable", "backtrace", "Ljava/lang/Object;", false)
  | 1 => ("java/lang/Throwable", "detailMessage", "Ljava/lang/String;", false)
  | 2 => ("java/lang/Throwable", "cause", "Ljava/lang/Throwable;", false)
  | 3 => ("java/lang/Throwable", "stackTrace", "[Ljava/lang/StackTraceElement;", false)
  | 4 => ("java/lang/Throwable", "depth", "I", false)
  | _ => ("java/lang/Throwable", "suppressedExceptions", "Ljava/util/List;", false)
def tyJ22 : Nat → FieldType := fun k => match k with
  | 0 => .object "java/lang/Object"
  | 1 => .object "java/lang/String"
  | 2 => .object "java/lang/Throwable"
  | 3 => .array (.object "java/lang/StackTraceElement")
  | 4 => .int
  | _ => .object "java/util/List"
abbrev wsJ220 : List Cond := u_ws RJ22 TJ22 6
theorem nmJ22 : ∀ a, a < 6 → ∀ b, b < 6 → a ≠ b → (TJ22 a).2.1 ≠ (TJ22 b).2.1 := by decide +kernel
theorem tyJ22_ok : ∀ k, k < 6 → parseFieldDescriptor (TJ22 k).2.2.1 = some (tyJ22 k) := by decide +kernel
abbrev cJ22_init : ByteArray := prog_16_method_2_code
def yJ22_init : MethodName := ⟨RJ22, "<init>", "(Ljava/lang/String;)V"⟩
theorem q104 : (Jvm.Cond.initialized "java/lang/ArrayIndexOutOfBoundsException") ∈ lw_all := lw_g (lw_at lw_m1 36 rfl) rfl
theorem q168 : (Jvm.Cond.selects "java/lang/ArrayIndexOutOfBoundsException" ({ cls := "java/lang/Throwable", name := "fillInStackTrace", desc := "()Ljava/lang/Throwable;" } : Jvm.MethodName) ({ cls := "java/lang/Throwable", name := "fillInStackTrace", desc := "()Ljava/lang/Throwable;" } : Jvm.MethodName)) ∈ lw_all := lw_g (lw_at lw_m1 100 rfl) rfl
theorem q818 : (Jvm.Cond.selects "java/lang/ArrayIndexOutOfBoundsException" ({ cls := "java/lang/Object", name := "getClass", desc := "()Ljava/lang/Class;" } : Jvm.MethodName) ({ cls := "java/lang/Object", name := "getClass", desc := "()Ljava/lang/Class;" } : Jvm.MethodName)) ∈ lw_all := lw_g (lw_at lw_m4 30 rfl) rfl
theorem q1322 : (Jvm.Cond.instantiable "java/lang/ArrayIndexOutOfBoundsException" (6 : Nat)) ∈ lw_all := lw_g (lw_at lw_m6 54 rfl) rfl
theorem q1323 : (Jvm.Cond.instanceMethod ({ cls := "java/lang/ArrayIndexOutOfBoundsException", name := "<init>", desc := "(Ljava/lang/String;)V" } : Jvm.MethodName)) ∈ lw_all := lw_g (lw_at lw_m6 55 rfl) rfl
theorem q1324 : (Jvm.Cond.code ({ cls := "java/lang/ArrayIndexOutOfBoundsException", name := "<init>", desc := "(Ljava/lang/String;)V" } : Jvm.MethodName) prog_16_method_2_code (2 : Nat) (Option.none : Option Jvm.ClassFile.FieldType)) ∈ lw_all := lw_g (lw_at lw_m6 56 rfl) rfl
theorem q1325 : (Jvm.Cond.methodLink "java/lang/ArrayIndexOutOfBoundsException" (7 : Nat) ({ cls := "java/lang/IndexOutOfBoundsException", name := "<init>", desc := "(Ljava/lang/String;)V" } : Jvm.MethodName)) ∈ lw_all := lw_g (lw_at lw_m6 57 rfl) rfl
theorem q1329 : (Jvm.Cond.lays "java/lang/ArrayIndexOutOfBoundsException" "java/lang/Throwable" "backtrace" "Ljava/lang/Object;") ∈ lw_all := lw_g (lw_at lw_m6 61 rfl) rfl
theorem q1330 : (Jvm.Cond.lays "java/lang/ArrayIndexOutOfBoundsException" "java/lang/Throwable" "detailMessage" "Ljava/lang/String;") ∈ lw_all := lw_g (lw_at lw_m6 62 rfl) rfl
theorem q1331 : (Jvm.Cond.lays "java/lang/ArrayIndexOutOfBoundsException" "java/lang/Throwable" "cause" "Ljava/lang/Throwable;") ∈ lw_all := lw_g (lw_at lw_m6 63 rfl) rfl
theorem q1332 : (Jvm.Cond.lays "java/lang/ArrayIndexOutOfBoundsException" "java/lang/Throwable" "stackTrace" "[Ljava/lang/StackTraceElement;") ∈ lw_all := lw_g (lw_at lw_m6 64 rfl) rfl
theorem q1333 : (Jvm.Cond.lays "java/lang/ArrayIndexOutOfBoundsException" "java/lang/Throwable" "depth" "I") ∈ lw_all := lw_g (lw_at lw_m6 65 rfl) rfl
theorem q1334 : (Jvm.Cond.lays "java/lang/ArrayIndexOutOfBoundsException" "java/lang/Throwable" "suppressedExceptions" "Ljava/util/List;") ∈ lw_all := lw_g (lw_at lw_m6 66 rfl) rfl
theorem q1335 : (Jvm.Cond.superclass "java/lang/ArrayIndexOutOfBoundsException" "java/lang/IndexOutOfBoundsException") ∈ lw_all := lw_g (lw_at lw_m6 67 rfl) rfl
theorem q1336 : (Jvm.Cond.castable "java/lang/ArrayIndexOutOfBoundsException" "java/lang/ArrayIndexOutOfBoundsException") ∈ lw_tbl := lw_at lw_m6 68 rfl
theorem q1339 : (Jvm.Cond.selects "java/lang/ArrayIndexOutOfBoundsException" ({ cls := "java/lang/Throwable", name := "fillInStackTrace", desc := "(I)Ljava/lang/Throwable;" } : Jvm.MethodName) ({ cls := "java/lang/Throwable", name := "fillInStackTrace", desc := "(I)Ljava/lang/Throwable;" } : Jvm.MethodName)) ∈ lw_all := lw_g (lw_at lw_m6 71 rfl) rfl
theorem q1893 : (Jvm.Cond.castable "java/lang/ArrayIndexOutOfBoundsException" "java/lang/IndexOutOfBoundsException") ∈ lw_tbl := lw_at lw_m8 145 rfl
theorem q1912 : (Jvm.Cond.castable "java/lang/ArrayIndexOutOfBoundsException" "java/lang/Object") ∈ lw_tbl := lw_at lw_m8 164 rfl
theorem in_J22 : ∀ w ∈ wsJ220, w ∈ lw_all := lw_in wsJ220 [1329, 1330, 1331, 1332, 1333, 1334] (by decide +kernel) (by decide +kernel)
def RJ23 : String := "java/lang/Object"
abbrev cJ23_init : ByteArray := object_method_1_code
def yJ23_init : MethodName := ⟨RJ23, "<init>", "()V"⟩
theorem q111 : (Jvm.Cond.instanceMethod ({ cls := "java/lang/Object", name := "<init>", desc := "()V" } : Jvm.MethodName)) ∈ lw_all := lw_g (lw_at lw_m1 43 rfl) rfl
theorem q112 : (Jvm.Cond.code ({ cls := "java/lang/Object", name := "<init>", desc := "()V" } : Jvm.MethodName) object_method_1_code (1 : Nat) (Option.none : Option Jvm.ClassFile.FieldType)) ∈ lw_all := lw_g (lw_at lw_m1 44 rfl) rfl
theorem q245 : (Jvm.Cond.native ({ cls := "java/lang/Object", name := "clone", desc := "()Ljava/lang/Object;" } : Jvm.MethodName)) ∈ lw_all := lw_g (lw_at lw_m1 177 rfl) rfl
theorem q246 : (Jvm.Cond.instanceMethod ({ cls := "java/lang/Object", name := "clone", desc := "()Ljava/lang/Object;" } : Jvm.MethodName)) ∈ lw_all := lw_g (lw_at lw_m1 178 rfl) rfl
theorem q805 : (Jvm.Cond.instanceMethod ({ cls := "java/lang/Object", name := "getClass", desc := "()Ljava/lang/Class;" } : Jvm.MethodName)) ∈ lw_all := lw_g (lw_at lw_m4 17 rfl) rfl
theorem q806 : (Jvm.Cond.sameMethod "java/lang/Object" "java/lang/Object" "getClass" "()Ljava/lang/Class;") ∈ lw_all := lw_g (lw_at lw_m4 18 rfl) rfl
theorem q825 : (Jvm.Cond.native ({ cls := "java/lang/Object", name := "getClass", desc := "()Ljava/lang/Class;" } : Jvm.MethodName)) ∈ lw_all := lw_g (lw_at lw_m4 37 rfl) rfl
theorem q1896 : (Jvm.Cond.declares ({ cls := "java/lang/Object", name := "getClass", desc := "()Ljava/lang/Class;" } : Jvm.MethodName)) ∈ lw_tbl := lw_at lw_m8 148 rfl
def RJ3 : String := "java/lang/Throwable"
def TJ3 : u_T := fun k => match k with
  | 0 => ("java/lang/Throwable", "cause", "Ljava/lang/Throwable;", false)
  | 1 => ("java/lang/Throwable", "stackTrace", "[Ljava/lang/StackTraceElement;", false)
  | 2 => ("java/lang/Throwable", "suppressedExceptions", "Ljava/util/List;", false)
  | 3 => ("java/lang/Throwable", "detailMessage", "Ljava/lang/String;", false)
  | _ => ("java/lang/Throwable", "backtrace", "Ljava/lang/Object;", false)
def tyJ3 : Nat → FieldType := fun k => match k with
  | 0 => .object "java/lang/Throwable"
  | 1 => .array (.object "java/lang/StackTraceElement")
  | 2 => .object "java/util/List"
  | 3 => .object "java/lang/String"
  | _ => .object "java/lang/Object"
abbrev wsJ30 : List Cond := u_ws RJ3 TJ3 5
theorem nmJ3 : ∀ a, a < 5 → ∀ b, b < 5 → a ≠ b → (TJ3 a).2.1 ≠ (TJ3 b).2.1 := by decide +kernel
theorem tyJ3_ok : ∀ k, k < 5 → parseFieldDescriptor (TJ3 k).2.2.1 = some (tyJ3 k) := by decide +kernel
abbrev cJ3_init : ByteArray := prog_33_method_1_code
def yJ3_init : MethodName := ⟨RJ3, "<init>", "()V"⟩
abbrev cJ3_init_2 : ByteArray := prog_33_method_2_code
def yJ3_init_2 : MethodName := ⟨RJ3, "<init>", "(Ljava/lang/String;)V"⟩
theorem q74 : (Jvm.Cond.initialized "java/lang/Throwable") ∈ lw_all := lw_g (lw_at lw_m1 6 rfl) rfl
theorem q142 : (Jvm.Cond.declares ({ cls := "java/lang/Throwable", name := "<init>", desc := "()V" } : Jvm.MethodName)) ∈ lw_tbl := lw_at lw_m1 74 rfl
theorem q143 : (Jvm.Cond.declares ({ cls := "java/lang/Throwable", name := "<init>", desc := "(Ljava/lang/String;)V" } : Jvm.MethodName)) ∈ lw_tbl := lw_at lw_m1 75 rfl
theorem q147 : (Jvm.Cond.lays "java/lang/Throwable" "java/lang/Throwable" "cause" "Ljava/lang/Throwable;") ∈ lw_all := lw_g (lw_at lw_m1 79 rfl) rfl
theorem q149 : (Jvm.Cond.lays "java/lang/Throwable" "java/lang/Throwable" "stackTrace" "[Ljava/lang/StackTraceElement;") ∈ lw_all := lw_g (lw_at lw_m1 81 rfl) rfl
theorem q151 : (Jvm.Cond.lays "java/lang/Throwable" "java/lang/Throwable" "suppressedExceptions" "Ljava/util/List;") ∈ lw_all := lw_g (lw_at lw_m1 83 rfl) rfl
theorem q153 : (Jvm.Cond.lays "java/lang/Throwable" "java/lang/Throwable" "detailMessage" "Ljava/lang/String;") ∈ lw_all := lw_g (lw_at lw_m1 85 rfl) rfl
theorem q155 : (Jvm.Cond.lays "java/lang/Throwable" "java/lang/Throwable" "backtrace" "Ljava/lang/Object;") ∈ lw_all := lw_g (lw_at lw_m1 87 rfl) rfl
theorem q156 : (Jvm.Cond.fieldLink "java/lang/Throwable" (198 : Nat) "java/lang/Throwable" "backtrace" "Ljava/lang/Object;") ∈ lw_all := lw_g (lw_at lw_m1 88 rfl) rfl
theorem q157 : (Jvm.Cond.superclass "java/lang/Throwable" "java/lang/Object") ∈ lw_all := lw_g (lw_at lw_m1 89 rfl) rfl
theorem q158 : (Jvm.Cond.instanceMethod ({ cls := "java/lang/Throwable", name := "<init>", desc := "()V" } : Jvm.MethodName)) ∈ lw_all := lw_g (lw_at lw_m1 90 rfl) rfl
theorem q159 : (Jvm.Cond.code ({ cls := "java/lang/Throwable", name := "<init>", desc := "()V" } : Jvm.MethodName) prog_33_method_1_code (1 : Nat) (Option.none : Option Jvm.ClassFile.FieldType)) ∈ lw_all := lw_g (lw_at lw_m1 91 rfl) rfl
theorem q160 : (Jvm.Cond.methodLink "java/lang/Throwable" (1 : Nat) ({ cls := "java/lang/Object", name := "<init>", desc := "()V" } : Jvm.MethodName)) ∈ lw_all := lw_g (lw_at lw_m1 92 rfl) rfl
theorem q161 : (Jvm.Cond.fieldLink "java/lang/Throwable" (13 : Nat) "java/lang/Throwable" "UNASSIGNED_STACK" "[Ljava/lang/StackTraceElement;") ∈ lw_all := lw_g (lw_at lw_m1 93 rfl) rfl
theorem q162 : (Jvm.Cond.laysStatic "java/lang/Throwable" "UNASSIGNED_STACK" "[Ljava/lang/StackTraceElement;") ∈ lw_tbl := lw_at lw_m1 94 rfl
theorem q163 : (Jvm.Cond.fieldLink "java/lang/Throwable" (20 : Nat) "java/lang/Throwable" "SUPPRESSED_SENTINEL" "Ljava/util/List;") ∈ lw_all := lw_g (lw_at lw_m1 95 rfl) rfl
theorem q164 : (Jvm.Cond.laysStatic "java/lang/Throwable" "SUPPRESSED_SENTINEL" "Ljava/util/List;") ∈ lw_tbl := lw_at lw_m1 96 rfl
theorem q165 : (Jvm.Cond.methodLink "java/lang/Throwable" (27 : Nat) ({ cls := "java/lang/Throwable", name := "fillInStackTrace", desc := "()Ljava/lang/Throwable;" } : Jvm.MethodName)) ∈ lw_all := lw_g (lw_at lw_m1 97 rfl) rfl
theorem q166 : (Jvm.Cond.instanceMethod ({ cls := "java/lang/Throwable", name := "fillInStackTrace", desc := "()Ljava/lang/Throwable;" } : Jvm.MethodName)) ∈ lw_all := lw_g (lw_at lw_m1 98 rfl) rfl
theorem q167 : (Jvm.Cond.sameMethod "java/lang/Throwable" "java/lang/Throwable" "fillInStackTrace" "()Ljava/lang/Throwable;") ∈ lw_all := lw_g (lw_at lw_m1 99 rfl) rfl
theorem q171 : (Jvm.Cond.codeSync ({ cls := "java/lang/Throwable", name := "fillInStackTrace", desc := "()Ljava/lang/Throwable;" } : Jvm.MethodName) prog_33_method_18_code (1 : Nat) (Option.some (Jvm.ClassFile.FieldType.object "java/lang/Throwable"))) ∈ lw_all := lw_g (lw_at lw_m1 103 rfl) rfl
theorem q172 : (Jvm.Cond.methodLink "java/lang/Throwable" (202 : Nat) ({ cls := "java/lang/Throwable", name := "fillInStackTrace", desc := "(I)Ljava/lang/Throwable;" } : Jvm.MethodName)) ∈ lw_all := lw_g (lw_at lw_m1 104 rfl) rfl
theorem q173 : (Jvm.Cond.privateMethod ({ cls := "java/lang/Throwable", name := "fillInStackTrace", desc := "(I)Ljava/lang/Throwable;" } : Jvm.MethodName)) ∈ lw_tbl := lw_at lw_m1 105 rfl
theorem q174 : (Jvm.Cond.instanceMethod ({ cls := "java/lang/Throwable", name := "fillInStackTrace", desc := "(I)Ljava/lang/Throwable;" } : Jvm.MethodName)) ∈ lw_all := lw_g (lw_at lw_m1 106 rfl) rfl
theorem q175 : (Jvm.Cond.instantiable "java/lang/Throwable" (6 : Nat)) ∈ lw_all := lw_g (lw_at lw_m1 107 rfl) rfl
theorem q176 : (Jvm.Cond.native ({ cls := "java/lang/Throwable", name := "fillInStackTrace", desc := "(I)Ljava/lang/Throwable;" } : Jvm.MethodName)) ∈ lw_all := lw_g (lw_at lw_m1 108 rfl) rfl
theorem q408 : (Jvm.Cond.instanceMethod ({ cls := "java/lang/Throwable", name := "<init>", desc := "(Ljava/lang/String;)V" } : Jvm.MethodName)) ∈ lw_all := lw_g (lw_at lw_m2 100 rfl) rfl
theorem q409 : (Jvm.Cond.code ({ cls := "java/lang/Throwable", name := "<init>", desc := "(Ljava/lang/String;)V" } : Jvm.MethodName) prog_33_method_2_code (2 : Nat) (Option.none : Option Jvm.ClassFile.FieldType)) ∈ lw_all := lw_g (lw_at lw_m2 101 rfl) rfl
theorem q410 : (Jvm.Cond.fieldLink "java/lang/Throwable" (198 : Nat) "java/lang/Throwable" "backtrace" "Ljava/lang/Object;") ∈ lw_all := lw_g (lw_at lw_m2 102 rfl) rfl
theorem q411 : (Jvm.Cond.fieldLink "java/lang/Throwable" (31 : Nat) "java/lang/Throwable" "detailMessage" "Ljava/lang/String;") ∈ lw_all := lw_g (lw_at lw_m2 103 rfl) rfl
theorem q412 : (Jvm.Cond.fieldLink "java/lang/Throwable" (7 : Nat) "java/lang/Throwable" "cause" "Ljava/lang/Throwable;") ∈ lw_all := lw_g (lw_at lw_m2 104 rfl) rfl
theorem q413 : (Jvm.Cond.fieldLink "java/lang/Throwable" (17 : Nat) "java/lang/Throwable" "stackTrace" "[Ljava/lang/StackTraceElement;") ∈ lw_all := lw_g (lw_at lw_m2 105 rfl) rfl
theorem q414 : (Jvm.Cond.fieldLink "java/lang/Throwable" (24 : Nat) "java/lang/Throwable" "suppressedExceptions" "Ljava/util/List;") ∈ lw_all := lw_g (lw_at lw_m2 106 rfl) rfl
theorem q415 : (Jvm.Cond.soleField "java/lang/Throwable" "backtrace") ∈ lw_all := lw_g (lw_at lw_m2 107 rfl) rfl
theorem q416 : (Jvm.Cond.soleField "java/lang/Throwable" "detailMessage") ∈ lw_all := lw_g (lw_at lw_m2 108 rfl) rfl
theorem q417 : (Jvm.Cond.soleField "java/lang/Throwable" "cause") ∈ lw_all := lw_g (lw_at lw_m2 109 rfl) rfl
theorem q418 : (Jvm.Cond.soleField "java/lang/Throwable" "stackTrace") ∈ lw_all := lw_g (lw_at lw_m2 110 rfl) rfl
theorem q420 : (Jvm.Cond.soleField "java/lang/Throwable" "depth") ∈ lw_all := lw_g (lw_at lw_m2 112 rfl) rfl
theorem q421 : (Jvm.Cond.soleField "java/lang/Throwable" "suppressedExceptions") ∈ lw_all := lw_g (lw_at lw_m2 113 rfl) rfl
theorem q1875 : (Jvm.Cond.sameMethod "java/lang/Throwable" "java/lang/Throwable" "fillInStackTrace" "(I)Ljava/lang/Throwable;") ∈ lw_all := lw_g (lw_at lw_m8 127 rfl) rfl
theorem q1914 : (Jvm.Cond.castable "java/lang/Throwable" "java/lang/Object") ∈ lw_tbl := lw_at lw_m8 166 rfl
theorem in_J3 : ∀ w ∈ wsJ30, w ∈ lw_all := lw_in wsJ30 [147, 149, 151, 153, 155] (by decide +kernel) (by decide +kernel)
def RJ4 : String := "java/lang/Exception"
abbrev cJ4_init : ByteArray := prog_19_method_2_code
def yJ4_init : MethodName := ⟨RJ4, "<init>", "(Ljava/lang/String;)V"⟩
abbrev cJ4_init_2 : ByteArray := prog_19_method_1_code
def yJ4_init_2 : MethodName := ⟨RJ4, "<init>", "()V"⟩
theorem q75 : (Jvm.Cond.initialized "java/lang/Exception") ∈ lw_all := lw_g (lw_at lw_m1 7 rfl) rfl
theorem q140 : (Jvm.Cond.declares ({ cls := "java/lang/Exception", name := "<init>", desc := "()V" } : Jvm.MethodName)) ∈ lw_tbl := lw_at lw_m1 72 rfl
theorem q141 : (Jvm.Cond.declares ({ cls := "java/lang/Exception", name := "<init>", desc := "(Ljava/lang/String;)V" } : Jvm.MethodName)) ∈ lw_tbl := lw_at lw_m1 73 rfl
theorem q405 : (Jvm.Cond.instanceMethod ({ cls := "java/lang/Exception", name := "<init>", desc := "(Ljava/lang/String;)V" } : Jvm.MethodName)) ∈ lw_all := lw_g (lw_at lw_m2 97 rfl) rfl
theorem q406 : (Jvm.Cond.code ({ cls := "java/lang/Exception", name := "<init>", desc := "(Ljava/lang/String;)V" } : Jvm.MethodName) prog_19_method_2_code (2 : Nat) (Option.none : Option Jvm.ClassFile.FieldType)) ∈ lw_all := lw_g (lw_at lw_m2 98 rfl) rfl
theorem q407 : (Jvm.Cond.methodLink "java/lang/Exception" (7 : Nat) ({ cls := "java/lang/Throwable", name := "<init>", desc := "(Ljava/lang/String;)V" } : Jvm.MethodName)) ∈ lw_all := lw_g (lw_at lw_m2 99 rfl) rfl
theorem q981 : (Jvm.Cond.instanceMethod ({ cls := "java/lang/Exception", name := "<init>", desc := "()V" } : Jvm.MethodName)) ∈ lw_all := lw_g (lw_at lw_m4 193 rfl) rfl
theorem q982 : (Jvm.Cond.code ({ cls := "java/lang/Exception", name := "<init>", desc := "()V" } : Jvm.MethodName) prog_19_method_1_code (1 : Nat) (Option.none : Option Jvm.ClassFile.FieldType)) ∈ lw_all := lw_g (lw_at lw_m4 194 rfl) rfl
theorem q983 : (Jvm.Cond.methodLink "java/lang/Exception" (1 : Nat) ({ cls := "java/lang/Throwable", name := "<init>", desc := "()V" } : Jvm.MethodName)) ∈ lw_all := lw_g (lw_at lw_m4 195 rfl) rfl
def RJ5 : String := "java/lang/RuntimeException"
abbrev cJ5_init : ByteArray := prog_27_method_2_code
def yJ5_init : MethodName := ⟨RJ5, "<init>", "(Ljava/lang/String;)V"⟩
abbrev cJ5_init_2 : ByteArray := prog_27_method_1_code
def yJ5_init_2 : MethodName := ⟨RJ5, "<init>", "()V"⟩
theorem q76 : (Jvm.Cond.initialized "java/lang/RuntimeException") ∈ lw_all := lw_g (lw_at lw_m1 8 rfl) rfl
theorem q138 : (Jvm.Cond.declares ({ cls := "java/lang/RuntimeException", name := "<init>", desc := "()V" } : Jvm.MethodName)) ∈ lw_tbl := lw_at lw_m1 70 rfl
theorem q139 : (Jvm.Cond.declares ({ cls := "java/lang/RuntimeException", name := "<init>", desc := "(Ljava/lang/String;)V" } : Jvm.MethodName)) ∈ lw_tbl := lw_at lw_m1 71 rfl
theorem q402 : (Jvm.Cond.instanceMethod ({ cls := "java/lang/RuntimeException", name := "<init>", desc := "(Ljava/lang/String;)V" } : Jvm.MethodName)) ∈ lw_all := lw_g (lw_at lw_m2 94 rfl) rfl
theorem q403 : (Jvm.Cond.code ({ cls := "java/lang/RuntimeException", name := "<init>", desc := "(Ljava/lang/String;)V" } : Jvm.MethodName) prog_27_method_2_code (2 : Nat) (Option.none : Option Jvm.ClassFile.FieldType)) ∈ lw_all := lw_g (lw_at lw_m2 95 rfl) rfl
theorem q404 : (Jvm.Cond.methodLink "java/lang/RuntimeException" (7 : Nat) ({ cls := "java/lang/Exception", name := "<init>", desc := "(Ljava/lang/String;)V" } : Jvm.MethodName)) ∈ lw_all := lw_g (lw_at lw_m2 96 rfl) rfl
theorem q978 : (Jvm.Cond.instanceMethod ({ cls := "java/lang/RuntimeException", name := "<init>", desc := "()V" } : Jvm.MethodName)) ∈ lw_all := lw_g (lw_at lw_m4 190 rfl) rfl
theorem q979 : (Jvm.Cond.code ({ cls := "java/lang/RuntimeException", name := "<init>", desc := "()V" } : Jvm.MethodName) prog_27_method_1_code (1 : Nat) (Option.none : Option Jvm.ClassFile.FieldType)) ∈ lw_all := lw_g (lw_at lw_m4 191 rfl) rfl
theorem q980 : (Jvm.Cond.methodLink "java/lang/RuntimeException" (1 : Nat) ({ cls := "java/lang/Exception", name := "<init>", desc := "()V" } : Jvm.MethodName)) ∈ lw_all := lw_g (lw_at lw_m4 192 rfl) rfl
def RJ6 : String := "java/lang/IllegalArgumentException"
def TJ6 : u_T := fun k => match k with
  | 0 => ("java/lang/Throwable", "cause", "Ljava/lang/Throwable;", false)
  | 1 => ("java/lang/Throwable", "stackTrace", "[Ljava/lang/StackTraceElement;", false)
  | 2 => ("java/lang/Throwable", "suppressedExceptions", "Ljava/util/List;", false)
  | 3 => ("java/lang/Throwable", "detailMessage", "Ljava/lang/String;", false)
  | 4 => ("java/lang/Throwable", "backtrace", "Ljava/lang/Object;", false)
  | _ => ("java/lang/Throwable", "depth", "I", false)
def tyJ6 : Nat → FieldType := fun k => match k with
  | 0 => .object "java/lang/Throwable"
  | 1 => .array (.object "java/lang/StackTraceElement")
  | 2 => .object "java/util/List"
  | 3 => .object "java/lang/String"
  | 4 => .object "java/lang/Object"
  | _ => .int
abbrev wsJ60 : List Cond := u_ws RJ6 TJ6 6
theorem nmJ6 : ∀ a, a < 6 → ∀ b, b < 6 → a ≠ b → (TJ6 a).2.1 ≠ (TJ6 b).2.1 := by decide +kernel
theorem tyJ6_ok : ∀ k, k < 6 → parseFieldDescriptor (TJ6 k).2.2.1 = some (tyJ6 k) := by decide +kernel
abbrev cJ6_init : ByteArray := prog_20_method_2_code
def yJ6_init : MethodName := ⟨RJ6, "<init>", "(Ljava/lang/String;)V"⟩
abbrev cJ6_init_2 : ByteArray := prog_20_method_1_code
def yJ6_init_2 : MethodName := ⟨RJ6, "<init>", "()V"⟩
theorem q77 : (Jvm.Cond.initialized "java/lang/IllegalArgumentException") ∈ lw_all := lw_g (lw_at lw_m1 9 rfl) rfl
theorem q136 : (Jvm.Cond.instantiable "java/lang/IllegalArgumentException" (6 : Nat)) ∈ lw_all := lw_g (lw_at lw_m1 68 rfl) rfl
theorem q137 : (Jvm.Cond.castable "java/lang/IllegalArgumentException" "java/lang/IllegalArgumentException") ∈ lw_tbl := lw_at lw_m1 69 rfl
theorem q144 : (Jvm.Cond.selects "java/lang/IllegalArgumentException" ({ cls := "java/lang/Throwable", name := "fillInStackTrace", desc := "(I)Ljava/lang/Throwable;" } : Jvm.MethodName) ({ cls := "java/lang/Throwable", name := "fillInStackTrace", desc := "(I)Ljava/lang/Throwable;" } : Jvm.MethodName)) ∈ lw_all := lw_g (lw_at lw_m1 76 rfl) rfl
theorem q145 : (Jvm.Cond.selects "java/lang/IllegalArgumentException" ({ cls := "java/lang/Throwable", name := "fillInStackTrace", desc := "()Ljava/lang/Throwable;" } : Jvm.MethodName) ({ cls := "java/lang/Throwable", name := "fillInStackTrace", desc := "()Ljava/lang/Throwable;" } : Jvm.MethodName)) ∈ lw_all := lw_g (lw_at lw_m1 77 rfl) rfl
theorem q146 : (Jvm.Cond.lays "java/lang/IllegalArgumentException" "java/lang/Throwable" "cause" "Ljava/lang/Throwable;") ∈ lw_all := lw_g (lw_at lw_m1 78 rfl) rfl
theorem q148 : (Jvm.Cond.lays "java/lang/IllegalArgumentException" "java/lang/Throwable" "stackTrace" "[Ljava/lang/StackTraceElement;") ∈ lw_all := lw_g (lw_at lw_m1 80 rfl) rfl
theorem q150 : (Jvm.Cond.lays "java/lang/IllegalArgumentException" "java/lang/Throwable" "suppressedExceptions" "Ljava/util/List;") ∈ lw_all := lw_g (lw_at lw_m1 82 rfl) rfl
theorem q152 : (Jvm.Cond.lays "java/lang/IllegalArgumentException" "java/lang/Throwable" "detailMessage" "Ljava/lang/String;") ∈ lw_all := lw_g (lw_at lw_m1 84 rfl) rfl
theorem q154 : (Jvm.Cond.lays "java/lang/IllegalArgumentException" "java/lang/Throwable" "backtrace" "Ljava/lang/Object;") ∈ lw_all := lw_g (lw_at lw_m1 86 rfl) rfl
theorem q399 : (Jvm.Cond.instanceMethod ({ cls := "java/lang/IllegalArgumentException", name := "<init>", desc := "(Ljava/lang/String;)V" } : Jvm.MethodName)) ∈ lw_all := lw_g (lw_at lw_m2 91 rfl) rfl
theorem q400 : (Jvm.Cond.code ({ cls := "java/lang/IllegalArgumentException", name := "<init>", desc := "(Ljava/lang/String;)V" } : Jvm.MethodName) prog_20_method_2_code (2 : Nat) (Option.none : Option Jvm.ClassFile.FieldType)) ∈ lw_all := lw_g (lw_at lw_m2 92 rfl) rfl
theorem q401 : (Jvm.Cond.methodLink "java/lang/IllegalArgumentException" (7 : Nat) ({ cls := "java/lang/RuntimeException", name := "<init>", desc := "(Ljava/lang/String;)V" } : Jvm.MethodName)) ∈ lw_all := lw_g (lw_at lw_m2 93 rfl) rfl
theorem q419 : (Jvm.Cond.lays "java/lang/IllegalArgumentException" "java/lang/Throwable" "depth" "I") ∈ lw_all := lw_g (lw_at lw_m2 111 rfl) rfl
theorem q422 : (Jvm.Cond.superclass "java/lang/IllegalArgumentException" "java/lang/RuntimeException") ∈ lw_all := lw_g (lw_at lw_m2 114 rfl) rfl
theorem q819 : (Jvm.Cond.selects "java/lang/IllegalArgumentException" ({ cls := "java/lang/Object", name := "getClass", desc := "()Ljava/lang/Class;" } : Jvm.MethodName) ({ cls := "java/lang/Object", name := "getClass", desc := "()Ljava/lang/Class;" } : Jvm.MethodName)) ∈ lw_all := lw_g (lw_at lw_m4 31 rfl) rfl
theorem q975 : (Jvm.Cond.instanceMethod ({ cls := "java/lang/IllegalArgumentException", name := "<init>", desc := "()V" } : Jvm.MethodName)) ∈ lw_all := lw_g (lw_at lw_m4 187 rfl) rfl
theorem q976 : (Jvm.Cond.code ({ cls := "java/lang/IllegalArgumentException", name := "<init>", desc := "()V" } : Jvm.MethodName) prog_20_method_1_code (1 : Nat) (Option.none : Option Jvm.ClassFile.FieldType)) ∈ lw_all := lw_g (lw_at lw_m4 188 rfl) rfl
theorem q977 : (Jvm.Cond.methodLink "java/lang/IllegalArgumentException" (1 : Nat) ({ cls := "java/lang/RuntimeException", name := "<init>", desc := "()V" } : Jvm.MethodName)) ∈ lw_all := lw_g (lw_at lw_m4 189 rfl) rfl
theorem q1900 : (Jvm.Cond.castable "java/lang/IllegalArgumentException" "java/lang/Object") ∈ lw_tbl := lw_at lw_m8 152 rfl
theorem in_J6 : ∀ w ∈ wsJ60, w ∈ lw_all := lw_in wsJ60 [146, 148, 150, 152, 154, 419] (by decide +kernel) (by decide +kernel)
def RJ7 : String := "java/lang/AbstractStringBuilder"
abbrev cJ7_init : ByteArray := prog_15_method_2_code
def yJ7_init : MethodName := ⟨RJ7, "<init>", "(I)V"⟩
abbrev cJ7_append : ByteArray := prog_15_method_22_code
def yJ7_append : MethodName := ⟨RJ7, "append", "(Ljava/lang/String;)Ljava/lang/AbstractStringBuilder;"⟩
abbrev cJ7_appendNull : ByteArray := prog_15_method_26_code
def yJ7_appendNull : MethodName := ⟨RJ7, "appendNull", "()Ljava/lang/AbstractStringBuilder;"⟩
abbrev cJ7_ensureCapacityInternal : ByteArray := prog_15_method_9_code
def yJ7_ensureCapacityInternal : MethodName := ⟨RJ7, "ensureCapacityInternal", "(I)V"⟩
abbrev cJ7_newCapacity : ByteArray := prog_15_method_10_code
def yJ7_newCapacity : MethodName := ⟨RJ7, "newCapacity", "(I)I"⟩
abbrev cJ7_isLatin1 : ByteArray := prog_15_method_68_code
def yJ7_isLatin1 : MethodName := ⟨RJ7, "isLatin1", "()Z"⟩
abbrev cJ7_putStringAt : ByteArray := prog_15_method_73_code
def yJ7_putStringAt : MethodName := ⟨RJ7, "putStringAt", "(ILjava/lang/String;)V"⟩
abbrev cJ7_inflateIfNeededFor : ByteArray := prog_15_method_71_code
def yJ7_inflateIfNeededFor : MethodName := ⟨RJ7, "inflateIfNeededFor", "(Ljava/lang/String;)V"⟩
abbrev cJ7_inflate : ByteArray := prog_15_method_11_code
def yJ7_inflate : MethodName := ⟨RJ7, "inflate", "()V"⟩
abbrev cJ7_append_2 : ByteArray := prog_15_method_32_code
def yJ7_append_2 : MethodName := ⟨RJ7, "append", "(I)Ljava/lang/AbstractStringBuilder;"⟩
abbrev cJ7_getValue : ByteArray := prog_15_method_64_code
def yJ7_getValue : MethodName := ⟨RJ7, "getValue", "()[B"⟩
abbrev cJ7_length : ByteArray := prog_15_method_6_code
def yJ7_length : MethodName := ⟨RJ7, "length", "()I"⟩
theorem q78 : (Jvm.Cond.initialized "java/lang/AbstractStringBuilder") ∈ lw_all := lw_g (lw_at lw_m1 10 rfl) rfl
theorem q183 : (Jvm.Cond.instanceMethod ({ cls := "java/lang/AbstractStringBuilder", name := "<init>", desc := "(I)V" } : Jvm.MethodName)) ∈ lw_all := lw_g (lw_at lw_m1 115 rfl) rfl
theorem q184 : (Jvm.Cond.code ({ cls := "java/lang/AbstractStringBuilder", name := "<init>", desc := "(I)V" } : Jvm.MethodName) prog_15_method_2_code (2 : Nat) (Option.none : Option Jvm.ClassFile.FieldType)) ∈ lw_all := lw_g (lw_at lw_m1 116 rfl) rfl
theorem q185 : (Jvm.Cond.methodLink "java/lang/AbstractStringBuilder" (3 : Nat) ({ cls := "java/lang/Object", name := "<init>", desc := "()V" } : Jvm.MethodName)) ∈ lw_all := lw_g (lw_at lw_m1 117 rfl) rfl
theorem q186 : (Jvm.Cond.fieldLink "java/lang/AbstractStringBuilder" (18 : Nat) "java/lang/String" "COMPACT_STRINGS" "Z") ∈ lw_all := lw_g (lw_at lw_m1 118 rfl) rfl
theorem q188 : (Jvm.Cond.methodLink "java/lang/AbstractStringBuilder" (26 : Nat) ({ cls := "java/lang/StringUTF16", name := "newBytesFor", desc := "(I)[B" } : Jvm.MethodName)) ∈ lw_all := lw_g (lw_at lw_m1 120 rfl) rfl
theorem q195 : (Jvm.Cond.fieldLink "java/lang/AbstractStringBuilder" (15 : Nat) "java/lang/AbstractStringBuilder" "value" "[B") ∈ lw_all := lw_g (lw_at lw_m1 127 rfl) rfl
theorem q196 : (Jvm.Cond.fieldLink "java/lang/AbstractStringBuilder" (22 : Nat) "java/lang/AbstractStringBuilder" "coder" "B") ∈ lw_all := lw_g (lw_at lw_m1 128 rfl) rfl
theorem q198 : (Jvm.Cond.fieldLink "java/lang/AbstractStringBuilder" (79 : Nat) "java/lang/AbstractStringBuilder" "count" "I") ∈ lw_all := lw_g (lw_at lw_m1 130 rfl) rfl
theorem q200 : (Jvm.Cond.soleField "java/lang/AbstractStringBuilder" "value") ∈ lw_all := lw_g (lw_at lw_m1 132 rfl) rfl
theorem q202 : (Jvm.Cond.soleField "java/lang/AbstractStringBuilder" "coder") ∈ lw_all := lw_g (lw_at lw_m1 134 rfl) rfl
theorem q204 : (Jvm.Cond.soleField "java/lang/AbstractStringBuilder" "maybeLatin1") ∈ lw_all := lw_g (lw_at lw_m1 136 rfl) rfl
theorem q206 : (Jvm.Cond.soleField "java/lang/AbstractStringBuilder" "count") ∈ lw_all := lw_g (lw_at lw_m1 138 rfl) rfl
theorem q215 : (Jvm.Cond.instanceMethod ({ cls := "java/lang/AbstractStringBuilder", name := "append", desc := "(Ljava/lang/String;)Ljava/lang/AbstractStringBuilder;" } : Jvm.MethodName)) ∈ lw_all := lw_g (lw_at lw_m1 147 rfl) rfl
theorem q216 : (Jvm.Cond.code ({ cls := "java/lang/AbstractStringBuilder", name := "append", desc := "(Ljava/lang/String;)Ljava/lang/AbstractStringBuilder;" } : Jvm.MethodName) prog_15_method_22_code (3 : Nat) (Option.some (Jvm.ClassFile.FieldType.object "java/lang/AbstractStringBuilder"))) ∈ lw_all := lw_g (lw_at lw_m1 148 rfl) rfl
theorem q217 : (Jvm.Cond.methodLink "java/lang/AbstractStringBuilder" (204 : Nat) ({ cls := "java/lang/AbstractStringBuilder", name := "appendNull", desc := "()Ljava/lang/AbstractStringBuilder;" } : Jvm.MethodName)) ∈ lw_all := lw_g (lw_at lw_m1 149 rfl) rfl
theorem q218 : (Jvm.Cond.privateMethod ({ cls := "java/lang/AbstractStringBuilder", name := "appendNull", desc := "()Ljava/lang/AbstractStringBuilder;" } : Jvm.MethodName)) ∈ lw_tbl := lw_at lw_m1 150 rfl
theorem q219 : (Jvm.Cond.instanceMethod ({ cls := "java/lang/AbstractStringBuilder", name := "appendNull", desc := "()Ljava/lang/AbstractStringBuilder;" } : Jvm.MethodName)) ∈ lw_all := lw_g (lw_at lw_m1 151 rfl) rfl
theorem q220 : (Jvm.Cond.code ({ cls := "java/lang/AbstractStringBuilder", name := "appendNull", desc := "()Ljava/lang/AbstractStringBuilder;" } : Jvm.MethodName) prog_15_method_26_code (3 : Nat) (Option.some (Jvm.ClassFile.FieldType.object "java/lang/AbstractStringBuilder"))) ∈ lw_all := lw_g (lw_at lw_m1 152 rfl) rfl
theorem q221 : (Jvm.Cond.methodLink "java/lang/AbstractStringBuilder" (100 : Nat) ({ cls := "java/lang/AbstractStringBuilder", name := "ensureCapacityInternal", desc := "(I)V" } : Jvm.MethodName)) ∈ lw_all := lw_g (lw_at lw_m1 153 rfl) rfl
theorem q222 : (Jvm.Cond.privateMethod ({ cls := "java/lang/AbstractStringBuilder", name := "ensureCapacityInternal", desc := "(I)V" } : Jvm.MethodName)) ∈ lw_tbl := lw_at lw_m1 154 rfl
theorem q223 : (Jvm.Cond.instanceMethod ({ cls := "java/lang/AbstractStringBuilder", name := "ensureCapacityInternal", desc := "(I)V" } : Jvm.MethodName)) ∈ lw_all := lw_g (lw_at lw_m1 155 rfl) rfl
theorem q224 : (Jvm.Cond.code ({ cls := "java/lang/AbstractStringBuilder", name := "ensureCapacityInternal", desc := "(I)V" } : Jvm.MethodName) prog_15_method_9_code (3 : Nat) (Option.none : Option Jvm.ClassFile.FieldType)) ∈ lw_all := lw_g (lw_at lw_m1 156 rfl) rfl
theorem q225 : (Jvm.Cond.methodLink "java/lang/AbstractStringBuilder" (104 : Nat) ({ cls := "java/lang/AbstractStringBuilder", name := "newCapacity", desc := "(I)I" } : Jvm.MethodName)) ∈ lw_all := lw_g (lw_at lw_m1 157 rfl) rfl
theorem q226 : (Jvm.Cond.privateMethod ({ cls := "java/lang/AbstractStringBuilder", name := "newCapacity", desc := "(I)I" } : Jvm.MethodName)) ∈ lw_tbl := lw_at lw_m1 158 rfl
theorem q227 : (Jvm.Cond.instanceMethod ({ cls := "java/lang/AbstractStringBuilder", name := "newCapacity", desc := "(I)I" } : Jvm.MethodName)) ∈ lw_all := lw_g (lw_at lw_m1 159 rfl) rfl
theorem q228 : (Jvm.Cond.code ({ cls := "java/lang/AbstractStringBuilder", name := "newCapacity", desc := "(I)I" } : Jvm.MethodName) prog_15_method_10_code (6 : Nat) (Option.some Jvm.ClassFile.FieldType.int)) ∈ lw_all := lw_g (lw_at lw_m1 160 rfl) rfl
theorem q229 : (Jvm.Cond.methodLink "java/lang/AbstractStringBuilder" (114 : Nat) ({ cls := "jdk/internal/util/ArraysSupport", name := "newLength", desc := "(III)I" } : Jvm.MethodName)) ∈ lw_all := lw_g (lw_at lw_m1 161 rfl) rfl
theorem q239 : (Jvm.Cond.constant "java/lang/AbstractStringBuilder" (39 : Nat) (2147483647 : Int32)) ∈ lw_all := lw_g (lw_at lw_m1 171 rfl) rfl
theorem q240 : (Jvm.Cond.methodLink "java/lang/AbstractStringBuilder" (108 : Nat) ({ cls := "java/util/Arrays", name := "copyOf", desc := "([BI)[B" } : Jvm.MethodName)) ∈ lw_all := lw_g (lw_at lw_m1 172 rfl) rfl
theorem q256 : (Jvm.Cond.methodLink "java/lang/AbstractStringBuilder" (83 : Nat) ({ cls := "java/lang/AbstractStringBuilder", name := "isLatin1", desc := "()Z" } : Jvm.MethodName)) ∈ lw_all := lw_g (lw_at lw_m1 188 rfl) rfl
theorem q257 : (Jvm.Cond.instanceMethod ({ cls := "java/lang/AbstractStringBuilder", name := "isLatin1", desc := "()Z" } : Jvm.MethodName)) ∈ lw_all := lw_g (lw_at lw_m1 189 rfl) rfl
theorem q258 : (Jvm.Cond.sameMethod "java/lang/AbstractStringBuilder" "java/lang/AbstractStringBuilder" "isLatin1" "()Z") ∈ lw_all := lw_g (lw_at lw_m1 190 rfl) rfl
theorem q260 : (Jvm.Cond.code ({ cls := "java/lang/AbstractStringBuilder", name := "isLatin1", desc := "()Z" } : Jvm.MethodName) prog_15_method_68_code (1 : Nat) (Option.some Jvm.ClassFile.FieldType.boolean)) ∈ lw_all := lw_g (lw_at lw_m1 192 rfl) rfl
theorem q261 : (Jvm.Cond.methodLink "java/lang/AbstractStringBuilder" (226 : Nat) ({ cls := "java/lang/StringUTF16", name := "putCharsAt", desc := "([BICCCC)I" } : Jvm.MethodName)) ∈ lw_all := lw_g (lw_at lw_m1 193 rfl) rfl
theorem q287 : (Jvm.Cond.methodLink "java/lang/AbstractStringBuilder" (32 : Nat) ({ cls := "java/lang/String", name := "length", desc := "()I" } : Jvm.MethodName)) ∈ lw_all := lw_g (lw_at lw_m1 219 rfl) rfl
theorem q296 : (Jvm.Cond.methodLink "java/lang/AbstractStringBuilder" (208 : Nat) ({ cls := "java/lang/AbstractStringBuilder", name := "putStringAt", desc := "(ILjava/lang/String;)V" } : Jvm.MethodName)) ∈ lw_all := lw_g (lw_at lw_m1 228 rfl) rfl
theorem q297 : (Jvm.Cond.privateMethod ({ cls := "java/lang/AbstractStringBuilder", name := "putStringAt", desc := "(ILjava/lang/String;)V" } : Jvm.MethodName)) ∈ lw_tbl := lw_at lw_m1 229 rfl
theorem q298 : (Jvm.Cond.instanceMethod ({ cls := "java/lang/AbstractStringBuilder", name := "putStringAt", desc := "(ILjava/lang/String;)V" } : Jvm.MethodName)) ∈ lw_all := lw_g (lw_at lw_m1 230 rfl) rfl
theorem q299 : (Jvm.Cond.code ({ cls := "java/lang/AbstractStringBuilder", name := "putStringAt", desc := "(ILjava/lang/String;)V" } : Jvm.MethodName) prog_15_method_73_code (3 : Nat) (Option.none : Option Jvm.ClassFile.FieldType)) ∈ lw_all := lw_g (lw_at lw_m1 231 rfl) rfl
theorem q300 : (Jvm.Cond.methodLink "java/lang/AbstractStringBuilder" (397 : Nat) ({ cls := "java/lang/AbstractStringBuilder", name := "inflateIfNeededFor", desc := "(Ljava/lang/String;)V" } : Jvm.MethodName)) ∈ lw_all := lw_g (lw_at lw_m1 232 rfl) rfl
theorem q301 : (Jvm.Cond.privateMethod ({ cls := "java/lang/AbstractStringBuilder", name := "inflateIfNeededFor", desc := "(Ljava/lang/String;)V" } : Jvm.MethodName)) ∈ lw_tbl := lw_at lw_m1 233 rfl
theorem q302 : (Jvm.Cond.instanceMethod ({ cls := "java/lang/AbstractStringBuilder", name := "inflateIfNeededFor", desc := "(Ljava/lang/String;)V" } : Jvm.MethodName)) ∈ lw_all := lw_g (lw_at lw_m1 234 rfl) rfl
theorem q303 : (Jvm.Cond.code ({ cls := "java/lang/AbstractStringBuilder", name := "inflateIfNeededFor", desc := "(Ljava/lang/String;)V" } : Jvm.MethodName) prog_15_method_71_code (2 : Nat) (Option.none : Option Jvm.ClassFile.FieldType)) ∈ lw_all := lw_g (lw_at lw_m1 235 rfl) rfl
theorem q304 : (Jvm.Cond.methodLink "java/lang/AbstractStringBuilder" (40 : Nat) ({ cls := "java/lang/String", name := "coder", desc := "()B" } : Jvm.MethodName)) ∈ lw_all := lw_g (lw_at lw_m1 236 rfl) rfl
theorem q305 : (Jvm.Cond.methodLink "java/lang/AbstractStringBuilder" (195 : Nat) ({ cls := "java/lang/AbstractStringBuilder", name := "inflate", desc := "()V" } : Jvm.MethodName)) ∈ lw_all := lw_g (lw_at lw_m1 237 rfl) rfl
theorem q306 : (Jvm.Cond.privateMethod ({ cls := "java/lang/AbstractStringBuilder", name := "inflate", desc := "()V" } : Jvm.MethodName)) ∈ lw_tbl := lw_at lw_m1 238 rfl
theorem q307 : (Jvm.Cond.instanceMethod ({ cls := "java/lang/AbstractStringBuilder", name := "inflate", desc := "()V" } : Jvm.MethodName)) ∈ lw_all := lw_g (lw_at lw_m1 239 rfl) rfl
theorem q308 : (Jvm.Cond.code ({ cls := "java/lang/AbstractStringBuilder", name := "inflate", desc := "()V" } : Jvm.MethodName) prog_15_method_11_code (2 : Nat) (Option.none : Option Jvm.ClassFile.FieldType)) ∈ lw_all := lw_g (lw_at lw_m2 0 rfl) rfl
theorem q309 : (Jvm.Cond.methodLink "java/lang/AbstractStringBuilder" (125 : Nat) ({ cls := "java/lang/StringLatin1", name := "inflate", desc := "([BI[BII)V" } : Jvm.MethodName)) ∈ lw_all := lw_g (lw_at lw_m2 1 rfl) rfl
theorem q324 : (Jvm.Cond.methodLink "java/lang/AbstractStringBuilder" (399 : Nat) ({ cls := "java/lang/String", name := "getBytes", desc := "([BIB)V" } : Jvm.MethodName)) ∈ lw_all := lw_g (lw_at lw_m2 16 rfl) rfl
theorem q335 : (Jvm.Cond.instanceMethod ({ cls := "java/lang/AbstractStringBuilder", name := "append", desc := "(I)Ljava/lang/AbstractStringBuilder;" } : Jvm.MethodName)) ∈ lw_all := lw_g (lw_at lw_m2 27 rfl) rfl
theorem q336 : (Jvm.Cond.code ({ cls := "java/lang/AbstractStringBuilder", name := "append", desc := "(I)Ljava/lang/AbstractStringBuilder;" } : Jvm.MethodName) prog_15_method_32_code (4 : Nat) (Option.some (Jvm.ClassFile.FieldType.object "java/lang/AbstractStringBuilder"))) ∈ lw_all := lw_g (lw_at lw_m2 28 rfl) rfl
theorem q337 : (Jvm.Cond.methodLink "java/lang/AbstractStringBuilder" (245 : Nat) ({ cls := "java/lang/Integer", name := "stringSize", desc := "(I)I" } : Jvm.MethodName)) ∈ lw_all := lw_g (lw_at lw_m2 29 rfl) rfl
theorem q340 : (Jvm.Cond.methodLink "java/lang/AbstractStringBuilder" (248 : Nat) ({ cls := "java/lang/Integer", name := "getChars", desc := "(II[B)I" } : Jvm.MethodName)) ∈ lw_all := lw_g (lw_at lw_m2 32 rfl) rfl
theorem q347 : (Jvm.Cond.methodLink "java/lang/AbstractStringBuilder" (251 : Nat) ({ cls := "java/lang/StringUTF16", name := "getChars", desc := "(III[B)I" } : Jvm.MethodName)) ∈ lw_all := lw_g (lw_at lw_m2 39 rfl) rfl
theorem q369 : (Jvm.Cond.instanceMethod ({ cls := "java/lang/AbstractStringBuilder", name := "getValue", desc := "()[B" } : Jvm.MethodName)) ∈ lw_all := lw_g (lw_at lw_m2 61 rfl) rfl
theorem q370 : (Jvm.Cond.sameMethod "java/lang/AbstractStringBuilder" "java/lang/AbstractStringBuilder" "getValue" "()[B") ∈ lw_all := lw_g (lw_at lw_m2 62 rfl) rfl
theorem q372 : (Jvm.Cond.code ({ cls := "java/lang/AbstractStringBuilder", name := "getValue", desc := "()[B" } : Jvm.MethodName) prog_15_method_64_code (1 : Nat) (Option.some (Jvm.ClassFile.FieldType.array Jvm.ClassFile.FieldType.byte))) ∈ lw_all := lw_g (lw_at lw_m2 64 rfl) rfl
theorem q374 : (Jvm.Cond.instanceMethod ({ cls := "java/lang/AbstractStringBuilder", name := "length", desc := "()I" } : Jvm.MethodName)) ∈ lw_all := lw_g (lw_at lw_m2 66 rfl) rfl
theorem q375 : (Jvm.Cond.sameMethod "java/lang/AbstractStringBuilder" "java/lang/AbstractStringBuilder" "length" "()I") ∈ lw_all := lw_g (lw_at lw_m2 67 rfl) rfl
theorem q380 : (Jvm.Cond.code ({ cls := "java/lang/AbstractStringBuilder", name := "length", desc := "()I" } : Jvm.MethodName) prog_15_method_6_code (1 : Nat) (Option.some Jvm.ClassFile.FieldType.int)) ∈ lw_all := lw_g (lw_at lw_m2 72 rfl) rfl
theorem q1876 : (Jvm.Cond.sameMethod "java/lang/AbstractStringBuilder" "java/lang/AbstractStringBuilder" "append" "(Ljava/lang/String;)Ljava/lang/AbstractStringBuilder;") ∈ lw_all := lw_g (lw_at lw_m8 128 rfl) rfl
theorem q1877 : (Jvm.Cond.sameMethod "java/lang/AbstractStringBuilder" "java/lang/AbstractStringBuilder" "appendNull" "()Ljava/lang/AbstractStringBuilder;") ∈ lw_all := lw_g (lw_at lw_m8 129 rfl) rfl
theorem q1878 : (Jvm.Cond.sameMethod "java/lang/AbstractStringBuilder" "java/lang/AbstractStringBuilder" "ensureCapacityInternal" "(I)V") ∈ lw_all := lw_g (lw_at lw_m8 130 rfl) rfl
theorem q1879 : (Jvm.Cond.sameMethod "java/lang/AbstractStringBuilder" "java/lang/AbstractStringBuilder" "newCapacity" "(I)I") ∈ lw_all := lw_g (lw_at lw_m8 131 rfl) rfl
theorem q1880 : (Jvm.Cond.sameMethod "java/lang/AbstractStringBuilder" "java/lang/AbstractStringBuilder" "putStringAt" "(ILjava/lang/String;)V") ∈ lw_all := lw_g (lw_at lw_m8 132 rfl) rfl
theorem q1881 : (Jvm.Cond.sameMethod "java/lang/AbstractStringBuilder" "java/lang/AbstractStringBuilder" "inflateIfNeededFor" "(Ljava/lang/String;)V") ∈ lw_all := lw_g (lw_at lw_m8 133 rfl) rfl
theorem q1882 : (Jvm.Cond.sameMethod "java/lang/AbstractStringBuilder" "java/lang/AbstractStringBuilder" "inflate" "()V") ∈ lw_all := lw_g (lw_at lw_m8 134 rfl) rfl
theorem q1883 : (Jvm.Cond.sameMethod "java/lang/AbstractStringBuilder" "java/lang/AbstractStringBuilder" "append" "(I)Ljava/lang/AbstractStringBuilder;") ∈ lw_all := lw_g (lw_at lw_m8 135 rfl) rfl
def RJ8 : String := "java/lang/StringBuilder"
def TJ8 : u_T := fun k => match k with
  | 0 => ("java/lang/AbstractStringBuilder", "value", "[B", false)
  | 1 => ("java/lang/AbstractStringBuilder", "coder", "B", false)
  | 2 => ("java/lang/AbstractStringBuilder", "maybeLatin1", "Z", false)
  | _ => ("java/lang/AbstractStringBuilder", "count", "I", false)
def tyJ8 : Nat → FieldType := fun k => match k with
  | 0 => .array .byte
  | 1 => .byte
  | 2 => .boolean
  | _ => .int
abbrev wsJ80 : List Cond := u_ws RJ8 TJ8 4
theorem nmJ8 : ∀ a, a < 4 → ∀ b, b < 4 → a ≠ b → (TJ8 a).2.1 ≠ (TJ8 b).2.1 := by decide +kernel
theorem tyJ8_ok : ∀ k, k < 4 → parseFieldDescriptor (TJ8 k).2.2.1 = some (tyJ8 k) := by decide +kernel
abbrev cJ8_init : ByteArray := prog_29_method_1_code
def yJ8_init : MethodName := ⟨RJ8, "<init>", "()V"⟩
abbrev cJ8_append : ByteArray := prog_29_method_7_code
def yJ8_append : MethodName := ⟨RJ8, "append", "(Ljava/lang/String;)Ljava/lang/StringBuilder;"⟩
abbrev cJ8_append_2 : ByteArray := prog_29_method_15_code
def yJ8_append_2 : MethodName := ⟨RJ8, "append", "(I)Ljava/lang/StringBuilder;"⟩
abbrev cJ8_toString : ByteArray := prog_29_method_42_code
def yJ8_toString : MethodName := ⟨RJ8, "toString", "()Ljava/lang/String;"⟩
abbrev cJ8_length : ByteArray := prog_29_method_93_code
def yJ8_length : MethodName := ⟨RJ8, "length", "()I"⟩
theorem q79 : (Jvm.Cond.initialized "java/lang/StringBuilder") ∈ lw_all := lw_g (lw_at lw_m1 11 rfl) rfl
theorem q178 : (Jvm.Cond.instantiable "java/lang/StringBuilder" (4 : Nat)) ∈ lw_all := lw_g (lw_at lw_m1 110 rfl) rfl
theorem q180 : (Jvm.Cond.instanceMethod ({ cls := "java/lang/StringBuilder", name := "<init>", desc := "()V" } : Jvm.MethodName)) ∈ lw_all := lw_g (lw_at lw_m1 112 rfl) rfl
theorem q181 : (Jvm.Cond.code ({ cls := "java/lang/StringBuilder", name := "<init>", desc := "()V" } : Jvm.MethodName) prog_29_method_1_code (1 : Nat) (Option.none : Option Jvm.ClassFile.FieldType)) ∈ lw_all := lw_g (lw_at lw_m1 113 rfl) rfl
theorem q182 : (Jvm.Cond.methodLink "java/lang/StringBuilder" (1 : Nat) ({ cls := "java/lang/AbstractStringBuilder", name := "<init>", desc := "(I)V" } : Jvm.MethodName)) ∈ lw_all := lw_g (lw_at lw_m1 114 rfl) rfl
theorem q199 : (Jvm.Cond.lays "java/lang/StringBuilder" "java/lang/AbstractStringBuilder" "value" "[B") ∈ lw_all := lw_g (lw_at lw_m1 131 rfl) rfl
theorem q201 : (Jvm.Cond.lays "java/lang/StringBuilder" "java/lang/AbstractStringBuilder" "coder" "B") ∈ lw_all := lw_g (lw_at lw_m1 133 rfl) rfl
theorem q203 : (Jvm.Cond.lays "java/lang/StringBuilder" "java/lang/AbstractStringBuilder" "maybeLatin1" "Z") ∈ lw_all := lw_g (lw_at lw_m1 135 rfl) rfl
theorem q205 : (Jvm.Cond.lays "java/lang/StringBuilder" "java/lang/AbstractStringBuilder" "count" "I") ∈ lw_all := lw_g (lw_at lw_m1 137 rfl) rfl
theorem q207 : (Jvm.Cond.superclass "java/lang/StringBuilder" "java/lang/AbstractStringBuilder") ∈ lw_all := lw_g (lw_at lw_m1 139 rfl) rfl
theorem q211 : (Jvm.Cond.instanceMethod ({ cls := "java/lang/StringBuilder", name := "append", desc := "(Ljava/lang/String;)Ljava/lang/StringBuilder;" } : Jvm.MethodName)) ∈ lw_all := lw_g (lw_at lw_m1 143 rfl) rfl
theorem q212 : (Jvm.Cond.selects "java/lang/StringBuilder" ({ cls := "java/lang/StringBuilder", name := "append", desc := "(Ljava/lang/String;)Ljava/lang/StringBuilder;" } : Jvm.MethodName) ({ cls := "java/lang/StringBuilder", name := "append", desc := "(Ljava/lang/String;)Ljava/lang/StringBuilder;" } : Jvm.MethodName)) ∈ lw_all := lw_g (lw_at lw_m1 144 rfl) rfl
theorem q213 : (Jvm.Cond.code ({ cls := "java/lang/StringBuilder", name := "append", desc := "(Ljava/lang/String;)Ljava/lang/StringBuilder;" } : Jvm.MethodName) prog_29_method_7_code (2 : Nat) (Option.some (Jvm.ClassFile.FieldType.object "java/lang/StringBuilder"))) ∈ lw_all := lw_g (lw_at lw_m1 145 rfl) rfl
theorem q214 : (Jvm.Cond.methodLink "java/lang/StringBuilder" (29 : Nat) ({ cls := "java/lang/AbstractStringBuilder", name := "append", desc := "(Ljava/lang/String;)Ljava/lang/AbstractStringBuilder;" } : Jvm.MethodName)) ∈ lw_all := lw_g (lw_at lw_m1 146 rfl) rfl
theorem q259 : (Jvm.Cond.selects "java/lang/StringBuilder" ({ cls := "java/lang/AbstractStringBuilder", name := "isLatin1", desc := "()Z" } : Jvm.MethodName) ({ cls := "java/lang/AbstractStringBuilder", name := "isLatin1", desc := "()Z" } : Jvm.MethodName)) ∈ lw_all := lw_g (lw_at lw_m1 191 rfl) rfl
theorem q331 : (Jvm.Cond.instanceMethod ({ cls := "java/lang/StringBuilder", name := "append", desc := "(I)Ljava/lang/StringBuilder;" } : Jvm.MethodName)) ∈ lw_all := lw_g (lw_at lw_m2 23 rfl) rfl
theorem q332 : (Jvm.Cond.selects "java/lang/StringBuilder" ({ cls := "java/lang/StringBuilder", name := "append", desc := "(I)Ljava/lang/StringBuilder;" } : Jvm.MethodName) ({ cls := "java/lang/StringBuilder", name := "append", desc := "(I)Ljava/lang/StringBuilder;" } : Jvm.MethodName)) ∈ lw_all := lw_g (lw_at lw_m2 24 rfl) rfl
theorem q333 : (Jvm.Cond.code ({ cls := "java/lang/StringBuilder", name := "append", desc := "(I)Ljava/lang/StringBuilder;" } : Jvm.MethodName) prog_29_method_15_code (2 : Nat) (Option.some (Jvm.ClassFile.FieldType.object "java/lang/StringBuilder"))) ∈ lw_all := lw_g (lw_at lw_m2 25 rfl) rfl
theorem q334 : (Jvm.Cond.methodLink "java/lang/StringBuilder" (53 : Nat) ({ cls := "java/lang/AbstractStringBuilder", name := "append", desc := "(I)Ljava/lang/AbstractStringBuilder;" } : Jvm.MethodName)) ∈ lw_all := lw_g (lw_at lw_m2 26 rfl) rfl
theorem q356 : (Jvm.Cond.instanceMethod ({ cls := "java/lang/StringBuilder", name := "toString", desc := "()Ljava/lang/String;" } : Jvm.MethodName)) ∈ lw_all := lw_g (lw_at lw_m2 48 rfl) rfl
theorem q357 : (Jvm.Cond.selects "java/lang/StringBuilder" ({ cls := "java/lang/StringBuilder", name := "toString", desc := "()Ljava/lang/String;" } : Jvm.MethodName) ({ cls := "java/lang/StringBuilder", name := "toString", desc := "()Ljava/lang/String;" } : Jvm.MethodName)) ∈ lw_all := lw_g (lw_at lw_m2 49 rfl) rfl
theorem q358 : (Jvm.Cond.code ({ cls := "java/lang/StringBuilder", name := "toString", desc := "()Ljava/lang/String;" } : Jvm.MethodName) prog_29_method_42_code (1 : Nat) (Option.some (Jvm.ClassFile.FieldType.object "java/lang/String"))) ∈ lw_all := lw_g (lw_at lw_m2 50 rfl) rfl
theorem q359 : (Jvm.Cond.classLink "java/lang/StringBuilder" (18 : Nat) "java/lang/String") ∈ lw_all := lw_g (lw_at lw_m2 51 rfl) rfl
theorem q361 : (Jvm.Cond.methodLink "java/lang/StringBuilder" (137 : Nat) ({ cls := "java/lang/String", name := "<init>", desc := "(Ljava/lang/StringBuilder;)V" } : Jvm.MethodName)) ∈ lw_all := lw_g (lw_at lw_m2 53 rfl) rfl
theorem q371 : (Jvm.Cond.selects "java/lang/StringBuilder" ({ cls := "java/lang/AbstractStringBuilder", name := "getValue", desc := "()[B" } : Jvm.MethodName) ({ cls := "java/lang/AbstractStringBuilder", name := "getValue", desc := "()[B" } : Jvm.MethodName)) ∈ lw_all := lw_g (lw_at lw_m2 63 rfl) rfl
theorem q376 : (Jvm.Cond.selects "java/lang/StringBuilder" ({ cls := "java/lang/AbstractStringBuilder", name := "length", desc := "()I" } : Jvm.MethodName) ({ cls := "java/lang/StringBuilder", name := "length", desc := "()I" } : Jvm.MethodName)) ∈ lw_all := lw_g (lw_at lw_m2 68 rfl) rfl
theorem q377 : (Jvm.Cond.instanceMethod ({ cls := "java/lang/StringBuilder", name := "length", desc := "()I" } : Jvm.MethodName)) ∈ lw_all := lw_g (lw_at lw_m2 69 rfl) rfl
theorem q378 : (Jvm.Cond.code ({ cls := "java/lang/StringBuilder", name := "length", desc := "()I" } : Jvm.MethodName) prog_29_method_93_code (1 : Nat) (Option.some Jvm.ClassFile.FieldType.int)) ∈ lw_all := lw_g (lw_at lw_m2 70 rfl) rfl
theorem q379 : (Jvm.Cond.methodLink "java/lang/StringBuilder" (343 : Nat) ({ cls := "java/lang/AbstractStringBuilder", name := "length", desc := "()I" } : Jvm.MethodName)) ∈ lw_all := lw_g (lw_at lw_m2 71 rfl) rfl
theorem q823 : (Jvm.Cond.selects "java/lang/StringBuilder" ({ cls := "java/lang/Object", name := "getClass", desc := "()Ljava/lang/Class;" } : Jvm.MethodName) ({ cls := "java/lang/Object", name := "getClass", desc := "()Ljava/lang/Class;" } : Jvm.MethodName)) ∈ lw_all := lw_g (lw_at lw_m4 35 rfl) rfl
theorem q1901 : (Jvm.Cond.castable "java/lang/StringBuilder" "java/lang/Object") ∈ lw_tbl := lw_at lw_m8 153 rfl
theorem in_J8 : ∀ w ∈ wsJ80, w ∈ lw_all := lw_in wsJ80 [199, 201, 203, 205] (by decide +kernel) (by decide +kernel)
def RJ9 : String := "java/lang/String"
def TJ9 : u_T := fun k => match k with
  | 0 => ("java/lang/String", "value", "[B", true)
  | 1 => ("java/lang/String", "coder", "B", true)
  | 2 => ("java/lang/String", "hash", "I", false)
  | _ => ("java/lang/String", "hashIsZero", "Z", false)
def tyJ9 : Nat → FieldType := fun k => match k with
  | 0 => .array .byte
  | 1 => .byte
  | 2 => .int
  | _ => .boolean
abbrev wsJ90 : List Cond := u_ws RJ9 TJ9 4
theorem nmJ9 : ∀ a, a < 4 → ∀ b, b < 4 → a ≠ b → (TJ9 a).2.1 ≠ (TJ9 b).2.1 := by decide +kernel
theorem tyJ9_ok : ∀ k, k < 4 → parseFieldDescriptor (TJ9 k).2.2.1 = some (tyJ9 k) := by decide +kernel
abbrev cJ9_checkBoundsBeginEnd : ByteArray := prog_28_method_158_code
def yJ9_checkBoundsBeginEnd : MethodName := ⟨RJ9, "checkBoundsBeginEnd", "(III)V"⟩
abbrev cJ9_length : ByteArray := prog_28_method_54_code
def yJ9_length : MethodName := ⟨RJ9, "length", "()I"⟩
abbrev cJ9_coder : ByteArray := prog_28_method_152_code
def yJ9_coder : MethodName := ⟨RJ9, "coder", "()B"⟩
abbrev cJ9_checkBoundsOffCount : ByteArray := prog_28_method_157_code
def yJ9_checkBoundsOffCount : MethodName := ⟨RJ9, "checkBoundsOffCount", "(III)I"⟩
abbrev cJ9_getBytes : ByteArray := prog_28_method_147_code
def yJ9_getBytes : MethodName := ⟨RJ9, "getBytes", "([BIB)V"⟩
abbrev cJ9_init : ByteArray := prog_28_method_53_code
def yJ9_init : MethodName := ⟨RJ9, "<init>", "(Ljava/lang/StringBuilder;)V"⟩
abbrev cJ9_init_2 : ByteArray := prog_28_method_150_code
def yJ9_init_2 : MethodName := ⟨RJ9, "<init>", "(Ljava/lang/AbstractStringBuilder;Ljava/lang/Void;)V"⟩
theorem q80 : (Jvm.Cond.initialized "java/lang/String") ∈ lw_all := lw_g (lw_at lw_m1 12 rfl) rfl
theorem q187 : (Jvm.Cond.laysStatic "java/lang/String" "COMPACT_STRINGS" "Z") ∈ lw_tbl := lw_at lw_m1 119 rfl
theorem q197 : (Jvm.Cond.fieldLink "java/lang/String" (1048 : Nat) "java/lang/AbstractStringBuilder" "maybeLatin1" "Z") ∈ lw_all := lw_g (lw_at lw_m1 129 rfl) rfl
theorem q271 : (Jvm.Cond.static ({ cls := "java/lang/String", name := "checkBoundsBeginEnd", desc := "(III)V" } : Jvm.MethodName)) ∈ lw_all := lw_g (lw_at lw_m1 203 rfl) rfl
theorem q272 : (Jvm.Cond.code ({ cls := "java/lang/String", name := "checkBoundsBeginEnd", desc := "(III)V" } : Jvm.MethodName) prog_28_method_158_code (3 : Nat) (Option.none : Option Jvm.ClassFile.FieldType)) ∈ lw_all := lw_g (lw_at lw_m1 204 rfl) rfl
theorem q273 : (Jvm.Cond.fieldLink "java/lang/String" (1053 : Nat) "jdk/internal/util/Preconditions" "SIOOBE_FORMATTER" "Ljava/util/function/BiFunction;") ∈ lw_all := lw_g (lw_at lw_m1 205 rfl) rfl
theorem q275 : (Jvm.Cond.methodLink "java/lang/String" (1062 : Nat) ({ cls := "jdk/internal/util/Preconditions", name := "checkFromToIndex", desc := "(IIILjava/util/function/BiFunction;)I" } : Jvm.MethodName)) ∈ lw_all := lw_g (lw_at lw_m1 207 rfl) rfl
theorem q288 : (Jvm.Cond.instanceMethod ({ cls := "java/lang/String", name := "length", desc := "()I" } : Jvm.MethodName)) ∈ lw_all := lw_g (lw_at lw_m1 220 rfl) rfl
theorem q289 : (Jvm.Cond.selects "java/lang/String" ({ cls := "java/lang/String", name := "length", desc := "()I" } : Jvm.MethodName) ({ cls := "java/lang/String", name := "length", desc := "()I" } : Jvm.MethodName)) ∈ lw_all := lw_g (lw_at lw_m1 221 rfl) rfl
theorem q290 : (Jvm.Cond.code ({ cls := "java/lang/String", name := "length", desc := "()I" } : Jvm.MethodName) prog_28_method_54_code (1 : Nat) (Option.some Jvm.ClassFile.FieldType.int)) ∈ lw_all := lw_g (lw_at lw_m1 222 rfl) rfl
theorem q291 : (Jvm.Cond.methodLink "java/lang/String" (335 : Nat) ({ cls := "java/lang/String", name := "coder", desc := "()B" } : Jvm.MethodName)) ∈ lw_all := lw_g (lw_at lw_m1 223 rfl) rfl
theorem q292 : (Jvm.Cond.instanceMethod ({ cls := "java/lang/String", name := "coder", desc := "()B" } : Jvm.MethodName)) ∈ lw_all := lw_g (lw_at lw_m1 224 rfl) rfl
theorem q293 : (Jvm.Cond.selects "java/lang/String" ({ cls := "java/lang/String", name := "coder", desc := "()B" } : Jvm.MethodName) ({ cls := "java/lang/String", name := "coder", desc := "()B" } : Jvm.MethodName)) ∈ lw_all := lw_g (lw_at lw_m1 225 rfl) rfl
theorem q294 : (Jvm.Cond.code ({ cls := "java/lang/String", name := "coder", desc := "()B" } : Jvm.MethodName) prog_28_method_152_code (1 : Nat) (Option.some Jvm.ClassFile.FieldType.byte)) ∈ lw_all := lw_g (lw_at lw_m1 226 rfl) rfl
theorem q295 : (Jvm.Cond.fieldLink "java/lang/String" (38 : Nat) "java/lang/String" "COMPACT_STRINGS" "Z") ∈ lw_all := lw_g (lw_at lw_m1 227 rfl) rfl
theorem q319 : (Jvm.Cond.static ({ cls := "java/lang/String", name := "checkBoundsOffCount", desc := "(III)I" } : Jvm.MethodName)) ∈ lw_all := lw_g (lw_at lw_m2 11 rfl) rfl
theorem q320 : (Jvm.Cond.code ({ cls := "java/lang/String", name := "checkBoundsOffCount", desc := "(III)I" } : Jvm.MethodName) prog_28_method_157_code (3 : Nat) (Option.some Jvm.ClassFile.FieldType.int)) ∈ lw_all := lw_g (lw_at lw_m2 12 rfl) rfl
theorem q321 : (Jvm.Cond.methodLink "java/lang/String" (1065 : Nat) ({ cls := "jdk/internal/util/Preconditions", name := "checkFromIndexSize", desc := "(IIILjava/util/function/BiFunction;)I" } : Jvm.MethodName)) ∈ lw_all := lw_g (lw_at lw_m2 13 rfl) rfl
theorem q325 : (Jvm.Cond.instanceMethod ({ cls := "java/lang/String", name := "getBytes", desc := "([BIB)V" } : Jvm.MethodName)) ∈ lw_all := lw_g (lw_at lw_m2 17 rfl) rfl
theorem q326 : (Jvm.Cond.selects "java/lang/String" ({ cls := "java/lang/String", name := "getBytes", desc := "([BIB)V" } : Jvm.MethodName) ({ cls := "java/lang/String", name := "getBytes", desc := "([BIB)V" } : Jvm.MethodName)) ∈ lw_all := lw_g (lw_at lw_m2 18 rfl) rfl
theorem q327 : (Jvm.Cond.code ({ cls := "java/lang/String", name := "getBytes", desc := "([BIB)V" } : Jvm.MethodName) prog_28_method_147_code (4 : Nat) (Option.none : Option Jvm.ClassFile.FieldType)) ∈ lw_all := lw_g (lw_at lw_m2 19 rfl) rfl
theorem q328 : (Jvm.Cond.methodLink "java/lang/String" (212 : Nat) ({ cls := "java/lang/System", name := "arraycopy", desc := "(Ljava/lang/Object;ILjava/lang/Object;II)V" } : Jvm.MethodName)) ∈ lw_all := lw_g (lw_at lw_m2 20 rfl) rfl
theorem q329 : (Jvm.Cond.methodLink "java/lang/String" (106 : Nat) ({ cls := "java/lang/StringLatin1", name := "inflate", desc := "([BI[BII)V" } : Jvm.MethodName)) ∈ lw_all := lw_g (lw_at lw_m2 21 rfl) rfl
theorem q360 : (Jvm.Cond.instantiable "java/lang/String" (4 : Nat)) ∈ lw_all := lw_g (lw_at lw_m2 52 rfl) rfl
theorem q362 : (Jvm.Cond.instanceMethod ({ cls := "java/lang/String", name := "<init>", desc := "(Ljava/lang/StringBuilder;)V" } : Jvm.MethodName)) ∈ lw_all := lw_g (lw_at lw_m2 54 rfl) rfl
theorem q363 : (Jvm.Cond.code ({ cls := "java/lang/String", name := "<init>", desc := "(Ljava/lang/StringBuilder;)V" } : Jvm.MethodName) prog_28_method_53_code (2 : Nat) (Option.none : Option Jvm.ClassFile.FieldType)) ∈ lw_all := lw_g (lw_at lw_m2 55 rfl) rfl
theorem q364 : (Jvm.Cond.methodLink "java/lang/String" (489 : Nat) ({ cls := "java/lang/String", name := "<init>", desc := "(Ljava/lang/AbstractStringBuilder;Ljava/lang/Void;)V" } : Jvm.MethodName)) ∈ lw_all := lw_g (lw_at lw_m2 56 rfl) rfl
theorem q365 : (Jvm.Cond.instanceMethod ({ cls := "java/lang/String", name := "<init>", desc := "(Ljava/lang/AbstractStringBuilder;Ljava/lang/Void;)V" } : Jvm.MethodName)) ∈ lw_all := lw_g (lw_at lw_m2 57 rfl) rfl
theorem q366 : (Jvm.Cond.code ({ cls := "java/lang/String", name := "<init>", desc := "(Ljava/lang/AbstractStringBuilder;Ljava/lang/Void;)V" } : Jvm.MethodName) prog_28_method_150_code (5 : Nat) (Option.none : Option Jvm.ClassFile.FieldType)) ∈ lw_all := lw_g (lw_at lw_m2 58 rfl) rfl
theorem q367 : (Jvm.Cond.methodLink "java/lang/String" (1 : Nat) ({ cls := "java/lang/Object", name := "<init>", desc := "()V" } : Jvm.MethodName)) ∈ lw_all := lw_g (lw_at lw_m2 59 rfl) rfl
theorem q368 : (Jvm.Cond.methodLink "java/lang/String" (552 : Nat) ({ cls := "java/lang/AbstractStringBuilder", name := "getValue", desc := "()[B" } : Jvm.MethodName)) ∈ lw_all := lw_g (lw_at lw_m2 60 rfl) rfl
theorem q373 : (Jvm.Cond.methodLink "java/lang/String" (549 : Nat) ({ cls := "java/lang/AbstractStringBuilder", name := "length", desc := "()I" } : Jvm.MethodName)) ∈ lw_all := lw_g (lw_at lw_m2 65 rfl) rfl
theorem q381 : (Jvm.Cond.methodLink "java/lang/String" (1047 : Nat) ({ cls := "java/lang/AbstractStringBuilder", name := "isLatin1", desc := "()Z" } : Jvm.MethodName)) ∈ lw_all := lw_g (lw_at lw_m2 73 rfl) rfl
theorem q382 : (Jvm.Cond.methodLink "java/lang/String" (54 : Nat) ({ cls := "java/util/Arrays", name := "copyOfRange", desc := "([BII)[B" } : Jvm.MethodName)) ∈ lw_all := lw_g (lw_at lw_m2 74 rfl) rfl
theorem q423 : (Jvm.Cond.methodLink "java/lang/String" (1051 : Nat) ({ cls := "java/lang/StringUTF16", name := "compress", desc := "([BII)[B" } : Jvm.MethodName)) ∈ lw_all := lw_g (lw_at lw_m2 115 rfl) rfl
theorem q433 : (Jvm.Cond.methodLink "java/lang/String" (47 : Nat) ({ cls := "java/lang/StringUTF16", name := "coderFromArrayLen", desc := "([BI)B" } : Jvm.MethodName)) ∈ lw_all := lw_g (lw_at lw_m2 125 rfl) rfl
theorem q436 : (Jvm.Cond.fieldLink "java/lang/String" (9 : Nat) "java/lang/String" "value" "[B") ∈ lw_all := lw_g (lw_at lw_m2 128 rfl) rfl
theorem q437 : (Jvm.Cond.fieldLink "java/lang/String" (15 : Nat) "java/lang/String" "coder" "B") ∈ lw_all := lw_g (lw_at lw_m2 129 rfl) rfl
theorem q438 : (Jvm.Cond.laysFinal "java/lang/String" "java/lang/String" "value" "[B") ∈ lw_all := lw_g (lw_at lw_m2 130 rfl) rfl
theorem q439 : (Jvm.Cond.soleField "java/lang/String" "value") ∈ lw_all := lw_g (lw_at lw_m2 131 rfl) rfl
theorem q440 : (Jvm.Cond.laysFinal "java/lang/String" "java/lang/String" "coder" "B") ∈ lw_all := lw_g (lw_at lw_m2 132 rfl) rfl
theorem q441 : (Jvm.Cond.soleField "java/lang/String" "coder") ∈ lw_all := lw_g (lw_at lw_m2 133 rfl) rfl
theorem q442 : (Jvm.Cond.lays "java/lang/String" "java/lang/String" "hash" "I") ∈ lw_all := lw_g (lw_at lw_m2 134 rfl) rfl
theorem q443 : (Jvm.Cond.soleField "java/lang/String" "hash") ∈ lw_all := lw_g (lw_at lw_m2 135 rfl) rfl
theorem q444 : (Jvm.Cond.lays "java/lang/String" "java/lang/String" "hashIsZero" "Z") ∈ lw_all := lw_g (lw_at lw_m2 136 rfl) rfl
theorem q445 : (Jvm.Cond.soleField "java/lang/String" "hashIsZero") ∈ lw_all := lw_g (lw_at lw_m2 137 rfl) rfl
theorem q446 : (Jvm.Cond.superclass "java/lang/String" "java/lang/Object") ∈ lw_all := lw_g (lw_at lw_m2 138 rfl) rfl
theorem q822 : (Jvm.Cond.selects "java/lang/String" ({ cls := "java/lang/Object", name := "getClass", desc := "()Ljava/lang/Class;" } : Jvm.MethodName) ({ cls := "java/lang/Object", name := "getClass", desc := "()Ljava/lang/Class;" } : Jvm.MethodName)) ∈ lw_all := lw_g (lw_at lw_m4 34 rfl) rfl
theorem q1902 : (Jvm.Cond.castable "java/lang/String" "java/lang/Object") ∈ lw_tbl := lw_at lw_m8 154 rfl
theorem in_J9 : ∀ w ∈ wsJ90, w ∈ lw_all := lw_in wsJ90 [438, 440, 442, 444] (by decide +kernel) (by decide +kernel)
def RX0 : String := "ForkJoinDeskLaw"
abbrev cX0_compile : ByteArray := method_3_code
def yX0_compile : MethodName := ⟨RX0, "compile", "(LForkJoinDesk;[J)I"⟩
abbrev cX0_run : ByteArray := method_4_code
def yX0_run : MethodName := ⟨RX0, "run", "(LForkJoinDesk;I[J)I"⟩
abbrev cX0_race : ByteArray := method_5_code
def yX0_race : MethodName := ⟨RX0, "race", "(LForkJoinDesk;II[J)I"⟩
abbrev cX0_beside : ByteArray := method_6_code
def yX0_beside : MethodName := ⟨RX0, "beside", "(LForkJoinDesk;II[J)I"⟩
abbrev cX0_printed : ByteArray := method_7_code
def yX0_printed : MethodName := ⟨RX0, "printed", "(LForkJoinDesk;IZ[J)I"⟩
abbrev cX0_move : ByteArray := method_8_code
def yX0_move : MethodName := ⟨RX0, "move", "(LForkJoinDesk;II[J)I"⟩
theorem q68 : (Jvm.Cond.initialized "ForkJoinDeskLaw") ∈ lw_all := lw_g (lw_at lw_m1 0 rfl) rfl
theorem q105 : (Jvm.Cond.classLink "ForkJoinDeskLaw" (8 : Nat) "ForkJoinDesk") ∈ lw_all := lw_g (lw_at lw_m1 37 rfl) rfl
theorem q107 : (Jvm.Cond.methodLink "ForkJoinDeskLaw" (38 : Nat) ({ cls := "ForkJoinDesk", name := "<init>", desc := "()V" } : Jvm.MethodName)) ∈ lw_all := lw_g (lw_at lw_m1 39 rfl) rfl
theorem q689 : (Jvm.Cond.methodLink "ForkJoinDeskLaw" (44 : Nat) ({ cls := "ForkJoinDesk", name := "type", desc := "(JI)Z" } : Jvm.MethodName)) ∈ lw_all := lw_g (lw_at lw_m3 141 rfl) rfl
theorem q696 : (Jvm.Cond.methodLink "ForkJoinDeskLaw" (58 : Nat) ({ cls := "ForkJoinDesk", name := "fault", desc := "()I" } : Jvm.MethodName)) ∈ lw_all := lw_g (lw_at lw_m3 148 rfl) rfl
theorem q700 : (Jvm.Cond.methodLink "ForkJoinDeskLaw" (62 : Nat) ({ cls := "ForkJoinDesk", name := "input", desc := "(II)Z" } : Jvm.MethodName)) ∈ lw_all := lw_g (lw_at lw_m3 152 rfl) rfl
theorem q704 : (Jvm.Cond.methodLink "ForkJoinDeskLaw" (66 : Nat) ({ cls := "ForkJoinDesk", name := "begin", desc := "()Z" } : Jvm.MethodName)) ∈ lw_all := lw_g (lw_at lw_m3 156 rfl) rfl
theorem q854 : (Jvm.Cond.methodLink "ForkJoinDeskLaw" (75 : Nat) ({ cls := "ForkJoinDesk", name := "races", desc := "()I" } : Jvm.MethodName)) ∈ lw_all := lw_g (lw_at lw_m4 66 rfl) rfl
theorem q859 : (Jvm.Cond.methodLink "ForkJoinDeskLaw" (86 : Nat) ({ cls := "ForkJoinDesk", name := "serial", desc := "(I)I" } : Jvm.MethodName)) ∈ lw_all := lw_g (lw_at lw_m4 71 rfl) rfl
theorem q863 : (Jvm.Cond.methodLink "ForkJoinDeskLaw" (90 : Nat) ({ cls := "ForkJoinDesk", name := "cell", desc := "(IZ)I" } : Jvm.MethodName)) ∈ lw_all := lw_g (lw_at lw_m4 75 rfl) rfl
theorem q867 : (Jvm.Cond.methodLink "ForkJoinDeskLaw" (98 : Nat) ({ cls := "ForkJoinDesk", name := "loosen", desc := "()Z" } : Jvm.MethodName)) ∈ lw_all := lw_g (lw_at lw_m4 79 rfl) rfl
theorem q891 : (Jvm.Cond.methodLink "ForkJoinDeskLaw" (105 : Nat) ({ cls := "ForkJoinDesk", name := "loose", desc := "(I)I" } : Jvm.MethodName)) ∈ lw_all := lw_g (lw_at lw_m4 103 rfl) rfl
theorem q901 : (Jvm.Cond.methodLink "ForkJoinDeskLaw" (49 : Nat) ({ cls := "ForkJoinDeskLaw", name := "compile", desc := "(LForkJoinDesk;[J)I" } : Jvm.MethodName)) ∈ lw_all := lw_g (lw_at lw_m4 113 rfl) rfl
theorem q902 : (Jvm.Cond.static ({ cls := "ForkJoinDeskLaw", name := "compile", desc := "(LForkJoinDesk;[J)I" } : Jvm.MethodName)) ∈ lw_all := lw_g (lw_at lw_m4 114 rfl) rfl
theorem q903 : (Jvm.Cond.codeWith ({ cls := "ForkJoinDeskLaw", name := "compile", desc := "(LForkJoinDesk;[J)I" } : Jvm.MethodName) method_3_code (3 : Nat) (Option.some Jvm.ClassFile.FieldType.int) [((0 : Nat), (8 : Nat), (11 : Nat), (13 : Nat))]) ∈ lw_all := lw_g (lw_at lw_m4 115 rfl) rfl
theorem q904 : (Jvm.Cond.classLink "ForkJoinDeskLaw" (13 : Nat) "java/lang/IllegalArgumentException") ∈ lw_all := lw_g (lw_at lw_m4 116 rfl) rfl
theorem q905 : (Jvm.Cond.methodLink "ForkJoinDeskLaw" (7 : Nat) ({ cls := "ForkJoinDesk", name := "compile", desc := "()I" } : Jvm.MethodName)) ∈ lw_all := lw_g (lw_at lw_m4 117 rfl) rfl
theorem q1129 : (Jvm.Cond.methodLink "ForkJoinDeskLaw" (71 : Nat) ({ cls := "ForkJoinDeskLaw", name := "run", desc := "(LForkJoinDesk;I[J)I" } : Jvm.MethodName)) ∈ lw_all := lw_g (lw_at lw_m5 101 rfl) rfl
theorem q1130 : (Jvm.Cond.static ({ cls := "ForkJoinDeskLaw", name := "run", desc := "(LForkJoinDesk;I[J)I" } : Jvm.MethodName)) ∈ lw_all := lw_g (lw_at lw_m5 102 rfl) rfl
theorem q1131 : (Jvm.Cond.codeWith ({ cls := "ForkJoinDeskLaw", name := "run", desc := "(LForkJoinDesk;I[J)I" } : Jvm.MethodName) method_4_code (4 : Nat) (Option.some Jvm.ClassFile.FieldType.int) [((0 : Nat), (9 : Nat), (12 : Nat), (19 : Nat)), ((0 : Nat), (9 : Nat), (15 : Nat), (13 : Nat))]) ∈ lw_all := lw_g (lw_at lw_m5 103 rfl) rfl
theorem q1132 : (Jvm.Cond.classLink "ForkJoinDeskLaw" (19 : Nat) "java/lang/IllegalStateException") ∈ lw_all := lw_g (lw_at lw_m5 104 rfl) rfl
theorem q1133 : (Jvm.Cond.methodLink "ForkJoinDeskLaw" (15 : Nat) ({ cls := "ForkJoinDesk", name := "run", desc := "(I)I" } : Jvm.MethodName)) ∈ lw_all := lw_g (lw_at lw_m5 105 rfl) rfl
theorem q1318 : (Jvm.Cond.methodLink "ForkJoinDeskLaw" (79 : Nat) ({ cls := "ForkJoinDeskLaw", name := "race", desc := "(LForkJoinDesk;II[J)I" } : Jvm.MethodName)) ∈ lw_all := lw_g (lw_at lw_m6 50 rfl) rfl
theorem q1319 : (Jvm.Cond.static ({ cls := "ForkJoinDeskLaw", name := "race", desc := "(LForkJoinDesk;II[J)I" } : Jvm.MethodName)) ∈ lw_all := lw_g (lw_at lw_m6 51 rfl) rfl
theorem q1320 : (Jvm.Cond.codeWith ({ cls := "ForkJoinDeskLaw", name := "race", desc := "(LForkJoinDesk;II[J)I" } : Jvm.MethodName) method_5_code (5 : Nat) (Option.some Jvm.ClassFile.FieldType.int) [((0 : Nat), (10 : Nat), (13 : Nat), (25 : Nat))]) ∈ lw_all := lw_g (lw_at lw_m6 52 rfl) rfl
theorem q1321 : (Jvm.Cond.classLink "ForkJoinDeskLaw" (25 : Nat) "java/lang/IndexOutOfBoundsException") ∈ lw_all := lw_g (lw_at lw_m6 53 rfl) rfl
theorem q1340 : (Jvm.Cond.methodLink "ForkJoinDeskLaw" (21 : Nat) ({ cls := "ForkJoinDesk", name := "race", desc := "(II)I" } : Jvm.MethodName)) ∈ lw_all := lw_g (lw_at lw_m6 72 rfl) rfl
theorem q1360 : (Jvm.Cond.methodLink "ForkJoinDeskLaw" (83 : Nat) ({ cls := "ForkJoinDeskLaw", name := "beside", desc := "(LForkJoinDesk;II[J)I" } : Jvm.MethodName)) ∈ lw_all := lw_g (lw_at lw_m6 92 rfl) rfl
theorem q1361 : (Jvm.Cond.static ({ cls := "ForkJoinDeskLaw", name := "beside", desc := "(LForkJoinDesk;II[J)I" } : Jvm.MethodName)) ∈ lw_all := lw_g (lw_at lw_m6 93 rfl) rfl
theorem q1362 : (Jvm.Cond.codeWith ({ cls := "ForkJoinDeskLaw", name := "beside", desc := "(LForkJoinDesk;II[J)I" } : Jvm.MethodName) method_6_code (5 : Nat) (Option.some Jvm.ClassFile.FieldType.int) [((0 : Nat), (17 : Nat), (20 : Nat), (25 : Nat))]) ∈ lw_all := lw_g (lw_at lw_m6 94 rfl) rfl
theorem q1363 : (Jvm.Cond.methodLink "ForkJoinDeskLaw" (27 : Nat) ({ cls := "ForkJoinDesk", name := "beside", desc := "(II)Z" } : Jvm.MethodName)) ∈ lw_all := lw_g (lw_at lw_m6 95 rfl) rfl
theorem q1375 : (Jvm.Cond.methodLink "ForkJoinDeskLaw" (94 : Nat) ({ cls := "ForkJoinDeskLaw", name := "printed", desc := "(LForkJoinDesk;IZ[J)I" } : Jvm.MethodName)) ∈ lw_all := lw_g (lw_at lw_m6 107 rfl) rfl
theorem q1376 : (Jvm.Cond.static ({ cls := "ForkJoinDeskLaw", name := "printed", desc := "(LForkJoinDesk;IZ[J)I" } : Jvm.MethodName)) ∈ lw_all := lw_g (lw_at lw_m6 108 rfl) rfl
theorem q1377 : (Jvm.Cond.codeWith ({ cls := "ForkJoinDeskLaw", name := "printed", desc := "(LForkJoinDesk;IZ[J)I" } : Jvm.MethodName) method_7_code (5 : Nat) (Option.some Jvm.ClassFile.FieldType.int) [((0 : Nat), (10 : Nat), (13 : Nat), (25 : Nat))]) ∈ lw_all := lw_g (lw_at lw_m6 109 rfl) rfl
theorem q1378 : (Jvm.Cond.methodLink "ForkJoinDeskLaw" (31 : Nat) ({ cls := "ForkJoinDesk", name := "printed", desc := "(IZ)I" } : Jvm.MethodName)) ∈ lw_all := lw_g (lw_at lw_m6 110 rfl) rfl
theorem q1386 : (Jvm.Cond.methodLink "ForkJoinDeskLaw" (102 : Nat) ({ cls := "ForkJoinDeskLaw", name := "move", desc := "(LForkJoinDesk;II[J)I" } : Jvm.MethodName)) ∈ lw_all := lw_g (lw_at lw_m6 118 rfl) rfl
theorem q1387 : (Jvm.Cond.static ({ cls := "ForkJoinDeskLaw", name := "move", desc := "(LForkJoinDesk;II[J)I" } : Jvm.MethodName)) ∈ lw_all := lw_g (lw_at lw_m6 119 rfl) rfl
theorem q1388 : (Jvm.Cond.codeWith ({ cls := "ForkJoinDeskLaw", name := "move", desc := "(LForkJoinDesk;II[J)I" } : Jvm.MethodName) method_8_code (5 : Nat) (Option.some Jvm.ClassFile.FieldType.int) [((0 : Nat), (10 : Nat), (13 : Nat), (19 : Nat)), ((0 : Nat), (10 : Nat), (17 : Nat), (25 : Nat)), ((0 : Nat), (10 : Nat), (21 : Nat), (13 : Nat))]) ∈ lw_all := lw_g (lw_at lw_m6 120 rfl) rfl
theorem q1389 : (Jvm.Cond.methodLink "ForkJoinDeskLaw" (35 : Nat) ({ cls := "ForkJoinDesk", name := "move", desc := "(II)I" } : Jvm.MethodName)) ∈ lw_all := lw_g (lw_at lw_m6 121 rfl) rfl
theorem q1401 : (Jvm.Cond.classLink "ForkJoinDeskLaw" (39 : Nat) "ForkJoinDeskModel") ∈ lw_all := lw_g (lw_at lw_m6 133 rfl) rfl
theorem q1403 : (Jvm.Cond.methodLink "ForkJoinDeskLaw" (41 : Nat) ({ cls := "ForkJoinDeskModel", name := "<init>", desc := "()V" } : Jvm.MethodName)) ∈ lw_all := lw_g (lw_at lw_m6 135 rfl) rfl
theorem q1641 : (Jvm.Cond.methodLink "ForkJoinDeskLaw" (55 : Nat) ({ cls := "ForkJoinDeskModel", name := "thrown", desc := "()I" } : Jvm.MethodName)) ∈ lw_all := lw_g (lw_at lw_m7 133 rfl) rfl
theorem q1645 : (Jvm.Cond.methodLink "ForkJoinDeskLaw" (48 : Nat) ({ cls := "ForkJoinDeskModel", name := "type", desc := "(JI)Z" } : Jvm.MethodName)) ∈ lw_all := lw_g (lw_at lw_m7 137 rfl) rfl
theorem q1650 : (Jvm.Cond.methodLink "ForkJoinDeskLaw" (54 : Nat) ({ cls := "ForkJoinDeskModel", name := "compile", desc := "()I" } : Jvm.MethodName)) ∈ lw_all := lw_g (lw_at lw_m7 142 rfl) rfl
theorem q1749 : (Jvm.Cond.methodLink "ForkJoinDeskLaw" (61 : Nat) ({ cls := "ForkJoinDeskModel", name := "fault", desc := "()I" } : Jvm.MethodName)) ∈ lw_all := lw_g (lw_at lw_m8 1 rfl) rfl
theorem q1753 : (Jvm.Cond.methodLink "ForkJoinDeskLaw" (65 : Nat) ({ cls := "ForkJoinDeskModel", name := "input", desc := "(II)Z" } : Jvm.MethodName)) ∈ lw_all := lw_g (lw_at lw_m8 5 rfl) rfl
theorem q1757 : (Jvm.Cond.methodLink "ForkJoinDeskLaw" (70 : Nat) ({ cls := "ForkJoinDeskModel", name := "begin", desc := "()Z" } : Jvm.MethodName)) ∈ lw_all := lw_g (lw_at lw_m8 9 rfl) rfl
theorem q1776 : (Jvm.Cond.methodLink "ForkJoinDeskLaw" (74 : Nat) ({ cls := "ForkJoinDeskModel", name := "run", desc := "(I)I" } : Jvm.MethodName)) ∈ lw_all := lw_g (lw_at lw_m8 28 rfl) rfl
theorem q1818 : (Jvm.Cond.methodLink "ForkJoinDeskLaw" (78 : Nat) ({ cls := "ForkJoinDeskModel", name := "races", desc := "()I" } : Jvm.MethodName)) ∈ lw_all := lw_g (lw_at lw_m8 70 rfl) rfl
theorem q1822 : (Jvm.Cond.methodLink "ForkJoinDeskLaw" (82 : Nat) ({ cls := "ForkJoinDeskModel", name := "race", desc := "(II)I" } : Jvm.MethodName)) ∈ lw_all := lw_g (lw_at lw_m8 74 rfl) rfl
theorem q1826 : (Jvm.Cond.methodLink "ForkJoinDeskLaw" (85 : Nat) ({ cls := "ForkJoinDeskModel", name := "beside", desc := "(II)Z" } : Jvm.MethodName)) ∈ lw_all := lw_g (lw_at lw_m8 78 rfl) rfl
theorem q1837 : (Jvm.Cond.methodLink "ForkJoinDeskLaw" (89 : Nat) ({ cls := "ForkJoinDeskModel", name := "serial", desc := "(I)I" } : Jvm.MethodName)) ∈ lw_all := lw_g (lw_at lw_m8 89 rfl) rfl
theorem q1841 : (Jvm.Cond.methodLink "ForkJoinDeskLaw" (93 : Nat) ({ cls := "ForkJoinDeskModel", name := "cell", desc := "(IZ)I" } : Jvm.MethodName)) ∈ lw_all := lw_g (lw_at lw_m8 93 rfl) rfl
theorem q1845 : (Jvm.Cond.methodLink "ForkJoinDeskLaw" (97 : Nat) ({ cls := "ForkJoinDeskModel", name := "printed", desc := "(IZ)I" } : Jvm.MethodName)) ∈ lw_all := lw_g (lw_at lw_m8 97 rfl) rfl
theorem q1849 : (Jvm.Cond.methodLink "ForkJoinDeskLaw" (101 : Nat) ({ cls := "ForkJoinDeskModel", name := "loosen", desc := "()Z" } : Jvm.MethodName)) ∈ lw_all := lw_g (lw_at lw_m8 101 rfl) rfl
theorem q1857 : (Jvm.Cond.methodLink "ForkJoinDeskLaw" (104 : Nat) ({ cls := "ForkJoinDeskModel", name := "move", desc := "(II)I" } : Jvm.MethodName)) ∈ lw_all := lw_g (lw_at lw_m8 109 rfl) rfl
theorem q1869 : (Jvm.Cond.methodLink "ForkJoinDeskLaw" (108 : Nat) ({ cls := "ForkJoinDeskModel", name := "loose", desc := "(I)I" } : Jvm.MethodName)) ∈ lw_all := lw_g (lw_at lw_m8 121 rfl) rfl
theorem q1873 : (Jvm.Cond.constantLong "ForkJoinDeskLaw" (42 : Nat) (4294967295 : Int64)) ∈ lw_all := lw_g (lw_at lw_m8 125 rfl) rfl
def RX1 : String := "ForkJoinDesk"
def TX1 : u_T := fun k => match k with
  | 0 => ("ForkJoinDesk", "tape", "[B", true)
  | 1 => ("ForkJoinDesk", "typed", "I", false)
  | 2 => ("ForkJoinDesk", "compiler", "LForkJoinDesk$Compiler;", true)
  | 3 => ("ForkJoinDesk", "inputs", "[I", true)
  | 4 => ("ForkJoinDesk", "program", "LForkJoinDesk$Program;", false)
  | 5 => ("ForkJoinDesk", "serial", "LForkJoinDesk$Serial;", true)
  | _ => ("ForkJoinDesk", "loose", "LForkJoinDesk$Loose;", true)
def tyX1 : Nat → FieldType := fun k => match k with
  | 0 => .array .byte
  | 1 => .int
  | 2 => .object "ForkJoinDesk$Compiler"
  | 3 => .array .int
  | 4 => .object "ForkJoinDesk$Program"
  | 5 => .object "ForkJoinDesk$Serial"
  | _ => .object "ForkJoinDesk$Loose"
abbrev wsX10 : List Cond := u_ws RX1 TX1 7
theorem nmX1 : ∀ a, a < 7 → ∀ b, b < 7 → a ≠ b → (TX1 a).2.1 ≠ (TX1 b).2.1 := by decide +kernel
theorem tyX1_ok : ∀ k, k < 7 → parseFieldDescriptor (TX1 k).2.2.1 = some (tyX1 k) := by decide +kernel
abbrev cX1_init : ByteArray := prog_1_method_1_code
def yX1_init : MethodName := ⟨RX1, "<init>", "()V"⟩
abbrev cX1_type : ByteArray := prog_1_method_2_code
def yX1_type : MethodName := ⟨RX1, "type", "(JI)Z"⟩
abbrev cX1_fault : ByteArray := prog_1_method_4_code
def yX1_fault : MethodName := ⟨RX1, "fault", "()I"⟩
abbrev cX1_input : ByteArray := prog_1_method_5_code
def yX1_input : MethodName := ⟨RX1, "input", "(II)Z"⟩
abbrev cX1_begin : ByteArray := prog_1_method_6_code
def yX1_begin : MethodName := ⟨RX1, "begin", "()Z"⟩
abbrev cX1_races : ByteArray := prog_1_method_8_code
def yX1_races : MethodName := ⟨RX1, "races", "()I"⟩
abbrev cX1_serial : ByteArray := prog_1_method_11_code
def yX1_serial : MethodName := ⟨RX1, "serial", "(I)I"⟩
abbrev cX1_cell : ByteArray := prog_1_method_12_code
def yX1_cell : MethodName := ⟨RX1, "cell", "(IZ)I"⟩
abbrev cX1_loosen : ByteArray := prog_1_method_14_code
def yX1_loosen : MethodName := ⟨RX1, "loosen", "()Z"⟩
abbrev cX1_loose : ByteArray := prog_1_method_16_code
def yX1_loose : MethodName := ⟨RX1, "loose", "(I)I"⟩
abbrev cX1_compile : ByteArray := prog_1_method_3_code
def yX1_compile : MethodName := ⟨RX1, "compile", "()I"⟩
abbrev cX1_run : ByteArray := prog_1_method_7_code
def yX1_run : MethodName := ⟨RX1, "run", "(I)I"⟩
abbrev cX1_race : ByteArray := prog_1_method_9_code
def yX1_race : MethodName := ⟨RX1, "race", "(II)I"⟩
abbrev cX1_beside : ByteArray := prog_1_method_10_code
def yX1_beside : MethodName := ⟨RX1, "beside", "(II)Z"⟩
abbrev cX1_printed : ByteArray := prog_1_method_13_code
def yX1_printed : MethodName := ⟨RX1, "printed", "(IZ)I"⟩
abbrev cX1_move : ByteArray := prog_1_method_15_code
def yX1_move : MethodName := ⟨RX1, "move", "(II)I"⟩
theorem q69 : (Jvm.Cond.initialized "ForkJoinDesk") ∈ lw_all := lw_g (lw_at lw_m1 1 rfl) rfl
theorem q106 : (Jvm.Cond.instantiable "ForkJoinDesk" (7 : Nat)) ∈ lw_all := lw_g (lw_at lw_m1 38 rfl) rfl
theorem q108 : (Jvm.Cond.instanceMethod ({ cls := "ForkJoinDesk", name := "<init>", desc := "()V" } : Jvm.MethodName)) ∈ lw_all := lw_g (lw_at lw_m1 40 rfl) rfl
theorem q109 : (Jvm.Cond.code ({ cls := "ForkJoinDesk", name := "<init>", desc := "()V" } : Jvm.MethodName) prog_1_method_1_code (1 : Nat) (Option.none : Option Jvm.ClassFile.FieldType)) ∈ lw_all := lw_g (lw_at lw_m1 41 rfl) rfl
theorem q110 : (Jvm.Cond.methodLink "ForkJoinDesk" (1 : Nat) ({ cls := "java/lang/Object", name := "<init>", desc := "()V" } : Jvm.MethodName)) ∈ lw_all := lw_g (lw_at lw_m1 42 rfl) rfl
theorem q113 : (Jvm.Cond.classLink "ForkJoinDesk" (13 : Nat) "ForkJoinDesk$Compiler") ∈ lw_all := lw_g (lw_at lw_m1 45 rfl) rfl
theorem q115 : (Jvm.Cond.methodLinkNest "ForkJoinDesk" (15 : Nat) ({ cls := "ForkJoinDesk$Compiler", name := "<init>", desc := "()V" } : Jvm.MethodName) "ForkJoinDesk") ∈ lw_tbl := lw_at lw_m1 47 rfl
theorem q464 : (Jvm.Cond.fieldLinkNest "ForkJoinDesk" (73 : Nat) "ForkJoinDesk$Compiler" "place" "I" "ForkJoinDesk") ∈ lw_tbl := lw_at lw_m2 156 rfl
theorem q484 : (Jvm.Cond.classLink "ForkJoinDesk" (24 : Nat) "ForkJoinDesk$Serial") ∈ lw_all := lw_g (lw_at lw_m2 176 rfl) rfl
theorem q486 : (Jvm.Cond.methodLinkNest "ForkJoinDesk" (26 : Nat) ({ cls := "ForkJoinDesk$Serial", name := "<init>", desc := "()V" } : Jvm.MethodName) "ForkJoinDesk") ∈ lw_tbl := lw_at lw_m2 178 rfl
theorem q508 : (Jvm.Cond.fieldLinkNest "ForkJoinDesk" (144 : Nat) "ForkJoinDesk$Fiber" "depth" "I" "ForkJoinDesk") ∈ lw_tbl := lw_at lw_m2 200 rfl
theorem q526 : (Jvm.Cond.fieldLinkNest "ForkJoinDesk" (89 : Nat) "ForkJoinDesk$Serial" "thread" "LForkJoinDesk$Fiber;" "ForkJoinDesk") ∈ lw_tbl := lw_at lw_m2 218 rfl
theorem q528 : (Jvm.Cond.fieldLinkNest "ForkJoinDesk" (157 : Nat) "ForkJoinDesk$Serial" "out" "[I" "ForkJoinDesk") ∈ lw_tbl := lw_at lw_m2 220 rfl
theorem q530 : (Jvm.Cond.fieldLinkNest "ForkJoinDesk" (141 : Nat) "ForkJoinDesk$Serial" "printed" "I" "ForkJoinDesk") ∈ lw_tbl := lw_at lw_m2 222 rfl
theorem q533 : (Jvm.Cond.fieldLinkNest "ForkJoinDesk" (135 : Nat) "ForkJoinDesk$Serial" "span" "I" "ForkJoinDesk") ∈ lw_tbl := lw_at lw_m2 225 rfl
theorem q537 : (Jvm.Cond.fieldLinkNest "ForkJoinDesk" (125 : Nat) "ForkJoinDesk$Serial" "strands" "I" "ForkJoinDesk") ∈ lw_tbl := lw_at lw_m2 229 rfl
theorem q547 : (Jvm.Cond.fieldLinkNest "ForkJoinDesk" (103 : Nat) "ForkJoinDesk$Serial" "races" "Ljava/util/ArrayList;" "ForkJoinDesk") ∈ lw_tbl := lw_at lw_m2 239 rfl
theorem q550 : (Jvm.Cond.fieldLink "ForkJoinDesk" (150 : Nat) "ForkJoinDesk$Machine" "cells" "[I") ∈ lw_all := lw_g (lw_at lw_m3 2 rfl) rfl
theorem q552 : (Jvm.Cond.fieldLink "ForkJoinDesk" (138 : Nat) "ForkJoinDesk$Serial" "sum" "I") ∈ lw_all := lw_g (lw_at lw_m3 4 rfl) rfl
theorem q554 : (Jvm.Cond.fieldLink "ForkJoinDesk" (173 : Nat) "ForkJoinDesk$Loose" "sum" "I") ∈ lw_all := lw_g (lw_at lw_m3 6 rfl) rfl
theorem q557 : (Jvm.Cond.fieldLink "ForkJoinDesk" (132 : Nat) "ForkJoinDesk$Serial" "work" "I") ∈ lw_all := lw_g (lw_at lw_m3 9 rfl) rfl
theorem q559 : (Jvm.Cond.fieldLink "ForkJoinDesk" (172 : Nat) "ForkJoinDesk$Loose" "work" "I") ∈ lw_all := lw_g (lw_at lw_m3 11 rfl) rfl
theorem q562 : (Jvm.Cond.fieldLink "ForkJoinDesk" (86 : Nat) "ForkJoinDesk$Serial" "limited" "Z") ∈ lw_all := lw_g (lw_at lw_m3 14 rfl) rfl
theorem q567 : (Jvm.Cond.fieldLink "ForkJoinDesk" (161 : Nat) "ForkJoinDesk$Loose" "limited" "Z") ∈ lw_all := lw_g (lw_at lw_m3 19 rfl) rfl
theorem q569 : (Jvm.Cond.fieldLink "ForkJoinDesk" (56 : Nat) "ForkJoinDesk$Serial" "there" "Z") ∈ lw_all := lw_g (lw_at lw_m3 21 rfl) rfl
theorem q571 : (Jvm.Cond.fieldLink "ForkJoinDesk" (60 : Nat) "ForkJoinDesk$Loose" "there" "Z") ∈ lw_all := lw_g (lw_at lw_m3 23 rfl) rfl
theorem q573 : (Jvm.Cond.fieldLink "ForkJoinDesk" (147 : Nat) "ForkJoinDesk$Machine" "there" "Z") ∈ lw_all := lw_g (lw_at lw_m3 25 rfl) rfl
theorem q622 : (Jvm.Cond.classLink "ForkJoinDesk" (31 : Nat) "ForkJoinDesk$Loose") ∈ lw_all := lw_g (lw_at lw_m3 74 rfl) rfl
theorem q624 : (Jvm.Cond.methodLinkNest "ForkJoinDesk" (33 : Nat) ({ cls := "ForkJoinDesk$Loose", name := "<init>", desc := "()V" } : Jvm.MethodName) "ForkJoinDesk") ∈ lw_tbl := lw_at lw_m3 76 rfl
theorem q631 : (Jvm.Cond.fieldLinkNest "ForkJoinDesk" (165 : Nat) "ForkJoinDesk$Loose" "threads" "Ljava/util/ArrayList;" "ForkJoinDesk") ∈ lw_tbl := lw_at lw_m3 83 rfl
theorem q638 : (Jvm.Cond.fieldLinkNest "ForkJoinDesk" (162 : Nat) "ForkJoinDesk$Loose" "many" "I" "ForkJoinDesk") ∈ lw_tbl := lw_at lw_m3 90 rfl
theorem q641 : (Jvm.Cond.fieldLinkNest "ForkJoinDesk" (153 : Nat) "ForkJoinDesk$Loose" "printed" "I" "ForkJoinDesk") ∈ lw_tbl := lw_at lw_m3 93 rfl
theorem q667 : (Jvm.Cond.fieldLink "ForkJoinDesk" (9 : Nat) "ForkJoinDesk" "tape" "[B") ∈ lw_all := lw_g (lw_at lw_m3 119 rfl) rfl
theorem q668 : (Jvm.Cond.fieldLink "ForkJoinDesk" (38 : Nat) "ForkJoinDesk" "typed" "I") ∈ lw_all := lw_g (lw_at lw_m3 120 rfl) rfl
theorem q669 : (Jvm.Cond.fieldLink "ForkJoinDesk" (16 : Nat) "ForkJoinDesk" "compiler" "LForkJoinDesk$Compiler;") ∈ lw_all := lw_g (lw_at lw_m3 121 rfl) rfl
theorem q670 : (Jvm.Cond.fieldLink "ForkJoinDesk" (20 : Nat) "ForkJoinDesk" "inputs" "[I") ∈ lw_all := lw_g (lw_at lw_m3 122 rfl) rfl
theorem q671 : (Jvm.Cond.fieldLink "ForkJoinDesk" (52 : Nat) "ForkJoinDesk" "program" "LForkJoinDesk$Program;") ∈ lw_all := lw_g (lw_at lw_m3 123 rfl) rfl
theorem q672 : (Jvm.Cond.fieldLink "ForkJoinDesk" (27 : Nat) "ForkJoinDesk" "serial" "LForkJoinDesk$Serial;") ∈ lw_all := lw_g (lw_at lw_m3 124 rfl) rfl
theorem q673 : (Jvm.Cond.fieldLink "ForkJoinDesk" (34 : Nat) "ForkJoinDesk" "loose" "LForkJoinDesk$Loose;") ∈ lw_all := lw_g (lw_at lw_m3 125 rfl) rfl
theorem q674 : (Jvm.Cond.laysFinal "ForkJoinDesk" "ForkJoinDesk" "tape" "[B") ∈ lw_all := lw_g (lw_at lw_m3 126 rfl) rfl
theorem q675 : (Jvm.Cond.soleField "ForkJoinDesk" "tape") ∈ lw_all := lw_g (lw_at lw_m3 127 rfl) rfl
theorem q676 : (Jvm.Cond.lays "ForkJoinDesk" "ForkJoinDesk" "typed" "I") ∈ lw_all := lw_g (lw_at lw_m3 128 rfl) rfl
theorem q677 : (Jvm.Cond.soleField "ForkJoinDesk" "typed") ∈ lw_all := lw_g (lw_at lw_m3 129 rfl) rfl
theorem q678 : (Jvm.Cond.laysFinal "ForkJoinDesk" "ForkJoinDesk" "compiler" "LForkJoinDesk$Compiler;") ∈ lw_all := lw_g (lw_at lw_m3 130 rfl) rfl
theorem q679 : (Jvm.Cond.soleField "ForkJoinDesk" "compiler") ∈ lw_all := lw_g (lw_at lw_m3 131 rfl) rfl
theorem q680 : (Jvm.Cond.laysFinal "ForkJoinDesk" "ForkJoinDesk" "inputs" "[I") ∈ lw_all := lw_g (lw_at lw_m3 132 rfl) rfl
theorem q681 : (Jvm.Cond.soleField "ForkJoinDesk" "inputs") ∈ lw_all := lw_g (lw_at lw_m3 133 rfl) rfl
theorem q682 : (Jvm.Cond.lays "ForkJoinDesk" "ForkJoinDesk" "program" "LForkJoinDesk$Program;") ∈ lw_all := lw_g (lw_at lw_m3 134 rfl) rfl
theorem q683 : (Jvm.Cond.soleField "ForkJoinDesk" "program") ∈ lw_all := lw_g (lw_at lw_m3 135 rfl) rfl
theorem q684 : (Jvm.Cond.laysFinal "ForkJoinDesk" "ForkJoinDesk" "serial" "LForkJoinDesk$Serial;") ∈ lw_all := lw_g (lw_at lw_m3 136 rfl) rfl
theorem q685 : (Jvm.Cond.soleField "ForkJoinDesk" "serial") ∈ lw_all := lw_g (lw_at lw_m3 137 rfl) rfl
theorem q686 : (Jvm.Cond.laysFinal "ForkJoinDesk" "ForkJoinDesk" "loose" "LForkJoinDesk$Loose;") ∈ lw_all := lw_g (lw_at lw_m3 138 rfl) rfl
theorem q687 : (Jvm.Cond.soleField "ForkJoinDesk" "loose") ∈ lw_all := lw_g (lw_at lw_m3 139 rfl) rfl
theorem q688 : (Jvm.Cond.superclass "ForkJoinDesk" "java/lang/Object") ∈ lw_all := lw_g (lw_at lw_m3 140 rfl) rfl
theorem q690 : (Jvm.Cond.instanceMethod ({ cls := "ForkJoinDesk", name := "type", desc := "(JI)Z" } : Jvm.MethodName)) ∈ lw_all := lw_g (lw_at lw_m3 142 rfl) rfl
theorem q691 : (Jvm.Cond.selects "ForkJoinDesk" ({ cls := "ForkJoinDesk", name := "type", desc := "(JI)Z" } : Jvm.MethodName) ({ cls := "ForkJoinDesk", name := "type", desc := "(JI)Z" } : Jvm.MethodName)) ∈ lw_all := lw_g (lw_at lw_m3 143 rfl) rfl
theorem q692 : (Jvm.Cond.code ({ cls := "ForkJoinDesk", name := "type", desc := "(JI)Z" } : Jvm.MethodName) prog_1_method_2_code (7 : Nat) (Option.some Jvm.ClassFile.FieldType.boolean)) ∈ lw_all := lw_g (lw_at lw_m3 144 rfl) rfl
theorem q693 : (Jvm.Cond.constantLong "ForkJoinDesk" (42 : Nat) (255 : Int64)) ∈ lw_all := lw_g (lw_at lw_m3 145 rfl) rfl
theorem q694 : (Jvm.Cond.constantLong "ForkJoinDesk" (44 : Nat) (32 : Int64)) ∈ lw_all := lw_g (lw_at lw_m3 146 rfl) rfl
theorem q695 : (Jvm.Cond.constantLong "ForkJoinDesk" (46 : Nat) (126 : Int64)) ∈ lw_all := lw_g (lw_at lw_m3 147 rfl) rfl
theorem q697 : (Jvm.Cond.instanceMethod ({ cls := "ForkJoinDesk", name := "fault", desc := "()I" } : Jvm.MethodName)) ∈ lw_all := lw_g (lw_at lw_m3 149 rfl) rfl
theorem q698 : (Jvm.Cond.selects "ForkJoinDesk" ({ cls := "ForkJoinDesk", name := "fault", desc := "()I" } : Jvm.MethodName) ({ cls := "ForkJoinDesk", name := "fault", desc := "()I" } : Jvm.MethodName)) ∈ lw_all := lw_g (lw_at lw_m3 150 rfl) rfl
theorem q699 : (Jvm.Cond.code ({ cls := "ForkJoinDesk", name := "fault", desc := "()I" } : Jvm.MethodName) prog_1_method_4_code (1 : Nat) (Option.some Jvm.ClassFile.FieldType.int)) ∈ lw_all := lw_g (lw_at lw_m3 151 rfl) rfl
theorem q701 : (Jvm.Cond.instanceMethod ({ cls := "ForkJoinDesk", name := "input", desc := "(II)Z" } : Jvm.MethodName)) ∈ lw_all := lw_g (lw_at lw_m3 153 rfl) rfl
theorem q702 : (Jvm.Cond.selects "ForkJoinDesk" ({ cls := "ForkJoinDesk", name := "input", desc := "(II)Z" } : Jvm.MethodName) ({ cls := "ForkJoinDesk", name := "input", desc := "(II)Z" } : Jvm.MethodName)) ∈ lw_all := lw_g (lw_at lw_m3 154 rfl) rfl
theorem q703 : (Jvm.Cond.code ({ cls := "ForkJoinDesk", name := "input", desc := "(II)Z" } : Jvm.MethodName) prog_1_method_5_code (3 : Nat) (Option.some Jvm.ClassFile.FieldType.boolean)) ∈ lw_all := lw_g (lw_at lw_m3 155 rfl) rfl
theorem q705 : (Jvm.Cond.instanceMethod ({ cls := "ForkJoinDesk", name := "begin", desc := "()Z" } : Jvm.MethodName)) ∈ lw_all := lw_g (lw_at lw_m3 157 rfl) rfl
theorem q706 : (Jvm.Cond.selects "ForkJoinDesk" ({ cls := "ForkJoinDesk", name := "begin", desc := "()Z" } : Jvm.MethodName) ({ cls := "ForkJoinDesk", name := "begin", desc := "()Z" } : Jvm.MethodName)) ∈ lw_all := lw_g (lw_at lw_m3 158 rfl) rfl
theorem q707 : (Jvm.Cond.code ({ cls := "ForkJoinDesk", name := "begin", desc := "()Z" } : Jvm.MethodName) prog_1_method_6_code (1 : Nat) (Option.some Jvm.ClassFile.FieldType.boolean)) ∈ lw_all := lw_g (lw_at lw_m3 159 rfl) rfl
theorem q708 : (Jvm.Cond.methodLink "ForkJoinDesk" (76 : Nat) ({ cls := "ForkJoinDesk$Serial", name := "begin", desc := "(LForkJoinDesk$Program;[I)V" } : Jvm.MethodName)) ∈ lw_all := lw_g (lw_at lw_m3 160 rfl) rfl
theorem q807 : (Jvm.Cond.selects "ForkJoinDesk" ({ cls := "java/lang/Object", name := "getClass", desc := "()Ljava/lang/Class;" } : Jvm.MethodName) ({ cls := "java/lang/Object", name := "getClass", desc := "()Ljava/lang/Class;" } : Jvm.MethodName)) ∈ lw_all := lw_g (lw_at lw_m4 19 rfl) rfl
theorem q855 : (Jvm.Cond.instanceMethod ({ cls := "ForkJoinDesk", name := "races", desc := "()I" } : Jvm.MethodName)) ∈ lw_all := lw_g (lw_at lw_m4 67 rfl) rfl
theorem q856 : (Jvm.Cond.selects "ForkJoinDesk" ({ cls := "ForkJoinDesk", name := "races", desc := "()I" } : Jvm.MethodName) ({ cls := "ForkJoinDesk", name := "races", desc := "()I" } : Jvm.MethodName)) ∈ lw_all := lw_g (lw_at lw_m4 68 rfl) rfl
theorem q857 : (Jvm.Cond.code ({ cls := "ForkJoinDesk", name := "races", desc := "()I" } : Jvm.MethodName) prog_1_method_8_code (1 : Nat) (Option.some Jvm.ClassFile.FieldType.int)) ∈ lw_all := lw_g (lw_at lw_m4 69 rfl) rfl
theorem q858 : (Jvm.Cond.methodLink "ForkJoinDesk" (67 : Nat) ({ cls := "java/util/ArrayList", name := "size", desc := "()I" } : Jvm.MethodName)) ∈ lw_all := lw_g (lw_at lw_m4 70 rfl) rfl
theorem q860 : (Jvm.Cond.instanceMethod ({ cls := "ForkJoinDesk", name := "serial", desc := "(I)I" } : Jvm.MethodName)) ∈ lw_all := lw_g (lw_at lw_m4 72 rfl) rfl
theorem q861 : (Jvm.Cond.selects "ForkJoinDesk" ({ cls := "ForkJoinDesk", name := "serial", desc := "(I)I" } : Jvm.MethodName) ({ cls := "ForkJoinDesk", name := "serial", desc := "(I)I" } : Jvm.MethodName)) ∈ lw_all := lw_g (lw_at lw_m4 73 rfl) rfl
theorem q862 : (Jvm.Cond.code ({ cls := "ForkJoinDesk", name := "serial", desc := "(I)I" } : Jvm.MethodName) prog_1_method_11_code (2 : Nat) (Option.some Jvm.ClassFile.FieldType.int)) ∈ lw_all := lw_g (lw_at lw_m4 74 rfl) rfl
theorem q864 : (Jvm.Cond.instanceMethod ({ cls := "ForkJoinDesk", name := "cell", desc := "(IZ)I" } : Jvm.MethodName)) ∈ lw_all := lw_g (lw_at lw_m4 76 rfl) rfl
theorem q865 : (Jvm.Cond.selects "ForkJoinDesk" ({ cls := "ForkJoinDesk", name := "cell", desc := "(IZ)I" } : Jvm.MethodName) ({ cls := "ForkJoinDesk", name := "cell", desc := "(IZ)I" } : Jvm.MethodName)) ∈ lw_all := lw_g (lw_at lw_m4 77 rfl) rfl
theorem q866 : (Jvm.Cond.code ({ cls := "ForkJoinDesk", name := "cell", desc := "(IZ)I" } : Jvm.MethodName) prog_1_method_12_code (4 : Nat) (Option.some Jvm.ClassFile.FieldType.int)) ∈ lw_all := lw_g (lw_at lw_m4 78 rfl) rfl
theorem q868 : (Jvm.Cond.instanceMethod ({ cls := "ForkJoinDesk", name := "loosen", desc := "()Z" } : Jvm.MethodName)) ∈ lw_all := lw_g (lw_at lw_m4 80 rfl) rfl
theorem q869 : (Jvm.Cond.selects "ForkJoinDesk" ({ cls := "ForkJoinDesk", name := "loosen", desc := "()Z" } : Jvm.MethodName) ({ cls := "ForkJoinDesk", name := "loosen", desc := "()Z" } : Jvm.MethodName)) ∈ lw_all := lw_g (lw_at lw_m4 81 rfl) rfl
theorem q870 : (Jvm.Cond.code ({ cls := "ForkJoinDesk", name := "loosen", desc := "()Z" } : Jvm.MethodName) prog_1_method_14_code (1 : Nat) (Option.some Jvm.ClassFile.FieldType.boolean)) ∈ lw_all := lw_g (lw_at lw_m4 82 rfl) rfl
theorem q871 : (Jvm.Cond.methodLink "ForkJoinDesk" (160 : Nat) ({ cls := "ForkJoinDesk$Loose", name := "begin", desc := "(LForkJoinDesk$Program;[I)V" } : Jvm.MethodName)) ∈ lw_all := lw_g (lw_at lw_m4 83 rfl) rfl
theorem q892 : (Jvm.Cond.instanceMethod ({ cls := "ForkJoinDesk", name := "loose", desc := "(I)I" } : Jvm.MethodName)) ∈ lw_all := lw_g (lw_at lw_m4 104 rfl) rfl
theorem q893 : (Jvm.Cond.selects "ForkJoinDesk" ({ cls := "ForkJoinDesk", name := "loose", desc := "(I)I" } : Jvm.MethodName) ({ cls := "ForkJoinDesk", name := "loose", desc := "(I)I" } : Jvm.MethodName)) ∈ lw_all := lw_g (lw_at lw_m4 105 rfl) rfl
theorem q894 : (Jvm.Cond.code ({ cls := "ForkJoinDesk", name := "loose", desc := "(I)I" } : Jvm.MethodName) prog_1_method_16_code (2 : Nat) (Option.some Jvm.ClassFile.FieldType.int)) ∈ lw_all := lw_g (lw_at lw_m4 106 rfl) rfl
theorem q895 : (Jvm.Cond.methodLink "ForkJoinDesk" (109 : Nat) ({ cls := "java/util/ArrayList", name := "get", desc := "(I)Ljava/lang/Object;" } : Jvm.MethodName)) ∈ lw_all := lw_g (lw_at lw_m4 107 rfl) rfl
theorem q896 : (Jvm.Cond.classLink "ForkJoinDesk" (94 : Nat) "ForkJoinDesk$Fiber") ∈ lw_all := lw_g (lw_at lw_m4 108 rfl) rfl
theorem q897 : (Jvm.Cond.methodLink "ForkJoinDesk" (93 : Nat) ({ cls := "ForkJoinDesk$Fiber", name := "isOver", desc := "()Z" } : Jvm.MethodName)) ∈ lw_all := lw_g (lw_at lw_m4 109 rfl) rfl
theorem q906 : (Jvm.Cond.instanceMethod ({ cls := "ForkJoinDesk", name := "compile", desc := "()I" } : Jvm.MethodName)) ∈ lw_all := lw_g (lw_at lw_m4 118 rfl) rfl
theorem q907 : (Jvm.Cond.selects "ForkJoinDesk" ({ cls := "ForkJoinDesk", name := "compile", desc := "()I" } : Jvm.MethodName) ({ cls := "ForkJoinDesk", name := "compile", desc := "()I" } : Jvm.MethodName)) ∈ lw_all := lw_g (lw_at lw_m4 119 rfl) rfl
theorem q908 : (Jvm.Cond.code ({ cls := "ForkJoinDesk", name := "compile", desc := "()I" } : Jvm.MethodName) prog_1_method_3_code (3 : Nat) (Option.some Jvm.ClassFile.FieldType.int)) ∈ lw_all := lw_g (lw_at lw_m4 120 rfl) rfl
theorem q909 : (Jvm.Cond.methodLink "ForkJoinDesk" (48 : Nat) ({ cls := "ForkJoinDesk$Compiler", name := "read", desc := "([BI)LForkJoinDesk$Program;" } : Jvm.MethodName)) ∈ lw_all := lw_g (lw_at lw_m4 121 rfl) rfl
theorem q922 : (Jvm.Cond.fieldLinkNest "ForkJoinDesk" (61 : Nat) "ForkJoinDesk$Program" "code" "Ljava/util/ArrayList;" "ForkJoinDesk") ∈ lw_tbl := lw_at lw_m4 134 rfl
theorem q1134 : (Jvm.Cond.instanceMethod ({ cls := "ForkJoinDesk", name := "run", desc := "(I)I" } : Jvm.MethodName)) ∈ lw_all := lw_g (lw_at lw_m5 106 rfl) rfl
theorem q1135 : (Jvm.Cond.selects "ForkJoinDesk" ({ cls := "ForkJoinDesk", name := "run", desc := "(I)I" } : Jvm.MethodName) ({ cls := "ForkJoinDesk", name := "run", desc := "(I)I" } : Jvm.MethodName)) ∈ lw_all := lw_g (lw_at lw_m5 107 rfl) rfl
theorem q1136 : (Jvm.Cond.code ({ cls := "ForkJoinDesk", name := "run", desc := "(I)I" } : Jvm.MethodName) prog_1_method_7_code (3 : Nat) (Option.some Jvm.ClassFile.FieldType.int)) ∈ lw_all := lw_g (lw_at lw_m5 108 rfl) rfl
theorem q1137 : (Jvm.Cond.classLink "ForkJoinDesk" (80 : Nat) "java/lang/IllegalStateException") ∈ lw_all := lw_g (lw_at lw_m5 109 rfl) rfl
theorem q1146 : (Jvm.Cond.methodLink "ForkJoinDesk" (82 : Nat) ({ cls := "java/lang/IllegalStateException", name := "<init>", desc := "()V" } : Jvm.MethodName)) ∈ lw_all := lw_g (lw_at lw_m5 118 rfl) rfl
theorem q1152 : (Jvm.Cond.classLink "ForkJoinDesk" (83 : Nat) "java/lang/IllegalArgumentException") ∈ lw_all := lw_g (lw_at lw_m5 124 rfl) rfl
theorem q1153 : (Jvm.Cond.methodLink "ForkJoinDesk" (85 : Nat) ({ cls := "java/lang/IllegalArgumentException", name := "<init>", desc := "()V" } : Jvm.MethodName)) ∈ lw_all := lw_g (lw_at lw_m5 125 rfl) rfl
theorem q1154 : (Jvm.Cond.methodLink "ForkJoinDesk" (99 : Nat) ({ cls := "ForkJoinDesk$Serial", name := "step", desc := "(LForkJoinDesk$Fiber;)Z" } : Jvm.MethodName)) ∈ lw_all := lw_g (lw_at lw_m5 126 rfl) rfl
theorem q1286 : (Jvm.Cond.fieldLinkNest "ForkJoinDesk" (115 : Nat) "ForkJoinDesk$Race" "cell" "I" "ForkJoinDesk") ∈ lw_tbl := lw_at lw_m6 18 rfl
theorem q1288 : (Jvm.Cond.fieldLinkNest "ForkJoinDesk" (118 : Nat) "ForkJoinDesk$Race" "place" "I" "ForkJoinDesk") ∈ lw_tbl := lw_at lw_m6 20 rfl
theorem q1290 : (Jvm.Cond.fieldLinkNest "ForkJoinDesk" (119 : Nat) "ForkJoinDesk$Race" "write" "Z" "ForkJoinDesk") ∈ lw_tbl := lw_at lw_m6 22 rfl
theorem q1292 : (Jvm.Cond.fieldLinkNest "ForkJoinDesk" (122 : Nat) "ForkJoinDesk$Race" "strand" "I" "ForkJoinDesk") ∈ lw_tbl := lw_at lw_m6 24 rfl
theorem q1341 : (Jvm.Cond.instanceMethod ({ cls := "ForkJoinDesk", name := "race", desc := "(II)I" } : Jvm.MethodName)) ∈ lw_all := lw_g (lw_at lw_m6 73 rfl) rfl
theorem q1342 : (Jvm.Cond.selects "ForkJoinDesk" ({ cls := "ForkJoinDesk", name := "race", desc := "(II)I" } : Jvm.MethodName) ({ cls := "ForkJoinDesk", name := "race", desc := "(II)I" } : Jvm.MethodName)) ∈ lw_all := lw_g (lw_at lw_m6 74 rfl) rfl
theorem q1343 : (Jvm.Cond.code ({ cls := "ForkJoinDesk", name := "race", desc := "(II)I" } : Jvm.MethodName) prog_1_method_9_code (4 : Nat) (Option.some Jvm.ClassFile.FieldType.int)) ∈ lw_all := lw_g (lw_at lw_m6 75 rfl) rfl
theorem q1344 : (Jvm.Cond.classLink "ForkJoinDesk" (106 : Nat) "java/lang/IndexOutOfBoundsException") ∈ lw_all := lw_g (lw_at lw_m6 76 rfl) rfl
theorem q1353 : (Jvm.Cond.methodLink "ForkJoinDesk" (108 : Nat) ({ cls := "java/lang/IndexOutOfBoundsException", name := "<init>", desc := "()V" } : Jvm.MethodName)) ∈ lw_all := lw_g (lw_at lw_m6 85 rfl) rfl
theorem q1359 : (Jvm.Cond.classLink "ForkJoinDesk" (113 : Nat) "ForkJoinDesk$Race") ∈ lw_all := lw_g (lw_at lw_m6 91 rfl) rfl
theorem q1364 : (Jvm.Cond.instanceMethod ({ cls := "ForkJoinDesk", name := "beside", desc := "(II)Z" } : Jvm.MethodName)) ∈ lw_all := lw_g (lw_at lw_m6 96 rfl) rfl
theorem q1365 : (Jvm.Cond.selects "ForkJoinDesk" ({ cls := "ForkJoinDesk", name := "beside", desc := "(II)Z" } : Jvm.MethodName) ({ cls := "ForkJoinDesk", name := "beside", desc := "(II)Z" } : Jvm.MethodName)) ∈ lw_all := lw_g (lw_at lw_m6 97 rfl) rfl
theorem q1366 : (Jvm.Cond.code ({ cls := "ForkJoinDesk", name := "beside", desc := "(II)Z" } : Jvm.MethodName) prog_1_method_10_code (3 : Nat) (Option.some Jvm.ClassFile.FieldType.boolean)) ∈ lw_all := lw_g (lw_at lw_m6 98 rfl) rfl
theorem q1367 : (Jvm.Cond.methodLink "ForkJoinDesk" (128 : Nat) ({ cls := "ForkJoinDesk$Serial", name := "isBeside", desc := "(II)Z" } : Jvm.MethodName)) ∈ lw_all := lw_g (lw_at lw_m6 99 rfl) rfl
theorem q1379 : (Jvm.Cond.instanceMethod ({ cls := "ForkJoinDesk", name := "printed", desc := "(IZ)I" } : Jvm.MethodName)) ∈ lw_all := lw_g (lw_at lw_m6 111 rfl) rfl
theorem q1380 : (Jvm.Cond.selects "ForkJoinDesk" ({ cls := "ForkJoinDesk", name := "printed", desc := "(IZ)I" } : Jvm.MethodName) ({ cls := "ForkJoinDesk", name := "printed", desc := "(IZ)I" } : Jvm.MethodName)) ∈ lw_all := lw_g (lw_at lw_m6 112 rfl) rfl
theorem q1381 : (Jvm.Cond.code ({ cls := "ForkJoinDesk", name := "printed", desc := "(IZ)I" } : Jvm.MethodName) prog_1_method_13_code (5 : Nat) (Option.some Jvm.ClassFile.FieldType.int)) ∈ lw_all := lw_g (lw_at lw_m6 113 rfl) rfl
theorem q1382 : (Jvm.Cond.methodLink "ForkJoinDesk" (154 : Nat) ({ cls := "ForkJoinDesk$Loose", name := "printed", desc := "(I)I" } : Jvm.MethodName)) ∈ lw_all := lw_g (lw_at lw_m6 114 rfl) rfl
theorem q1390 : (Jvm.Cond.instanceMethod ({ cls := "ForkJoinDesk", name := "move", desc := "(II)I" } : Jvm.MethodName)) ∈ lw_all := lw_g (lw_at lw_m6 122 rfl) rfl
theorem q1391 : (Jvm.Cond.selects "ForkJoinDesk" ({ cls := "ForkJoinDesk", name := "move", desc := "(II)I" } : Jvm.MethodName) ({ cls := "ForkJoinDesk", name := "move", desc := "(II)I" } : Jvm.MethodName)) ∈ lw_all := lw_g (lw_at lw_m6 123 rfl) rfl
theorem q1392 : (Jvm.Cond.code ({ cls := "ForkJoinDesk", name := "move", desc := "(II)I" } : Jvm.MethodName) prog_1_method_15_code (3 : Nat) (Option.some Jvm.ClassFile.FieldType.int)) ∈ lw_all := lw_g (lw_at lw_m6 124 rfl) rfl
theorem q1393 : (Jvm.Cond.methodLink "ForkJoinDesk" (168 : Nat) ({ cls := "ForkJoinDesk$Loose", name := "move", desc := "(LForkJoinDesk$Fiber;I)I" } : Jvm.MethodName)) ∈ lw_all := lw_g (lw_at lw_m6 125 rfl) rfl
theorem q1897 : (Jvm.Cond.castable "ForkJoinDesk" "java/lang/Object") ∈ lw_tbl := lw_at lw_m8 149 rfl
theorem in_X1 : ∀ w ∈ wsX10, w ∈ lw_all := lw_in wsX10 [674, 676, 678, 680, 682, 684, 686] (by decide +kernel) (by decide +kernel)
def RX10 : String := "ForkJoinDesk$Frame"
def TX10 : u_T := fun k => match k with
  | 0 => ("ForkJoinDesk$Frame", "variables", "[I", true)
  | 1 => ("ForkJoinDesk$Frame", "isFork", "Z", false)
  | 2 => ("ForkJoinDesk$Frame", "next", "I", false)
  | 3 => ("ForkJoinDesk$Frame", "element", "I", false)
  | 4 => ("ForkJoinDesk$Frame", "beside", "I", false)
  | 5 => ("ForkJoinDesk$Frame", "firstEnd", "I", false)
  | 6 => ("ForkJoinDesk$Frame", "from", "I", false)
  | 7 => ("ForkJoinDesk$Frame", "time", "I", false)
  | 8 => ("ForkJoinDesk$Frame", "late", "I", false)
  | 9 => ("ForkJoinDesk$Frame", "open", "I", false)
  | _ => ("ForkJoinDesk$Frame", "forker", "LForkJoinDesk$Frame;", false)
def tyX10 : Nat → FieldType := fun k => match k with
  | 0 => .array .int
  | 1 => .boolean
  | 2 => .int
  | 3 => .int
  | 4 => .int
  | 5 => .int
  | 6 => .int
  | 7 => .int
  | 8 => .int
  | 9 => .int
  | _ => .object "ForkJoinDesk$Frame"
abbrev wsX100 : List Cond := u_ws RX10 TX10 11
theorem nmX10 : ∀ a, a < 11 → ∀ b, b < 11 → a ≠ b → (TX10 a).2.1 ≠ (TX10 b).2.1 := by decide +kernel
theorem tyX10_ok : ∀ k, k < 11 → parseFieldDescriptor (TX10 k).2.2.1 = some (tyX10 k) := by decide +kernel
abbrev cX10_init : ByteArray := prog_4_method_1_code
def yX10_init : MethodName := ⟨RX10, "<init>", "()V"⟩
abbrev cX10_begin : ByteArray := prog_4_method_2_code
def yX10_begin : MethodName := ⟨RX10, "begin", "(IZ)V"⟩
theorem q100 : (Jvm.Cond.initialized "ForkJoinDesk$Frame") ∈ lw_all := lw_g (lw_at lw_m1 32 rfl) rfl
theorem q729 : (Jvm.Cond.instantiable "ForkJoinDesk$Frame" (11 : Nat)) ∈ lw_all := lw_g (lw_at lw_m3 181 rfl) rfl
theorem q731 : (Jvm.Cond.instanceMethod ({ cls := "ForkJoinDesk$Frame", name := "<init>", desc := "()V" } : Jvm.MethodName)) ∈ lw_all := lw_g (lw_at lw_m3 183 rfl) rfl
theorem q732 : (Jvm.Cond.code ({ cls := "ForkJoinDesk$Frame", name := "<init>", desc := "()V" } : Jvm.MethodName) prog_4_method_1_code (1 : Nat) (Option.none : Option Jvm.ClassFile.FieldType)) ∈ lw_all := lw_g (lw_at lw_m3 184 rfl) rfl
theorem q733 : (Jvm.Cond.methodLink "ForkJoinDesk$Frame" (3 : Nat) ({ cls := "java/lang/Object", name := "<init>", desc := "()V" } : Jvm.MethodName)) ∈ lw_all := lw_g (lw_at lw_m3 185 rfl) rfl
theorem q734 : (Jvm.Cond.fieldLink "ForkJoinDesk$Frame" (9 : Nat) "ForkJoinDesk$Frame" "variables" "[I") ∈ lw_all := lw_g (lw_at lw_m3 186 rfl) rfl
theorem q736 : (Jvm.Cond.fieldLink "ForkJoinDesk$Frame" (19 : Nat) "ForkJoinDesk$Frame" "isFork" "Z") ∈ lw_all := lw_g (lw_at lw_m3 188 rfl) rfl
theorem q738 : (Jvm.Cond.fieldLink "ForkJoinDesk$Frame" (15 : Nat) "ForkJoinDesk$Frame" "next" "I") ∈ lw_all := lw_g (lw_at lw_m3 190 rfl) rfl
theorem q742 : (Jvm.Cond.fieldLink "ForkJoinDesk$Frame" (41 : Nat) "ForkJoinDesk$Frame" "element" "I") ∈ lw_all := lw_g (lw_at lw_m3 194 rfl) rfl
theorem q745 : (Jvm.Cond.fieldLink "ForkJoinDesk$Frame" (23 : Nat) "ForkJoinDesk$Frame" "beside" "I") ∈ lw_all := lw_g (lw_at lw_m3 197 rfl) rfl
theorem q747 : (Jvm.Cond.fieldLink "ForkJoinDesk$Frame" (26 : Nat) "ForkJoinDesk$Frame" "firstEnd" "I") ∈ lw_all := lw_g (lw_at lw_m3 199 rfl) rfl
theorem q749 : (Jvm.Cond.fieldLink "ForkJoinDesk$Frame" (38 : Nat) "ForkJoinDesk$Frame" "from" "I") ∈ lw_all := lw_g (lw_at lw_m3 201 rfl) rfl
theorem q751 : (Jvm.Cond.fieldLink "ForkJoinDesk$Frame" (35 : Nat) "ForkJoinDesk$Frame" "time" "I") ∈ lw_all := lw_g (lw_at lw_m3 203 rfl) rfl
theorem q753 : (Jvm.Cond.fieldLink "ForkJoinDesk$Frame" (32 : Nat) "ForkJoinDesk$Frame" "late" "I") ∈ lw_all := lw_g (lw_at lw_m3 205 rfl) rfl
theorem q755 : (Jvm.Cond.fieldLink "ForkJoinDesk$Frame" (29 : Nat) "ForkJoinDesk$Frame" "open" "I") ∈ lw_all := lw_g (lw_at lw_m3 207 rfl) rfl
theorem q757 : (Jvm.Cond.fieldLink "ForkJoinDesk$Frame" (44 : Nat) "ForkJoinDesk$Frame" "forker" "LForkJoinDesk$Frame;") ∈ lw_all := lw_g (lw_at lw_m3 209 rfl) rfl
theorem q759 : (Jvm.Cond.laysFinal "ForkJoinDesk$Frame" "ForkJoinDesk$Frame" "variables" "[I") ∈ lw_all := lw_g (lw_at lw_m3 211 rfl) rfl
theorem q760 : (Jvm.Cond.soleField "ForkJoinDesk$Frame" "variables") ∈ lw_all := lw_g (lw_at lw_m3 212 rfl) rfl
theorem q761 : (Jvm.Cond.lays "ForkJoinDesk$Frame" "ForkJoinDesk$Frame" "isFork" "Z") ∈ lw_all := lw_g (lw_at lw_m3 213 rfl) rfl
theorem q762 : (Jvm.Cond.soleField "ForkJoinDesk$Frame" "isFork") ∈ lw_all := lw_g (lw_at lw_m3 214 rfl) rfl
theorem q763 : (Jvm.Cond.lays "ForkJoinDesk$Frame" "ForkJoinDesk$Frame" "next" "I") ∈ lw_all := lw_g (lw_at lw_m3 215 rfl) rfl
theorem q764 : (Jvm.Cond.soleField "ForkJoinDesk$Frame" "next") ∈ lw_all := lw_g (lw_at lw_m3 216 rfl) rfl
theorem q765 : (Jvm.Cond.lays "ForkJoinDesk$Frame" "ForkJoinDesk$Frame" "element" "I") ∈ lw_all := lw_g (lw_at lw_m3 217 rfl) rfl
theorem q766 : (Jvm.Cond.soleField "ForkJoinDesk$Frame" "element") ∈ lw_all := lw_g (lw_at lw_m3 218 rfl) rfl
theorem q767 : (Jvm.Cond.lays "ForkJoinDesk$Frame" "ForkJoinDesk$Frame" "beside" "I") ∈ lw_all := lw_g (lw_at lw_m3 219 rfl) rfl
theorem q768 : (Jvm.Cond.soleField "ForkJoinDesk$Frame" "beside") ∈ lw_all := lw_g (lw_at lw_m3 220 rfl) rfl
theorem q769 : (Jvm.Cond.lays "ForkJoinDesk$Frame" "ForkJoinDesk$Frame" "firstEnd" "I") ∈ lw_all := lw_g (lw_at lw_m3 221 rfl) rfl
theorem q770 : (Jvm.Cond.soleField "ForkJoinDesk$Frame" "firstEnd") ∈ lw_all := lw_g (lw_at lw_m3 222 rfl) rfl
theorem q771 : (Jvm.Cond.lays "ForkJoinDesk$Frame" "ForkJoinDesk$Frame" "from" "I") ∈ lw_all := lw_g (lw_at lw_m3 223 rfl) rfl
theorem q772 : (Jvm.Cond.soleField "ForkJoinDesk$Frame" "from") ∈ lw_all := lw_g (lw_at lw_m3 224 rfl) rfl
theorem q773 : (Jvm.Cond.lays "ForkJoinDesk$Frame" "ForkJoinDesk$Frame" "time" "I") ∈ lw_all := lw_g (lw_at lw_m3 225 rfl) rfl
theorem q774 : (Jvm.Cond.soleField "ForkJoinDesk$Frame" "time") ∈ lw_all := lw_g (lw_at lw_m3 226 rfl) rfl
theorem q775 : (Jvm.Cond.lays "ForkJoinDesk$Frame" "ForkJoinDesk$Frame" "late" "I") ∈ lw_all := lw_g (lw_at lw_m3 227 rfl) rfl
theorem q776 : (Jvm.Cond.soleField "ForkJoinDesk$Frame" "late") ∈ lw_all := lw_g (lw_at lw_m3 228 rfl) rfl
theorem q777 : (Jvm.Cond.lays "ForkJoinDesk$Frame" "ForkJoinDesk$Frame" "open" "I") ∈ lw_all := lw_g (lw_at lw_m3 229 rfl) rfl
theorem q778 : (Jvm.Cond.soleField "ForkJoinDesk$Frame" "open") ∈ lw_all := lw_g (lw_at lw_m3 230 rfl) rfl
theorem q779 : (Jvm.Cond.lays "ForkJoinDesk$Frame" "ForkJoinDesk$Frame" "forker" "LForkJoinDesk$Frame;") ∈ lw_all := lw_g (lw_at lw_m3 231 rfl) rfl
theorem q780 : (Jvm.Cond.soleField "ForkJoinDesk$Frame" "forker") ∈ lw_all := lw_g (lw_at lw_m3 232 rfl) rfl
theorem q781 : (Jvm.Cond.superclass "ForkJoinDesk$Frame" "java/lang/Object") ∈ lw_all := lw_g (lw_at lw_m3 233 rfl) rfl
theorem q810 : (Jvm.Cond.selects "ForkJoinDesk$Frame" ({ cls := "java/lang/Object", name := "getClass", desc := "()Ljava/lang/Class;" } : Jvm.MethodName) ({ cls := "java/lang/Object", name := "getClass", desc := "()Ljava/lang/Class;" } : Jvm.MethodName)) ∈ lw_all := lw_g (lw_at lw_m4 22 rfl) rfl
theorem q847 : (Jvm.Cond.instanceMethod ({ cls := "ForkJoinDesk$Frame", name := "begin", desc := "(IZ)V" } : Jvm.MethodName)) ∈ lw_all := lw_g (lw_at lw_m4 59 rfl) rfl
theorem q848 : (Jvm.Cond.selects "ForkJoinDesk$Frame" ({ cls := "ForkJoinDesk$Frame", name := "begin", desc := "(IZ)V" } : Jvm.MethodName) ({ cls := "ForkJoinDesk$Frame", name := "begin", desc := "(IZ)V" } : Jvm.MethodName)) ∈ lw_all := lw_g (lw_at lw_m4 60 rfl) rfl
theorem q849 : (Jvm.Cond.code ({ cls := "ForkJoinDesk$Frame", name := "begin", desc := "(IZ)V" } : Jvm.MethodName) prog_4_method_2_code (4 : Nat) (Option.none : Option Jvm.ClassFile.FieldType)) ∈ lw_all := lw_g (lw_at lw_m4 61 rfl) rfl
theorem q1909 : (Jvm.Cond.castable "ForkJoinDesk$Frame" "java/lang/Object") ∈ lw_tbl := lw_at lw_m8 161 rfl
theorem in_X10 : ∀ w ∈ wsX100, w ∈ lw_all := lw_in wsX100 [759, 761, 763, 765, 767, 769, 771, 773, 775, 777, 779] (by decide +kernel) (by decide +kernel)
def RX11 : String := "ForkJoinDesk$Race"
def TX11 : u_T := fun k => match k with
  | 0 => ("ForkJoinDesk$Race", "cell", "I", true)
  | 1 => ("ForkJoinDesk$Race", "place", "I", true)
  | 2 => ("ForkJoinDesk$Race", "write", "Z", true)
  | _ => ("ForkJoinDesk$Race", "strand", "I", true)
def tyX11 : Nat → FieldType := fun k => match k with
  | 0 => .int
  | 1 => .int
  | 2 => .boolean
  | _ => .int
abbrev wsX110 : List Cond := u_ws RX11 TX11 4
theorem nmX11 : ∀ a, a < 4 → ∀ b, b < 4 → a ≠ b → (TX11 a).2.1 ≠ (TX11 b).2.1 := by decide +kernel
theorem tyX11_ok : ∀ k, k < 4 → parseFieldDescriptor (TX11 k).2.2.1 = some (tyX11 k) := by decide +kernel
abbrev cX11_init : ByteArray := prog_10_method_1_code
def yX11_init : MethodName := ⟨RX11, "<init>", "(IIZI)V"⟩
theorem q102 : (Jvm.Cond.initialized "ForkJoinDesk$Race") ∈ lw_all := lw_g (lw_at lw_m1 34 rfl) rfl
theorem q815 : (Jvm.Cond.selects "ForkJoinDesk$Race" ({ cls := "java/lang/Object", name := "getClass", desc := "()Ljava/lang/Class;" } : Jvm.MethodName) ({ cls := "java/lang/Object", name := "getClass", desc := "()Ljava/lang/Class;" } : Jvm.MethodName)) ∈ lw_all := lw_g (lw_at lw_m4 27 rfl) rfl
theorem q1280 : (Jvm.Cond.instantiable "ForkJoinDesk$Race" (4 : Nat)) ∈ lw_all := lw_g (lw_at lw_m6 12 rfl) rfl
theorem q1282 : (Jvm.Cond.instanceMethod ({ cls := "ForkJoinDesk$Race", name := "<init>", desc := "(IIZI)V" } : Jvm.MethodName)) ∈ lw_all := lw_g (lw_at lw_m6 14 rfl) rfl
theorem q1283 : (Jvm.Cond.code ({ cls := "ForkJoinDesk$Race", name := "<init>", desc := "(IIZI)V" } : Jvm.MethodName) prog_10_method_1_code (5 : Nat) (Option.none : Option Jvm.ClassFile.FieldType)) ∈ lw_all := lw_g (lw_at lw_m6 15 rfl) rfl
theorem q1284 : (Jvm.Cond.methodLink "ForkJoinDesk$Race" (1 : Nat) ({ cls := "java/lang/Record", name := "<init>", desc := "()V" } : Jvm.MethodName)) ∈ lw_all := lw_g (lw_at lw_m6 16 rfl) rfl
theorem q1285 : (Jvm.Cond.fieldLink "ForkJoinDesk$Race" (7 : Nat) "ForkJoinDesk$Race" "cell" "I") ∈ lw_all := lw_g (lw_at lw_m6 17 rfl) rfl
theorem q1287 : (Jvm.Cond.fieldLink "ForkJoinDesk$Race" (13 : Nat) "ForkJoinDesk$Race" "place" "I") ∈ lw_all := lw_g (lw_at lw_m6 19 rfl) rfl
theorem q1289 : (Jvm.Cond.fieldLink "ForkJoinDesk$Race" (16 : Nat) "ForkJoinDesk$Race" "write" "Z") ∈ lw_all := lw_g (lw_at lw_m6 21 rfl) rfl
theorem q1291 : (Jvm.Cond.fieldLink "ForkJoinDesk$Race" (20 : Nat) "ForkJoinDesk$Race" "strand" "I") ∈ lw_all := lw_g (lw_at lw_m6 23 rfl) rfl
theorem q1293 : (Jvm.Cond.laysFinal "ForkJoinDesk$Race" "ForkJoinDesk$Race" "cell" "I") ∈ lw_all := lw_g (lw_at lw_m6 25 rfl) rfl
theorem q1294 : (Jvm.Cond.soleField "ForkJoinDesk$Race" "cell") ∈ lw_all := lw_g (lw_at lw_m6 26 rfl) rfl
theorem q1295 : (Jvm.Cond.laysFinal "ForkJoinDesk$Race" "ForkJoinDesk$Race" "place" "I") ∈ lw_all := lw_g (lw_at lw_m6 27 rfl) rfl
theorem q1296 : (Jvm.Cond.soleField "ForkJoinDesk$Race" "place") ∈ lw_all := lw_g (lw_at lw_m6 28 rfl) rfl
theorem q1297 : (Jvm.Cond.laysFinal "ForkJoinDesk$Race" "ForkJoinDesk$Race" "write" "Z") ∈ lw_all := lw_g (lw_at lw_m6 29 rfl) rfl
theorem q1298 : (Jvm.Cond.soleField "ForkJoinDesk$Race" "write") ∈ lw_all := lw_g (lw_at lw_m6 30 rfl) rfl
theorem q1299 : (Jvm.Cond.laysFinal "ForkJoinDesk$Race" "ForkJoinDesk$Race" "strand" "I") ∈ lw_all := lw_g (lw_at lw_m6 31 rfl) rfl
theorem q1300 : (Jvm.Cond.soleField "ForkJoinDesk$Race" "strand") ∈ lw_all := lw_g (lw_at lw_m6 32 rfl) rfl
theorem q1301 : (Jvm.Cond.superclass "ForkJoinDesk$Race" "java/lang/Record") ∈ lw_all := lw_g (lw_at lw_m6 33 rfl) rfl
theorem q1911 : (Jvm.Cond.castable "ForkJoinDesk$Race" "java/lang/Object") ∈ lw_tbl := lw_at lw_m8 163 rfl
theorem in_X11 : ∀ w ∈ wsX110, w ∈ lw_all := lw_in wsX110 [1293, 1295, 1297, 1299] (by decide +kernel) (by decide +kernel)
def RX2 : String := "ForkJoinDesk$Compiler"
def TX2 : u_T := fun k => match k with
  | 0 => ("ForkJoinDesk$Compiler", "text", "[B", false)
  | 1 => ("ForkJoinDesk$Compiler", "size", "I", false)
  | 2 => ("ForkJoinDesk$Compiler", "at", "I", false)
  | 3 => ("ForkJoinDesk$Compiler", "place", "I", false)
  | 4 => ("ForkJoinDesk$Compiler", "program", "LForkJoinDesk$Program;", false)
  | 5 => ("ForkJoinDesk$Compiler", "uses", "Ljava/util/ArrayList;", true)
  | _ => ("ForkJoinDesk$Compiler", "given", "[I", true)
def tyX2 : Nat → FieldType := fun k => match k with
  | 0 => .array .byte
  | 1 => .int
  | 2 => .int
  | 3 => .int
  | 4 => .object "ForkJoinDesk$Program"
  | 5 => .object "java/util/ArrayList"
  | _ => .array .int
abbrev wsX20 : List Cond := u_ws RX2 TX2 7
theorem nmX2 : ∀ a, a < 7 → ∀ b, b < 7 → a ≠ b → (TX2 a).2.1 ≠ (TX2 b).2.1 := by decide +kernel
theorem tyX2_ok : ∀ k, k < 7 → parseFieldDescriptor (TX2 k).2.2.1 = some (tyX2 k) := by decide +kernel
abbrev cX2_init : ByteArray := prog_2_method_1_code
def yX2_init : MethodName := ⟨RX2, "<init>", "()V"⟩
abbrev cX2_read : ByteArray := prog_2_method_9_code
def yX2_read : MethodName := ⟨RX2, "read", "([BI)LForkJoinDesk$Program;"⟩
abbrev cX2_procedureComes : ByteArray := prog_2_method_11_code
def yX2_procedureComes : MethodName := ⟨RX2, "procedureComes", "()V"⟩
abbrev cX2_here : ByteArray := prog_2_method_3_code
def yX2_here : MethodName := ⟨RX2, "here", "()I"⟩
abbrev cX2_isName : ByteArray := prog_2_method_6_code
def yX2_isName : MethodName := ⟨RX2, "isName", "(I)Z"⟩
abbrev cX2_wrong : ByteArray := prog_2_method_2_code
def yX2_wrong : MethodName := ⟨RX2, "wrong", "(I)Ljava/lang/IllegalArgumentException;"⟩
abbrev cX2_need : ByteArray := prog_2_method_5_code
def yX2_need : MethodName := ⟨RX2, "need", "(I)V"⟩
abbrev cX2_takes : ByteArray := prog_2_method_4_code
def yX2_takes : MethodName := ⟨RX2, "takes", "(I)Z"⟩
abbrev cX2_parameter : ByteArray := prog_2_method_12_code
def yX2_parameter : MethodName := ⟨RX2, "parameter", "(I)V"⟩
abbrev cX2_isVariable : ByteArray := prog_2_method_7_code
def yX2_isVariable : MethodName := ⟨RX2, "isVariable", "(I)Z"⟩
abbrev cX2_comma : ByteArray := prog_2_method_13_code
def yX2_comma : MethodName := ⟨RX2, "comma", "()I"⟩
abbrev cX2_block : ByteArray := prog_2_method_15_code
def yX2_block : MethodName := ⟨RX2, "block", "(I)V"⟩
abbrev cX2_open : ByteArray := prog_2_method_14_code
def yX2_open : MethodName := ⟨RX2, "open", "(II)V"⟩
abbrev cX2_statement : ByteArray := prog_2_method_16_code
def yX2_statement : MethodName := ⟨RX2, "statement", "(I)V"⟩
abbrev cX2_choice : ByteArray := prog_2_method_18_code
def yX2_choice : MethodName := ⟨RX2, "choice", "(ZI)V"⟩
abbrev cX2_bracket : ByteArray := prog_2_method_20_code
def yX2_bracket : MethodName := ⟨RX2, "bracket", "(I)V"⟩
abbrev cX2_expression : ByteArray := prog_2_method_21_code
def yX2_expression : MethodName := ⟨RX2, "expression", "(I)V"⟩
abbrev cX2_sum : ByteArray := prog_2_method_22_code
def yX2_sum : MethodName := ⟨RX2, "sum", "(I)V"⟩
abbrev cX2_product : ByteArray := prog_2_method_23_code
def yX2_product : MethodName := ⟨RX2, "product", "(I)V"⟩
abbrev cX2_atom : ByteArray := prog_2_method_24_code
def yX2_atom : MethodName := ⟨RX2, "atom", "(II)V"⟩
abbrev cX2_emit : ByteArray := prog_2_method_8_code
def yX2_emit : MethodName := ⟨RX2, "emit", "(LForkJoinDesk$Op;II)V"⟩
abbrev cX2_number : ByteArray := prog_2_method_25_code
def yX2_number : MethodName := ⟨RX2, "number", "()V"⟩
abbrev cX2_put : ByteArray := prog_2_method_19_code
def yX2_put : MethodName := ⟨RX2, "put", "(II)V"⟩
abbrev cX2_use : ByteArray := prog_2_method_17_code
def yX2_use : MethodName := ⟨RX2, "use", "(ZI)V"⟩
abbrev cX2_resolved : ByteArray := prog_2_method_10_code
def yX2_resolved : MethodName := ⟨RX2, "resolved", "()LForkJoinDesk$Program;"⟩
theorem q70 : (Jvm.Cond.initialized "ForkJoinDesk$Compiler") ∈ lw_all := lw_g (lw_at lw_m1 2 rfl) rfl
theorem q114 : (Jvm.Cond.instantiable "ForkJoinDesk$Compiler" (7 : Nat)) ∈ lw_all := lw_g (lw_at lw_m1 46 rfl) rfl
theorem q116 : (Jvm.Cond.instanceMethod ({ cls := "ForkJoinDesk$Compiler", name := "<init>", desc := "()V" } : Jvm.MethodName)) ∈ lw_all := lw_g (lw_at lw_m1 48 rfl) rfl
theorem q117 : (Jvm.Cond.code ({ cls := "ForkJoinDesk$Compiler", name := "<init>", desc := "()V" } : Jvm.MethodName) prog_2_method_1_code (1 : Nat) (Option.none : Option Jvm.ClassFile.FieldType)) ∈ lw_all := lw_g (lw_at lw_m1 49 rfl) rfl
theorem q118 : (Jvm.Cond.methodLink "ForkJoinDesk$Compiler" (3 : Nat) ({ cls := "java/lang/Object", name := "<init>", desc := "()V" } : Jvm.MethodName)) ∈ lw_all := lw_g (lw_at lw_m1 50 rfl) rfl
theorem q119 : (Jvm.Cond.classLink "ForkJoinDesk$Compiler" (15 : Nat) "java/util/ArrayList") ∈ lw_all := lw_g (lw_at lw_m1 51 rfl) rfl
theorem q121 : (Jvm.Cond.methodLink "ForkJoinDesk$Compiler" (17 : Nat) ({ cls := "java/util/ArrayList", name := "<init>", desc := "(I)V" } : Jvm.MethodName)) ∈ lw_all := lw_g (lw_at lw_m1 53 rfl) rfl
theorem q460 : (Jvm.Cond.fieldLink "ForkJoinDesk$Compiler" (37 : Nat) "ForkJoinDesk$Compiler" "text" "[B") ∈ lw_all := lw_g (lw_at lw_m2 152 rfl) rfl
theorem q461 : (Jvm.Cond.fieldLink "ForkJoinDesk$Compiler" (34 : Nat) "ForkJoinDesk$Compiler" "size" "I") ∈ lw_all := lw_g (lw_at lw_m2 153 rfl) rfl
theorem q462 : (Jvm.Cond.fieldLink "ForkJoinDesk$Compiler" (31 : Nat) "ForkJoinDesk$Compiler" "at" "I") ∈ lw_all := lw_g (lw_at lw_m2 154 rfl) rfl
theorem q463 : (Jvm.Cond.fieldLink "ForkJoinDesk$Compiler" (9 : Nat) "ForkJoinDesk$Compiler" "place" "I") ∈ lw_all := lw_g (lw_at lw_m2 155 rfl) rfl
theorem q465 : (Jvm.Cond.fieldLink "ForkJoinDesk$Compiler" (53 : Nat) "ForkJoinDesk$Compiler" "program" "LForkJoinDesk$Program;") ∈ lw_all := lw_g (lw_at lw_m2 157 rfl) rfl
theorem q466 : (Jvm.Cond.fieldLink "ForkJoinDesk$Compiler" (20 : Nat) "ForkJoinDesk$Compiler" "uses" "Ljava/util/ArrayList;") ∈ lw_all := lw_g (lw_at lw_m2 158 rfl) rfl
theorem q467 : (Jvm.Cond.fieldLink "ForkJoinDesk$Compiler" (24 : Nat) "ForkJoinDesk$Compiler" "given" "[I") ∈ lw_all := lw_g (lw_at lw_m2 159 rfl) rfl
theorem q468 : (Jvm.Cond.lays "ForkJoinDesk$Compiler" "ForkJoinDesk$Compiler" "text" "[B") ∈ lw_all := lw_g (lw_at lw_m2 160 rfl) rfl
theorem q469 : (Jvm.Cond.soleField "ForkJoinDesk$Compiler" "text") ∈ lw_all := lw_g (lw_at lw_m2 161 rfl) rfl
theorem q470 : (Jvm.Cond.lays "ForkJoinDesk$Compiler" "ForkJoinDesk$Compiler" "size" "I") ∈ lw_all := lw_g (lw_at lw_m2 162 rfl) rfl
theorem q471 : (Jvm.Cond.soleField "ForkJoinDesk$Compiler" "size") ∈ lw_all := lw_g (lw_at lw_m2 163 rfl) rfl
theorem q472 : (Jvm.Cond.lays "ForkJoinDesk$Compiler" "ForkJoinDesk$Compiler" "at" "I") ∈ lw_all := lw_g (lw_at lw_m2 164 rfl) rfl
theorem q473 : (Jvm.Cond.soleField "ForkJoinDesk$Compiler" "at") ∈ lw_all := lw_g (lw_at lw_m2 165 rfl) rfl
theorem q474 : (Jvm.Cond.lays "ForkJoinDesk$Compiler" "ForkJoinDesk$Compiler" "place" "I") ∈ lw_all := lw_g (lw_at lw_m2 166 rfl) rfl
theorem q475 : (Jvm.Cond.soleField "ForkJoinDesk$Compiler" "place") ∈ lw_all := lw_g (lw_at lw_m2 167 rfl) rfl
theorem q476 : (Jvm.Cond.lays "ForkJoinDesk$Compiler" "ForkJoinDesk$Compiler" "program" "LForkJoinDesk$Program;") ∈ lw_all := lw_g (lw_at lw_m2 168 rfl) rfl
theorem q477 : (Jvm.Cond.soleField "ForkJoinDesk$Compiler" "program") ∈ lw_all := lw_g (lw_at lw_m2 169 rfl) rfl
theorem q478 : (Jvm.Cond.laysFinal "ForkJoinDesk$Compiler" "ForkJoinDesk$Compiler" "uses" "Ljava/util/ArrayList;") ∈ lw_all := lw_g (lw_at lw_m2 170 rfl) rfl
theorem q479 : (Jvm.Cond.soleField "ForkJoinDesk$Compiler" "uses") ∈ lw_all := lw_g (lw_at lw_m2 171 rfl) rfl
theorem q480 : (Jvm.Cond.laysFinal "ForkJoinDesk$Compiler" "ForkJoinDesk$Compiler" "given" "[I") ∈ lw_all := lw_g (lw_at lw_m2 172 rfl) rfl
theorem q481 : (Jvm.Cond.soleField "ForkJoinDesk$Compiler" "given") ∈ lw_all := lw_g (lw_at lw_m2 173 rfl) rfl
theorem q482 : (Jvm.Cond.superclass "ForkJoinDesk$Compiler" "java/lang/Object") ∈ lw_all := lw_g (lw_at lw_m2 174 rfl) rfl
theorem q808 : (Jvm.Cond.selects "ForkJoinDesk$Compiler" ({ cls := "java/lang/Object", name := "getClass", desc := "()Ljava/lang/Class;" } : Jvm.MethodName) ({ cls := "java/lang/Object", name := "getClass", desc := "()Ljava/lang/Class;" } : Jvm.MethodName)) ∈ lw_all := lw_g (lw_at lw_m4 20 rfl) rfl
theorem q910 : (Jvm.Cond.instanceMethod ({ cls := "ForkJoinDesk$Compiler", name := "read", desc := "([BI)LForkJoinDesk$Program;" } : Jvm.MethodName)) ∈ lw_all := lw_g (lw_at lw_m4 122 rfl) rfl
theorem q911 : (Jvm.Cond.selects "ForkJoinDesk$Compiler" ({ cls := "ForkJoinDesk$Compiler", name := "read", desc := "([BI)LForkJoinDesk$Program;" } : Jvm.MethodName) ({ cls := "ForkJoinDesk$Compiler", name := "read", desc := "([BI)LForkJoinDesk$Program;" } : Jvm.MethodName)) ∈ lw_all := lw_g (lw_at lw_m4 123 rfl) rfl
theorem q912 : (Jvm.Cond.code ({ cls := "ForkJoinDesk$Compiler", name := "read", desc := "([BI)LForkJoinDesk$Program;" } : Jvm.MethodName) prog_2_method_9_code (5 : Nat) (Option.some (Jvm.ClassFile.FieldType.object "ForkJoinDesk$Program"))) ∈ lw_all := lw_g (lw_at lw_m4 124 rfl) rfl
theorem q913 : (Jvm.Cond.classLink "ForkJoinDesk$Compiler" (58 : Nat) "ForkJoinDesk$Program") ∈ lw_all := lw_g (lw_at lw_m4 125 rfl) rfl
theorem q915 : (Jvm.Cond.methodLinkNest "ForkJoinDesk$Compiler" (71 : Nat) ({ cls := "ForkJoinDesk$Program", name := "<init>", desc := "()V" } : Jvm.MethodName) "ForkJoinDesk") ∈ lw_tbl := lw_at lw_m4 127 rfl
theorem q923 : (Jvm.Cond.fieldLinkNest "ForkJoinDesk$Compiler" (57 : Nat) "ForkJoinDesk$Program" "code" "Ljava/util/ArrayList;" "ForkJoinDesk") ∈ lw_tbl := lw_at lw_m4 135 rfl
theorem q928 : (Jvm.Cond.fieldLinkNest "ForkJoinDesk$Compiler" (124 : Nat) "ForkJoinDesk$Program" "begin" "[I" "ForkJoinDesk") ∈ lw_tbl := lw_at lw_m4 140 rfl
theorem q931 : (Jvm.Cond.fieldLinkNest "ForkJoinDesk$Compiler" (91 : Nat) "ForkJoinDesk$Program" "many" "[I" "ForkJoinDesk") ∈ lw_tbl := lw_at lw_m4 143 rfl
theorem q935 : (Jvm.Cond.fieldLinkNest "ForkJoinDesk$Compiler" (148 : Nat) "ForkJoinDesk$Program" "parameters" "[I" "ForkJoinDesk") ∈ lw_tbl := lw_at lw_m4 147 rfl
theorem q937 : (Jvm.Cond.fieldLinkNest "ForkJoinDesk$Compiler" (121 : Nat) "ForkJoinDesk$Program" "names" "[I" "ForkJoinDesk") ∈ lw_tbl := lw_at lw_m4 149 rfl
theorem q939 : (Jvm.Cond.fieldLinkNest "ForkJoinDesk$Compiler" (115 : Nat) "ForkJoinDesk$Program" "procedures" "I" "ForkJoinDesk") ∈ lw_tbl := lw_at lw_m4 151 rfl
theorem q953 : (Jvm.Cond.methodLink "ForkJoinDesk$Compiler" (72 : Nat) ({ cls := "java/util/ArrayList", name := "clear", desc := "()V" } : Jvm.MethodName)) ∈ lw_all := lw_g (lw_at lw_m4 165 rfl) rfl
theorem q954 : (Jvm.Cond.methodLink "ForkJoinDesk$Compiler" (75 : Nat) ({ cls := "ForkJoinDesk$Compiler", name := "procedureComes", desc := "()V" } : Jvm.MethodName)) ∈ lw_all := lw_g (lw_at lw_m4 166 rfl) rfl
theorem q955 : (Jvm.Cond.privateMethod ({ cls := "ForkJoinDesk$Compiler", name := "procedureComes", desc := "()V" } : Jvm.MethodName)) ∈ lw_tbl := lw_at lw_m4 167 rfl
theorem q956 : (Jvm.Cond.instanceMethod ({ cls := "ForkJoinDesk$Compiler", name := "procedureComes", desc := "()V" } : Jvm.MethodName)) ∈ lw_all := lw_g (lw_at lw_m4 168 rfl) rfl
theorem q957 : (Jvm.Cond.code ({ cls := "ForkJoinDesk$Compiler", name := "procedureComes", desc := "()V" } : Jvm.MethodName) prog_2_method_11_code (3 : Nat) (Option.none : Option Jvm.ClassFile.FieldType)) ∈ lw_all := lw_g (lw_at lw_m4 169 rfl) rfl
theorem q958 : (Jvm.Cond.methodLink "ForkJoinDesk$Compiler" (41 : Nat) ({ cls := "ForkJoinDesk$Compiler", name := "here", desc := "()I" } : Jvm.MethodName)) ∈ lw_all := lw_g (lw_at lw_m4 170 rfl) rfl
theorem q959 : (Jvm.Cond.privateMethod ({ cls := "ForkJoinDesk$Compiler", name := "here", desc := "()I" } : Jvm.MethodName)) ∈ lw_tbl := lw_at lw_m4 171 rfl
theorem q960 : (Jvm.Cond.instanceMethod ({ cls := "ForkJoinDesk$Compiler", name := "here", desc := "()I" } : Jvm.MethodName)) ∈ lw_all := lw_g (lw_at lw_m4 172 rfl) rfl
theorem q961 : (Jvm.Cond.code ({ cls := "ForkJoinDesk$Compiler", name := "here", desc := "()I" } : Jvm.MethodName) prog_2_method_3_code (1 : Nat) (Option.some Jvm.ClassFile.FieldType.int)) ∈ lw_all := lw_g (lw_at lw_m4 173 rfl) rfl
theorem q962 : (Jvm.Cond.methodLink "ForkJoinDesk$Compiler" (118 : Nat) ({ cls := "ForkJoinDesk$Compiler", name := "isName", desc := "(I)Z" } : Jvm.MethodName)) ∈ lw_all := lw_g (lw_at lw_m4 174 rfl) rfl
theorem q963 : (Jvm.Cond.static ({ cls := "ForkJoinDesk$Compiler", name := "isName", desc := "(I)Z" } : Jvm.MethodName)) ∈ lw_all := lw_g (lw_at lw_m4 175 rfl) rfl
theorem q964 : (Jvm.Cond.code ({ cls := "ForkJoinDesk$Compiler", name := "isName", desc := "(I)Z" } : Jvm.MethodName) prog_2_method_6_code (1 : Nat) (Option.some Jvm.ClassFile.FieldType.boolean)) ∈ lw_all := lw_g (lw_at lw_m4 176 rfl) rfl
theorem q965 : (Jvm.Cond.methodLink "ForkJoinDesk$Compiler" (87 : Nat) ({ cls := "ForkJoinDesk$Program", name := "find", desc := "(I)I" } : Jvm.MethodName)) ∈ lw_all := lw_g (lw_at lw_m4 177 rfl) rfl
theorem q969 : (Jvm.Cond.methodLink "ForkJoinDesk$Compiler" (49 : Nat) ({ cls := "ForkJoinDesk$Compiler", name := "wrong", desc := "(I)Ljava/lang/IllegalArgumentException;" } : Jvm.MethodName)) ∈ lw_all := lw_g (lw_at lw_m4 181 rfl) rfl
theorem q970 : (Jvm.Cond.privateMethod ({ cls := "ForkJoinDesk$Compiler", name := "wrong", desc := "(I)Ljava/lang/IllegalArgumentException;" } : Jvm.MethodName)) ∈ lw_tbl := lw_at lw_m4 182 rfl
theorem q971 : (Jvm.Cond.instanceMethod ({ cls := "ForkJoinDesk$Compiler", name := "wrong", desc := "(I)Ljava/lang/IllegalArgumentException;" } : Jvm.MethodName)) ∈ lw_all := lw_g (lw_at lw_m4 183 rfl) rfl
theorem q972 : (Jvm.Cond.code ({ cls := "ForkJoinDesk$Compiler", name := "wrong", desc := "(I)Ljava/lang/IllegalArgumentException;" } : Jvm.MethodName) prog_2_method_2_code (2 : Nat) (Option.some (Jvm.ClassFile.FieldType.object "java/lang/IllegalArgumentException"))) ∈ lw_all := lw_g (lw_at lw_m4 184 rfl) rfl
theorem q973 : (Jvm.Cond.classLink "ForkJoinDesk$Compiler" (28 : Nat) "java/lang/IllegalArgumentException") ∈ lw_all := lw_g (lw_at lw_m4 185 rfl) rfl
theorem q974 : (Jvm.Cond.methodLink "ForkJoinDesk$Compiler" (30 : Nat) ({ cls := "java/lang/IllegalArgumentException", name := "<init>", desc := "()V" } : Jvm.MethodName)) ∈ lw_all := lw_g (lw_at lw_m4 186 rfl) rfl
theorem q984 : (Jvm.Cond.methodLink "ForkJoinDesk$Compiler" (78 : Nat) ({ cls := "java/util/ArrayList", name := "size", desc := "()I" } : Jvm.MethodName)) ∈ lw_all := lw_g (lw_at lw_m4 196 rfl) rfl
theorem q985 : (Jvm.Cond.methodLink "ForkJoinDesk$Compiler" (127 : Nat) ({ cls := "ForkJoinDesk$Compiler", name := "need", desc := "(I)V" } : Jvm.MethodName)) ∈ lw_all := lw_g (lw_at lw_m4 197 rfl) rfl
theorem q986 : (Jvm.Cond.privateMethod ({ cls := "ForkJoinDesk$Compiler", name := "need", desc := "(I)V" } : Jvm.MethodName)) ∈ lw_tbl := lw_at lw_m4 198 rfl
theorem q987 : (Jvm.Cond.instanceMethod ({ cls := "ForkJoinDesk$Compiler", name := "need", desc := "(I)V" } : Jvm.MethodName)) ∈ lw_all := lw_g (lw_at lw_m4 199 rfl) rfl
theorem q988 : (Jvm.Cond.code ({ cls := "ForkJoinDesk$Compiler", name := "need", desc := "(I)V" } : Jvm.MethodName) prog_2_method_5_code (2 : Nat) (Option.none : Option Jvm.ClassFile.FieldType)) ∈ lw_all := lw_g (lw_at lw_m4 200 rfl) rfl
theorem q989 : (Jvm.Cond.methodLink "ForkJoinDesk$Compiler" (45 : Nat) ({ cls := "ForkJoinDesk$Compiler", name := "takes", desc := "(I)Z" } : Jvm.MethodName)) ∈ lw_all := lw_g (lw_at lw_m4 201 rfl) rfl
theorem q990 : (Jvm.Cond.privateMethod ({ cls := "ForkJoinDesk$Compiler", name := "takes", desc := "(I)Z" } : Jvm.MethodName)) ∈ lw_tbl := lw_at lw_m4 202 rfl
theorem q991 : (Jvm.Cond.instanceMethod ({ cls := "ForkJoinDesk$Compiler", name := "takes", desc := "(I)Z" } : Jvm.MethodName)) ∈ lw_all := lw_g (lw_at lw_m4 203 rfl) rfl
theorem q992 : (Jvm.Cond.code ({ cls := "ForkJoinDesk$Compiler", name := "takes", desc := "(I)Z" } : Jvm.MethodName) prog_2_method_4_code (2 : Nat) (Option.some Jvm.ClassFile.FieldType.boolean)) ∈ lw_all := lw_g (lw_at lw_m4 204 rfl) rfl
theorem q993 : (Jvm.Cond.methodLink "ForkJoinDesk$Compiler" (130 : Nat) ({ cls := "ForkJoinDesk$Compiler", name := "parameter", desc := "(I)V" } : Jvm.MethodName)) ∈ lw_all := lw_g (lw_at lw_m4 205 rfl) rfl
theorem q994 : (Jvm.Cond.privateMethod ({ cls := "ForkJoinDesk$Compiler", name := "parameter", desc := "(I)V" } : Jvm.MethodName)) ∈ lw_tbl := lw_at lw_m4 206 rfl
theorem q995 : (Jvm.Cond.instanceMethod ({ cls := "ForkJoinDesk$Compiler", name := "parameter", desc := "(I)V" } : Jvm.MethodName)) ∈ lw_all := lw_g (lw_at lw_m4 207 rfl) rfl
theorem q996 : (Jvm.Cond.code ({ cls := "ForkJoinDesk$Compiler", name := "parameter", desc := "(I)V" } : Jvm.MethodName) prog_2_method_12_code (5 : Nat) (Option.none : Option Jvm.ClassFile.FieldType)) ∈ lw_all := lw_g (lw_at lw_m4 208 rfl) rfl
theorem q997 : (Jvm.Cond.methodLink "ForkJoinDesk$Compiler" (142 : Nat) ({ cls := "ForkJoinDesk$Compiler", name := "isVariable", desc := "(I)Z" } : Jvm.MethodName)) ∈ lw_all := lw_g (lw_at lw_m4 209 rfl) rfl
theorem q998 : (Jvm.Cond.static ({ cls := "ForkJoinDesk$Compiler", name := "isVariable", desc := "(I)Z" } : Jvm.MethodName)) ∈ lw_all := lw_g (lw_at lw_m4 210 rfl) rfl
theorem q999 : (Jvm.Cond.code ({ cls := "ForkJoinDesk$Compiler", name := "isVariable", desc := "(I)Z" } : Jvm.MethodName) prog_2_method_7_code (1 : Nat) (Option.some Jvm.ClassFile.FieldType.boolean)) ∈ lw_all := lw_g (lw_at lw_m4 211 rfl) rfl
theorem q1000 : (Jvm.Cond.methodLink "ForkJoinDesk$Compiler" (145 : Nat) ({ cls := "ForkJoinDesk$Compiler", name := "comma", desc := "()I" } : Jvm.MethodName)) ∈ lw_all := lw_g (lw_at lw_m4 212 rfl) rfl
theorem q1001 : (Jvm.Cond.privateMethod ({ cls := "ForkJoinDesk$Compiler", name := "comma", desc := "()I" } : Jvm.MethodName)) ∈ lw_tbl := lw_at lw_m4 213 rfl
theorem q1002 : (Jvm.Cond.instanceMethod ({ cls := "ForkJoinDesk$Compiler", name := "comma", desc := "()I" } : Jvm.MethodName)) ∈ lw_all := lw_g (lw_at lw_m4 214 rfl) rfl
theorem q1003 : (Jvm.Cond.code ({ cls := "ForkJoinDesk$Compiler", name := "comma", desc := "()I" } : Jvm.MethodName) prog_2_method_13_code (2 : Nat) (Option.some Jvm.ClassFile.FieldType.int)) ∈ lw_all := lw_g (lw_at lw_m4 215 rfl) rfl
theorem q1004 : (Jvm.Cond.methodLink "ForkJoinDesk$Compiler" (133 : Nat) ({ cls := "ForkJoinDesk$Compiler", name := "block", desc := "(I)V" } : Jvm.MethodName)) ∈ lw_all := lw_g (lw_at lw_m4 216 rfl) rfl
theorem q1005 : (Jvm.Cond.privateMethod ({ cls := "ForkJoinDesk$Compiler", name := "block", desc := "(I)V" } : Jvm.MethodName)) ∈ lw_tbl := lw_at lw_m4 217 rfl
theorem q1006 : (Jvm.Cond.instanceMethod ({ cls := "ForkJoinDesk$Compiler", name := "block", desc := "(I)V" } : Jvm.MethodName)) ∈ lw_all := lw_g (lw_at lw_m4 218 rfl) rfl
theorem q1007 : (Jvm.Cond.code ({ cls := "ForkJoinDesk$Compiler", name := "block", desc := "(I)V" } : Jvm.MethodName) prog_2_method_15_code (2 : Nat) (Option.none : Option Jvm.ClassFile.FieldType)) ∈ lw_all := lw_g (lw_at lw_m4 219 rfl) rfl
theorem q1008 : (Jvm.Cond.methodLink "ForkJoinDesk$Compiler" (151 : Nat) ({ cls := "ForkJoinDesk$Compiler", name := "open", desc := "(II)V" } : Jvm.MethodName)) ∈ lw_all := lw_g (lw_at lw_m4 220 rfl) rfl
theorem q1009 : (Jvm.Cond.privateMethod ({ cls := "ForkJoinDesk$Compiler", name := "open", desc := "(II)V" } : Jvm.MethodName)) ∈ lw_tbl := lw_at lw_m4 221 rfl
theorem q1010 : (Jvm.Cond.instanceMethod ({ cls := "ForkJoinDesk$Compiler", name := "open", desc := "(II)V" } : Jvm.MethodName)) ∈ lw_all := lw_g (lw_at lw_m4 222 rfl) rfl
theorem q1011 : (Jvm.Cond.code ({ cls := "ForkJoinDesk$Compiler", name := "open", desc := "(II)V" } : Jvm.MethodName) prog_2_method_14_code (3 : Nat) (Option.none : Option Jvm.ClassFile.FieldType)) ∈ lw_all := lw_g (lw_at lw_m4 223 rfl) rfl
theorem q1012 : (Jvm.Cond.methodLink "ForkJoinDesk$Compiler" (155 : Nat) ({ cls := "ForkJoinDesk$Compiler", name := "statement", desc := "(I)V" } : Jvm.MethodName)) ∈ lw_all := lw_g (lw_at lw_m4 224 rfl) rfl
theorem q1013 : (Jvm.Cond.privateMethod ({ cls := "ForkJoinDesk$Compiler", name := "statement", desc := "(I)V" } : Jvm.MethodName)) ∈ lw_tbl := lw_at lw_m4 225 rfl
theorem q1014 : (Jvm.Cond.instanceMethod ({ cls := "ForkJoinDesk$Compiler", name := "statement", desc := "(I)V" } : Jvm.MethodName)) ∈ lw_all := lw_g (lw_at lw_m4 226 rfl) rfl
theorem q1015 : (Jvm.Cond.code ({ cls := "ForkJoinDesk$Compiler", name := "statement", desc := "(I)V" } : Jvm.MethodName) prog_2_method_16_code (5 : Nat) (Option.none : Option Jvm.ClassFile.FieldType)) ∈ lw_all := lw_g (lw_at lw_m4 227 rfl) rfl
theorem q1016 : (Jvm.Cond.methodLink "ForkJoinDesk$Compiler" (158 : Nat) ({ cls := "ForkJoinDesk$Compiler", name := "choice", desc := "(ZI)V" } : Jvm.MethodName)) ∈ lw_all := lw_g (lw_at lw_m4 228 rfl) rfl
theorem q1017 : (Jvm.Cond.privateMethod ({ cls := "ForkJoinDesk$Compiler", name := "choice", desc := "(ZI)V" } : Jvm.MethodName)) ∈ lw_tbl := lw_at lw_m4 229 rfl
theorem q1018 : (Jvm.Cond.instanceMethod ({ cls := "ForkJoinDesk$Compiler", name := "choice", desc := "(ZI)V" } : Jvm.MethodName)) ∈ lw_all := lw_g (lw_at lw_m4 230 rfl) rfl
theorem q1019 : (Jvm.Cond.code ({ cls := "ForkJoinDesk$Compiler", name := "choice", desc := "(ZI)V" } : Jvm.MethodName) prog_2_method_18_code (7 : Nat) (Option.none : Option Jvm.ClassFile.FieldType)) ∈ lw_all := lw_g (lw_at lw_m4 231 rfl) rfl
theorem q1020 : (Jvm.Cond.methodLink "ForkJoinDesk$Compiler" (168 : Nat) ({ cls := "ForkJoinDesk$Compiler", name := "bracket", desc := "(I)V" } : Jvm.MethodName)) ∈ lw_all := lw_g (lw_at lw_m4 232 rfl) rfl
theorem q1021 : (Jvm.Cond.privateMethod ({ cls := "ForkJoinDesk$Compiler", name := "bracket", desc := "(I)V" } : Jvm.MethodName)) ∈ lw_tbl := lw_at lw_m4 233 rfl
theorem q1022 : (Jvm.Cond.instanceMethod ({ cls := "ForkJoinDesk$Compiler", name := "bracket", desc := "(I)V" } : Jvm.MethodName)) ∈ lw_all := lw_g (lw_at lw_m4 234 rfl) rfl
theorem q1023 : (Jvm.Cond.code ({ cls := "ForkJoinDesk$Compiler", name := "bracket", desc := "(I)V" } : Jvm.MethodName) prog_2_method_20_code (2 : Nat) (Option.none : Option Jvm.ClassFile.FieldType)) ∈ lw_all := lw_g (lw_at lw_m4 235 rfl) rfl
theorem q1024 : (Jvm.Cond.methodLink "ForkJoinDesk$Compiler" (162 : Nat) ({ cls := "ForkJoinDesk$Compiler", name := "expression", desc := "(I)V" } : Jvm.MethodName)) ∈ lw_all := lw_g (lw_at lw_m4 236 rfl) rfl
theorem q1025 : (Jvm.Cond.privateMethod ({ cls := "ForkJoinDesk$Compiler", name := "expression", desc := "(I)V" } : Jvm.MethodName)) ∈ lw_tbl := lw_at lw_m4 237 rfl
theorem q1026 : (Jvm.Cond.instanceMethod ({ cls := "ForkJoinDesk$Compiler", name := "expression", desc := "(I)V" } : Jvm.MethodName)) ∈ lw_all := lw_g (lw_at lw_m4 238 rfl) rfl
theorem q1027 : (Jvm.Cond.code ({ cls := "ForkJoinDesk$Compiler", name := "expression", desc := "(I)V" } : Jvm.MethodName) prog_2_method_21_code (3 : Nat) (Option.none : Option Jvm.ClassFile.FieldType)) ∈ lw_all := lw_g (lw_at lw_m4 239 rfl) rfl
theorem q1028 : (Jvm.Cond.methodLink "ForkJoinDesk$Compiler" (195 : Nat) ({ cls := "ForkJoinDesk$Compiler", name := "sum", desc := "(I)V" } : Jvm.MethodName)) ∈ lw_all := lw_g (lw_at lw_m5 0 rfl) rfl
theorem q1029 : (Jvm.Cond.privateMethod ({ cls := "ForkJoinDesk$Compiler", name := "sum", desc := "(I)V" } : Jvm.MethodName)) ∈ lw_tbl := lw_at lw_m5 1 rfl
theorem q1030 : (Jvm.Cond.instanceMethod ({ cls := "ForkJoinDesk$Compiler", name := "sum", desc := "(I)V" } : Jvm.MethodName)) ∈ lw_all := lw_g (lw_at lw_m5 2 rfl) rfl
theorem q1031 : (Jvm.Cond.code ({ cls := "ForkJoinDesk$Compiler", name := "sum", desc := "(I)V" } : Jvm.MethodName) prog_2_method_22_code (3 : Nat) (Option.none : Option Jvm.ClassFile.FieldType)) ∈ lw_all := lw_g (lw_at lw_m5 3 rfl) rfl
theorem q1032 : (Jvm.Cond.methodLink "ForkJoinDesk$Compiler" (204 : Nat) ({ cls := "ForkJoinDesk$Compiler", name := "product", desc := "(I)V" } : Jvm.MethodName)) ∈ lw_all := lw_g (lw_at lw_m5 4 rfl) rfl
theorem q1033 : (Jvm.Cond.privateMethod ({ cls := "ForkJoinDesk$Compiler", name := "product", desc := "(I)V" } : Jvm.MethodName)) ∈ lw_tbl := lw_at lw_m5 5 rfl
theorem q1034 : (Jvm.Cond.instanceMethod ({ cls := "ForkJoinDesk$Compiler", name := "product", desc := "(I)V" } : Jvm.MethodName)) ∈ lw_all := lw_g (lw_at lw_m5 6 rfl) rfl
theorem q1035 : (Jvm.Cond.code ({ cls := "ForkJoinDesk$Compiler", name := "product", desc := "(I)V" } : Jvm.MethodName) prog_2_method_23_code (2 : Nat) (Option.none : Option Jvm.ClassFile.FieldType)) ∈ lw_all := lw_g (lw_at lw_m5 7 rfl) rfl
theorem q1036 : (Jvm.Cond.methodLink "ForkJoinDesk$Compiler" (213 : Nat) ({ cls := "ForkJoinDesk$Compiler", name := "atom", desc := "(II)V" } : Jvm.MethodName)) ∈ lw_all := lw_g (lw_at lw_m5 8 rfl) rfl
theorem q1037 : (Jvm.Cond.privateMethod ({ cls := "ForkJoinDesk$Compiler", name := "atom", desc := "(II)V" } : Jvm.MethodName)) ∈ lw_tbl := lw_at lw_m5 9 rfl
theorem q1038 : (Jvm.Cond.instanceMethod ({ cls := "ForkJoinDesk$Compiler", name := "atom", desc := "(II)V" } : Jvm.MethodName)) ∈ lw_all := lw_g (lw_at lw_m5 10 rfl) rfl
theorem q1039 : (Jvm.Cond.code ({ cls := "ForkJoinDesk$Compiler", name := "atom", desc := "(II)V" } : Jvm.MethodName) prog_2_method_24_code (5 : Nat) (Option.none : Option Jvm.ClassFile.FieldType)) ∈ lw_all := lw_g (lw_at lw_m5 11 rfl) rfl
theorem q1040 : (Jvm.Cond.fieldLink "ForkJoinDesk$Compiler" (219 : Nat) "ForkJoinDesk$Op" "NEGATE" "LForkJoinDesk$Op;") ∈ lw_all := lw_g (lw_at lw_m5 12 rfl) rfl
theorem q1042 : (Jvm.Cond.methodLink "ForkJoinDesk$Compiler" (139 : Nat) ({ cls := "ForkJoinDesk$Compiler", name := "emit", desc := "(LForkJoinDesk$Op;II)V" } : Jvm.MethodName)) ∈ lw_all := lw_g (lw_at lw_m5 14 rfl) rfl
theorem q1043 : (Jvm.Cond.privateMethod ({ cls := "ForkJoinDesk$Compiler", name := "emit", desc := "(LForkJoinDesk$Op;II)V" } : Jvm.MethodName)) ∈ lw_tbl := lw_at lw_m5 15 rfl
theorem q1044 : (Jvm.Cond.instanceMethod ({ cls := "ForkJoinDesk$Compiler", name := "emit", desc := "(LForkJoinDesk$Op;II)V" } : Jvm.MethodName)) ∈ lw_all := lw_g (lw_at lw_m5 16 rfl) rfl
theorem q1045 : (Jvm.Cond.code ({ cls := "ForkJoinDesk$Compiler", name := "emit", desc := "(LForkJoinDesk$Op;II)V" } : Jvm.MethodName) prog_2_method_8_code (4 : Nat) (Option.none : Option Jvm.ClassFile.FieldType)) ∈ lw_all := lw_g (lw_at lw_m5 17 rfl) rfl
theorem q1046 : (Jvm.Cond.classLink "ForkJoinDesk$Compiler" (62 : Nat) "ForkJoinDesk$Instruction") ∈ lw_all := lw_g (lw_at lw_m5 18 rfl) rfl
theorem q1048 : (Jvm.Cond.methodLinkNest "ForkJoinDesk$Compiler" (64 : Nat) ({ cls := "ForkJoinDesk$Instruction", name := "<init>", desc := "(LForkJoinDesk$Op;II)V" } : Jvm.MethodName) "ForkJoinDesk") ∈ lw_tbl := lw_at lw_m5 20 rfl
theorem q1056 : (Jvm.Cond.fieldLinkNest "ForkJoinDesk$Compiler" (99 : Nat) "ForkJoinDesk$Instruction" "op" "LForkJoinDesk$Op;" "ForkJoinDesk") ∈ lw_tbl := lw_at lw_m5 28 rfl
theorem q1059 : (Jvm.Cond.fieldLinkNest "ForkJoinDesk$Compiler" (84 : Nat) "ForkJoinDesk$Instruction" "value" "I" "ForkJoinDesk") ∈ lw_tbl := lw_at lw_m5 31 rfl
theorem q1062 : (Jvm.Cond.fieldLinkNest "ForkJoinDesk$Compiler" (94 : Nat) "ForkJoinDesk$Instruction" "place" "I" "ForkJoinDesk") ∈ lw_tbl := lw_at lw_m5 34 rfl
theorem q1071 : (Jvm.Cond.methodLink "ForkJoinDesk$Compiler" (67 : Nat) ({ cls := "java/util/ArrayList", name := "add", desc := "(Ljava/lang/Object;)Z" } : Jvm.MethodName)) ∈ lw_all := lw_g (lw_at lw_m5 43 rfl) rfl
theorem q1072 : (Jvm.Cond.fieldLink "ForkJoinDesk$Compiler" (222 : Nat) "ForkJoinDesk$Op" "READ" "LForkJoinDesk$Op;") ∈ lw_all := lw_g (lw_at lw_m5 44 rfl) rfl
theorem q1074 : (Jvm.Cond.fieldLink "ForkJoinDesk$Compiler" (225 : Nat) "ForkJoinDesk$Op" "VARIABLE" "LForkJoinDesk$Op;") ∈ lw_all := lw_g (lw_at lw_m5 46 rfl) rfl
theorem q1076 : (Jvm.Cond.methodLink "ForkJoinDesk$Compiler" (228 : Nat) ({ cls := "ForkJoinDesk$Compiler", name := "number", desc := "()V" } : Jvm.MethodName)) ∈ lw_all := lw_g (lw_at lw_m5 48 rfl) rfl
theorem q1077 : (Jvm.Cond.privateMethod ({ cls := "ForkJoinDesk$Compiler", name := "number", desc := "()V" } : Jvm.MethodName)) ∈ lw_tbl := lw_at lw_m5 49 rfl
theorem q1078 : (Jvm.Cond.instanceMethod ({ cls := "ForkJoinDesk$Compiler", name := "number", desc := "()V" } : Jvm.MethodName)) ∈ lw_all := lw_g (lw_at lw_m5 50 rfl) rfl
theorem q1079 : (Jvm.Cond.code ({ cls := "ForkJoinDesk$Compiler", name := "number", desc := "()V" } : Jvm.MethodName) prog_2_method_25_code (3 : Nat) (Option.none : Option Jvm.ClassFile.FieldType)) ∈ lw_all := lw_g (lw_at lw_m5 51 rfl) rfl
theorem q1080 : (Jvm.Cond.fieldLink "ForkJoinDesk$Compiler" (231 : Nat) "ForkJoinDesk$Op" "NUMBER" "LForkJoinDesk$Op;") ∈ lw_all := lw_g (lw_at lw_m5 52 rfl) rfl
theorem q1082 : (Jvm.Cond.fieldLink "ForkJoinDesk$Compiler" (216 : Nat) "ForkJoinDesk$Op" "TIMES" "LForkJoinDesk$Op;") ∈ lw_all := lw_g (lw_at lw_m5 54 rfl) rfl
theorem q1084 : (Jvm.Cond.fieldLink "ForkJoinDesk$Compiler" (207 : Nat) "ForkJoinDesk$Op" "PLUS" "LForkJoinDesk$Op;") ∈ lw_all := lw_g (lw_at lw_m5 56 rfl) rfl
theorem q1086 : (Jvm.Cond.fieldLink "ForkJoinDesk$Compiler" (210 : Nat) "ForkJoinDesk$Op" "MINUS" "LForkJoinDesk$Op;") ∈ lw_all := lw_g (lw_at lw_m5 58 rfl) rfl
theorem q1088 : (Jvm.Cond.fieldLink "ForkJoinDesk$Compiler" (198 : Nat) "ForkJoinDesk$Op" "LESS" "LForkJoinDesk$Op;") ∈ lw_all := lw_g (lw_at lw_m5 60 rfl) rfl
theorem q1090 : (Jvm.Cond.fieldLink "ForkJoinDesk$Compiler" (201 : Nat) "ForkJoinDesk$Op" "EQUAL" "LForkJoinDesk$Op;") ∈ lw_all := lw_g (lw_at lw_m5 62 rfl) rfl
theorem q1092 : (Jvm.Cond.fieldLink "ForkJoinDesk$Compiler" (186 : Nat) "ForkJoinDesk$Op" "TEST" "LForkJoinDesk$Op;") ∈ lw_all := lw_g (lw_at lw_m5 64 rfl) rfl
theorem q1094 : (Jvm.Cond.fieldLink "ForkJoinDesk$Compiler" (189 : Nat) "ForkJoinDesk$Op" "GO" "LForkJoinDesk$Op;") ∈ lw_all := lw_g (lw_at lw_m5 66 rfl) rfl
theorem q1096 : (Jvm.Cond.methodLink "ForkJoinDesk$Compiler" (192 : Nat) ({ cls := "ForkJoinDesk$Compiler", name := "put", desc := "(II)V" } : Jvm.MethodName)) ∈ lw_all := lw_g (lw_at lw_m5 68 rfl) rfl
theorem q1097 : (Jvm.Cond.privateMethod ({ cls := "ForkJoinDesk$Compiler", name := "put", desc := "(II)V" } : Jvm.MethodName)) ∈ lw_tbl := lw_at lw_m5 69 rfl
theorem q1098 : (Jvm.Cond.instanceMethod ({ cls := "ForkJoinDesk$Compiler", name := "put", desc := "(II)V" } : Jvm.MethodName)) ∈ lw_all := lw_g (lw_at lw_m5 70 rfl) rfl
theorem q1099 : (Jvm.Cond.code ({ cls := "ForkJoinDesk$Compiler", name := "put", desc := "(II)V" } : Jvm.MethodName) prog_2_method_19_code (3 : Nat) (Option.none : Option Jvm.ClassFile.FieldType)) ∈ lw_all := lw_g (lw_at lw_m5 71 rfl) rfl
theorem q1100 : (Jvm.Cond.methodLink "ForkJoinDesk$Compiler" (80 : Nat) ({ cls := "java/util/ArrayList", name := "get", desc := "(I)Ljava/lang/Object;" } : Jvm.MethodName)) ∈ lw_all := lw_g (lw_at lw_m5 72 rfl) rfl
theorem q1101 : (Jvm.Cond.methodLink "ForkJoinDesk$Compiler" (111 : Nat) ({ cls := "java/util/ArrayList", name := "set", desc := "(ILjava/lang/Object;)Ljava/lang/Object;" } : Jvm.MethodName)) ∈ lw_all := lw_g (lw_at lw_m5 73 rfl) rfl
theorem q1105 : (Jvm.Cond.fieldLink "ForkJoinDesk$Compiler" (165 : Nat) "ForkJoinDesk$Op" "SET" "LForkJoinDesk$Op;") ∈ lw_all := lw_g (lw_at lw_m5 77 rfl) rfl
theorem q1107 : (Jvm.Cond.fieldLink "ForkJoinDesk$Compiler" (171 : Nat) "ForkJoinDesk$Op" "WRITE" "LForkJoinDesk$Op;") ∈ lw_all := lw_g (lw_at lw_m5 79 rfl) rfl
theorem q1109 : (Jvm.Cond.fieldLink "ForkJoinDesk$Compiler" (174 : Nat) "ForkJoinDesk$Op" "ADD" "LForkJoinDesk$Op;") ∈ lw_all := lw_g (lw_at lw_m5 81 rfl) rfl
theorem q1111 : (Jvm.Cond.fieldLink "ForkJoinDesk$Compiler" (177 : Nat) "ForkJoinDesk$Op" "PRINT" "LForkJoinDesk$Op;") ∈ lw_all := lw_g (lw_at lw_m5 83 rfl) rfl
theorem q1113 : (Jvm.Cond.fieldLink "ForkJoinDesk$Compiler" (180 : Nat) "ForkJoinDesk$Op" "JOIN" "LForkJoinDesk$Op;") ∈ lw_all := lw_g (lw_at lw_m5 85 rfl) rfl
theorem q1115 : (Jvm.Cond.methodLink "ForkJoinDesk$Compiler" (183 : Nat) ({ cls := "ForkJoinDesk$Compiler", name := "use", desc := "(ZI)V" } : Jvm.MethodName)) ∈ lw_all := lw_g (lw_at lw_m5 87 rfl) rfl
theorem q1116 : (Jvm.Cond.privateMethod ({ cls := "ForkJoinDesk$Compiler", name := "use", desc := "(ZI)V" } : Jvm.MethodName)) ∈ lw_tbl := lw_at lw_m5 88 rfl
theorem q1117 : (Jvm.Cond.instanceMethod ({ cls := "ForkJoinDesk$Compiler", name := "use", desc := "(ZI)V" } : Jvm.MethodName)) ∈ lw_all := lw_g (lw_at lw_m5 89 rfl) rfl
theorem q1118 : (Jvm.Cond.code ({ cls := "ForkJoinDesk$Compiler", name := "use", desc := "(ZI)V" } : Jvm.MethodName) prog_2_method_17_code (6 : Nat) (Option.none : Option Jvm.ClassFile.FieldType)) ∈ lw_all := lw_g (lw_at lw_m5 90 rfl) rfl
theorem q1119 : (Jvm.Cond.fieldLink "ForkJoinDesk$Compiler" (108 : Nat) "ForkJoinDesk$Op" "FORK" "LForkJoinDesk$Op;") ∈ lw_all := lw_g (lw_at lw_m5 91 rfl) rfl
theorem q1121 : (Jvm.Cond.fieldLink "ForkJoinDesk$Compiler" (103 : Nat) "ForkJoinDesk$Op" "CALL" "LForkJoinDesk$Op;") ∈ lw_all := lw_g (lw_at lw_m5 93 rfl) rfl
theorem q1123 : (Jvm.Cond.fieldLink "ForkJoinDesk$Compiler" (136 : Nat) "ForkJoinDesk$Op" "END" "LForkJoinDesk$Op;") ∈ lw_all := lw_g (lw_at lw_m5 95 rfl) rfl
theorem q1125 : (Jvm.Cond.methodLink "ForkJoinDesk$Compiler" (95 : Nat) ({ cls := "ForkJoinDesk$Compiler", name := "resolved", desc := "()LForkJoinDesk$Program;" } : Jvm.MethodName)) ∈ lw_all := lw_g (lw_at lw_m5 97 rfl) rfl
theorem q1126 : (Jvm.Cond.privateMethod ({ cls := "ForkJoinDesk$Compiler", name := "resolved", desc := "()LForkJoinDesk$Program;" } : Jvm.MethodName)) ∈ lw_tbl := lw_at lw_m5 98 rfl
theorem q1127 : (Jvm.Cond.instanceMethod ({ cls := "ForkJoinDesk$Compiler", name := "resolved", desc := "()LForkJoinDesk$Program;" } : Jvm.MethodName)) ∈ lw_all := lw_g (lw_at lw_m5 99 rfl) rfl
theorem q1128 : (Jvm.Cond.code ({ cls := "ForkJoinDesk$Compiler", name := "resolved", desc := "()LForkJoinDesk$Program;" } : Jvm.MethodName) prog_2_method_10_code (3 : Nat) (Option.some (Jvm.ClassFile.FieldType.object "ForkJoinDesk$Program"))) ∈ lw_all := lw_g (lw_at lw_m5 100 rfl) rfl
theorem q1898 : (Jvm.Cond.castable "ForkJoinDesk$Compiler" "java/lang/Object") ∈ lw_tbl := lw_at lw_m8 150 rfl
theorem in_X2 : ∀ w ∈ wsX20, w ∈ lw_all := lw_in wsX20 [468, 470, 472, 474, 476, 478, 480] (by decide +kernel) (by decide +kernel)
def RX3 : String := "ForkJoinDesk$Machine"
abbrev cX3_init : ByteArray := prog_7_method_1_code
def yX3_init : MethodName := ⟨RX3, "<init>", "()V"⟩
abbrev cX3_begin : ByteArray := prog_7_method_2_code
def yX3_begin : MethodName := ⟨RX3, "begin", "(LForkJoinDesk$Program;[I)V"⟩
abbrev cX3_step : ByteArray := prog_7_method_11_code
def yX3_step : MethodName := ⟨RX3, "step", "(LForkJoinDesk$Fiber;)Z"⟩
abbrev cX3_limit : ByteArray := prog_7_method_9_code
def yX3_limit : MethodName := ⟨RX3, "limit", "()Z"⟩
abbrev cX3_forks : ByteArray := prog_7_method_13_code
def yX3_forks : MethodName := ⟨RX3, "forks", "(LForkJoinDesk$Fiber;I)Z"⟩
abbrev cX3_give : ByteArray := prog_7_method_10_code
def yX3_give : MethodName := ⟨RX3, "give", "(LForkJoinDesk$Fiber;LForkJoinDesk$Frame;I)V"⟩
abbrev cX3_compute : ByteArray := prog_7_method_14_code
def yX3_compute : MethodName := ⟨RX3, "compute", "(LForkJoinDesk$Fiber;LForkJoinDesk$Frame;LForkJoinDesk$Instruction;)V"⟩
abbrev cX3_read : ByteArray := prog_7_method_16_code
def yX3_read : MethodName := ⟨RX3, "read", "(LForkJoinDesk$Fiber;I)V"⟩
abbrev cX3_write : ByteArray := prog_7_method_17_code
def yX3_write : MethodName := ⟨RX3, "write", "(LForkJoinDesk$Fiber;I)V"⟩
abbrev cX3_two : ByteArray := prog_7_method_15_code
def yX3_two : MethodName := ⟨RX3, "two", "(LForkJoinDesk$Fiber;LForkJoinDesk$Op;)V"⟩
abbrev cX3_call : ByteArray := prog_7_method_12_code
def yX3_call : MethodName := ⟨RX3, "call", "(LForkJoinDesk$Fiber;I)V"⟩
theorem q89 : (Jvm.Cond.initialized "ForkJoinDesk$Machine") ∈ lw_all := lw_g (lw_at lw_m1 21 rfl) rfl
theorem q490 : (Jvm.Cond.instanceMethod ({ cls := "ForkJoinDesk$Machine", name := "<init>", desc := "()V" } : Jvm.MethodName)) ∈ lw_all := lw_g (lw_at lw_m2 182 rfl) rfl
theorem q491 : (Jvm.Cond.code ({ cls := "ForkJoinDesk$Machine", name := "<init>", desc := "()V" } : Jvm.MethodName) prog_7_method_1_code (1 : Nat) (Option.none : Option Jvm.ClassFile.FieldType)) ∈ lw_all := lw_g (lw_at lw_m2 183 rfl) rfl
theorem q492 : (Jvm.Cond.methodLink "ForkJoinDesk$Machine" (3 : Nat) ({ cls := "java/lang/Object", name := "<init>", desc := "()V" } : Jvm.MethodName)) ∈ lw_all := lw_g (lw_at lw_m2 184 rfl) rfl
theorem q503 : (Jvm.Cond.fieldLinkNest "ForkJoinDesk$Machine" (107 : Nat) "ForkJoinDesk$Fiber" "pile" "[I" "ForkJoinDesk") ∈ lw_tbl := lw_at lw_m2 195 rfl
theorem q507 : (Jvm.Cond.fieldLinkNest "ForkJoinDesk$Machine" (86 : Nat) "ForkJoinDesk$Fiber" "depth" "I" "ForkJoinDesk") ∈ lw_tbl := lw_at lw_m2 199 rfl
theorem q510 : (Jvm.Cond.fieldLinkNest "ForkJoinDesk$Machine" (110 : Nat) "ForkJoinDesk$Fiber" "high" "I" "ForkJoinDesk") ∈ lw_tbl := lw_at lw_m2 202 rfl
theorem q548 : (Jvm.Cond.fieldLink "ForkJoinDesk$Machine" (15 : Nat) "ForkJoinDesk$Machine" "program" "LForkJoinDesk$Program;") ∈ lw_all := lw_g (lw_at lw_m3 0 rfl) rfl
theorem q549 : (Jvm.Cond.fieldLink "ForkJoinDesk$Machine" (9 : Nat) "ForkJoinDesk$Machine" "cells" "[I") ∈ lw_all := lw_g (lw_at lw_m3 1 rfl) rfl
theorem q551 : (Jvm.Cond.fieldLink "ForkJoinDesk$Machine" (25 : Nat) "ForkJoinDesk$Machine" "sum" "I") ∈ lw_all := lw_g (lw_at lw_m3 3 rfl) rfl
theorem q556 : (Jvm.Cond.fieldLink "ForkJoinDesk$Machine" (29 : Nat) "ForkJoinDesk$Machine" "work" "I") ∈ lw_all := lw_g (lw_at lw_m3 8 rfl) rfl
theorem q561 : (Jvm.Cond.fieldLink "ForkJoinDesk$Machine" (32 : Nat) "ForkJoinDesk$Machine" "limited" "Z") ∈ lw_all := lw_g (lw_at lw_m3 13 rfl) rfl
theorem q568 : (Jvm.Cond.fieldLink "ForkJoinDesk$Machine" (36 : Nat) "ForkJoinDesk$Machine" "there" "Z") ∈ lw_all := lw_g (lw_at lw_m3 20 rfl) rfl
theorem q609 : (Jvm.Cond.soleField "ForkJoinDesk$Machine" "program") ∈ lw_all := lw_g (lw_at lw_m3 61 rfl) rfl
theorem q611 : (Jvm.Cond.soleField "ForkJoinDesk$Machine" "cells") ∈ lw_all := lw_g (lw_at lw_m3 63 rfl) rfl
theorem q613 : (Jvm.Cond.soleField "ForkJoinDesk$Machine" "sum") ∈ lw_all := lw_g (lw_at lw_m3 65 rfl) rfl
theorem q615 : (Jvm.Cond.soleField "ForkJoinDesk$Machine" "work") ∈ lw_all := lw_g (lw_at lw_m3 67 rfl) rfl
theorem q617 : (Jvm.Cond.soleField "ForkJoinDesk$Machine" "limited") ∈ lw_all := lw_g (lw_at lw_m3 69 rfl) rfl
theorem q619 : (Jvm.Cond.soleField "ForkJoinDesk$Machine" "there") ∈ lw_all := lw_g (lw_at lw_m3 71 rfl) rfl
theorem q713 : (Jvm.Cond.instanceMethod ({ cls := "ForkJoinDesk$Machine", name := "begin", desc := "(LForkJoinDesk$Program;[I)V" } : Jvm.MethodName)) ∈ lw_all := lw_g (lw_at lw_m3 165 rfl) rfl
theorem q714 : (Jvm.Cond.code ({ cls := "ForkJoinDesk$Machine", name := "begin", desc := "(LForkJoinDesk$Program;[I)V" } : Jvm.MethodName) prog_7_method_2_code (3 : Nat) (Option.none : Option Jvm.ClassFile.FieldType)) ∈ lw_all := lw_g (lw_at lw_m3 166 rfl) rfl
theorem q715 : (Jvm.Cond.methodLink "ForkJoinDesk$Machine" (19 : Nat) ({ cls := "java/lang/System", name := "arraycopy", desc := "(Ljava/lang/Object;ILjava/lang/Object;II)V" } : Jvm.MethodName)) ∈ lw_all := lw_g (lw_at lw_m3 167 rfl) rfl
theorem q735 : (Jvm.Cond.fieldLinkNest "ForkJoinDesk$Machine" (44 : Nat) "ForkJoinDesk$Frame" "variables" "[I" "ForkJoinDesk") ∈ lw_tbl := lw_at lw_m3 187 rfl
theorem q741 : (Jvm.Cond.fieldLinkNest "ForkJoinDesk$Machine" (66 : Nat) "ForkJoinDesk$Frame" "next" "I" "ForkJoinDesk") ∈ lw_tbl := lw_at lw_m3 193 rfl
theorem q744 : (Jvm.Cond.fieldLinkNest "ForkJoinDesk$Machine" (144 : Nat) "ForkJoinDesk$Frame" "element" "I" "ForkJoinDesk") ∈ lw_tbl := lw_at lw_m3 196 rfl
theorem q924 : (Jvm.Cond.fieldLinkNest "ForkJoinDesk$Machine" (62 : Nat) "ForkJoinDesk$Program" "code" "Ljava/util/ArrayList;" "ForkJoinDesk") ∈ lw_tbl := lw_at lw_m4 136 rfl
theorem q929 : (Jvm.Cond.fieldLinkNest "ForkJoinDesk$Machine" (133 : Nat) "ForkJoinDesk$Program" "begin" "[I" "ForkJoinDesk") ∈ lw_tbl := lw_at lw_m4 141 rfl
theorem q932 : (Jvm.Cond.fieldLinkNest "ForkJoinDesk$Machine" (39 : Nat) "ForkJoinDesk$Program" "many" "[I" "ForkJoinDesk") ∈ lw_tbl := lw_at lw_m4 144 rfl
theorem q934 : (Jvm.Cond.fieldLinkNest "ForkJoinDesk$Machine" (49 : Nat) "ForkJoinDesk$Program" "parameters" "[I" "ForkJoinDesk") ∈ lw_tbl := lw_at lw_m4 146 rfl
theorem q1057 : (Jvm.Cond.fieldLinkNest "ForkJoinDesk$Machine" (77 : Nat) "ForkJoinDesk$Instruction" "op" "LForkJoinDesk$Op;" "ForkJoinDesk") ∈ lw_tbl := lw_at lw_m5 29 rfl
theorem q1060 : (Jvm.Cond.fieldLinkNest "ForkJoinDesk$Machine" (93 : Nat) "ForkJoinDesk$Instruction" "value" "I" "ForkJoinDesk") ∈ lw_tbl := lw_at lw_m5 32 rfl
theorem q1063 : (Jvm.Cond.fieldLinkNest "ForkJoinDesk$Machine" (155 : Nat) "ForkJoinDesk$Instruction" "place" "I" "ForkJoinDesk") ∈ lw_tbl := lw_at lw_m5 35 rfl
theorem q1156 : (Jvm.Cond.declares ({ cls := "ForkJoinDesk$Machine", name := "step", desc := "(LForkJoinDesk$Fiber;)Z" } : Jvm.MethodName)) ∈ lw_tbl := lw_at lw_m5 128 rfl
theorem q1158 : (Jvm.Cond.instanceMethod ({ cls := "ForkJoinDesk$Machine", name := "step", desc := "(LForkJoinDesk$Fiber;)Z" } : Jvm.MethodName)) ∈ lw_all := lw_g (lw_at lw_m5 130 rfl) rfl
theorem q1159 : (Jvm.Cond.code ({ cls := "ForkJoinDesk$Machine", name := "step", desc := "(LForkJoinDesk$Fiber;)Z" } : Jvm.MethodName) prog_7_method_11_code (5 : Nat) (Option.some Jvm.ClassFile.FieldType.boolean)) ∈ lw_all := lw_g (lw_at lw_m5 131 rfl) rfl
theorem q1160 : (Jvm.Cond.methodLink "ForkJoinDesk$Machine" (58 : Nat) ({ cls := "ForkJoinDesk$Fiber", name := "top", desc := "()LForkJoinDesk$Frame;" } : Jvm.MethodName)) ∈ lw_all := lw_g (lw_at lw_m5 132 rfl) rfl
theorem q1164 : (Jvm.Cond.methodLink "ForkJoinDesk$Machine" (69 : Nat) ({ cls := "java/util/ArrayList", name := "get", desc := "(I)Ljava/lang/Object;" } : Jvm.MethodName)) ∈ lw_all := lw_g (lw_at lw_m5 136 rfl) rfl
theorem q1165 : (Jvm.Cond.classLink "ForkJoinDesk$Machine" (75 : Nat) "ForkJoinDesk$Instruction") ∈ lw_all := lw_g (lw_at lw_m5 137 rfl) rfl
theorem q1166 : (Jvm.Cond.methodLink "ForkJoinDesk$Machine" (81 : Nat) ({ cls := "ForkJoinDesk$Op", name := "ordinal", desc := "()I" } : Jvm.MethodName)) ∈ lw_all := lw_g (lw_at lw_m5 138 rfl) rfl
theorem q1172 : (Jvm.Cond.methodLink "ForkJoinDesk$Machine" (89 : Nat) ({ cls := "ForkJoinDesk$Machine", name := "limit", desc := "()Z" } : Jvm.MethodName)) ∈ lw_all := lw_g (lw_at lw_m5 144 rfl) rfl
theorem q1173 : (Jvm.Cond.privateMethod ({ cls := "ForkJoinDesk$Machine", name := "limit", desc := "()Z" } : Jvm.MethodName)) ∈ lw_tbl := lw_at lw_m5 145 rfl
theorem q1174 : (Jvm.Cond.instanceMethod ({ cls := "ForkJoinDesk$Machine", name := "limit", desc := "()Z" } : Jvm.MethodName)) ∈ lw_all := lw_g (lw_at lw_m5 146 rfl) rfl
theorem q1175 : (Jvm.Cond.code ({ cls := "ForkJoinDesk$Machine", name := "limit", desc := "()Z" } : Jvm.MethodName) prog_7_method_9_code (1 : Nat) (Option.some Jvm.ClassFile.FieldType.boolean)) ∈ lw_all := lw_g (lw_at lw_m5 147 rfl) rfl
theorem q1176 : (Jvm.Cond.methodLink "ForkJoinDesk$Machine" (96 : Nat) ({ cls := "ForkJoinDesk$Machine", name := "forks", desc := "(LForkJoinDesk$Fiber;I)Z" } : Jvm.MethodName)) ∈ lw_all := lw_g (lw_at lw_m5 148 rfl) rfl
theorem q1177 : (Jvm.Cond.privateMethod ({ cls := "ForkJoinDesk$Machine", name := "forks", desc := "(LForkJoinDesk$Fiber;I)Z" } : Jvm.MethodName)) ∈ lw_tbl := lw_at lw_m5 149 rfl
theorem q1178 : (Jvm.Cond.instanceMethod ({ cls := "ForkJoinDesk$Machine", name := "forks", desc := "(LForkJoinDesk$Fiber;I)Z" } : Jvm.MethodName)) ∈ lw_all := lw_g (lw_at lw_m5 150 rfl) rfl
theorem q1179 : (Jvm.Cond.code ({ cls := "ForkJoinDesk$Machine", name := "forks", desc := "(LForkJoinDesk$Fiber;I)Z" } : Jvm.MethodName) prog_7_method_13_code (4 : Nat) (Option.some Jvm.ClassFile.FieldType.boolean)) ∈ lw_all := lw_g (lw_at lw_m5 151 rfl) rfl
theorem q1180 : (Jvm.Cond.methodLink "ForkJoinDesk$Machine" (147 : Nat) ({ cls := "ForkJoinDesk$Machine", name := "fork", desc := "(LForkJoinDesk$Fiber;I)LForkJoinDesk$Frame;" } : Jvm.MethodName)) ∈ lw_all := lw_g (lw_at lw_m5 152 rfl) rfl
theorem q1181 : (Jvm.Cond.declares ({ cls := "ForkJoinDesk$Machine", name := "fork", desc := "(LForkJoinDesk$Fiber;I)LForkJoinDesk$Frame;" } : Jvm.MethodName)) ∈ lw_tbl := lw_at lw_m5 153 rfl
theorem q1182 : (Jvm.Cond.sameMethod "ForkJoinDesk$Machine" "ForkJoinDesk$Machine" "fork" "(LForkJoinDesk$Fiber;I)LForkJoinDesk$Frame;") ∈ lw_all := lw_g (lw_at lw_m5 154 rfl) rfl
theorem q1195 : (Jvm.Cond.methodLink "ForkJoinDesk$Machine" (140 : Nat) ({ cls := "ForkJoinDesk$Machine", name := "give", desc := "(LForkJoinDesk$Fiber;LForkJoinDesk$Frame;I)V" } : Jvm.MethodName)) ∈ lw_all := lw_g (lw_at lw_m5 167 rfl) rfl
theorem q1196 : (Jvm.Cond.privateMethod ({ cls := "ForkJoinDesk$Machine", name := "give", desc := "(LForkJoinDesk$Fiber;LForkJoinDesk$Frame;I)V" } : Jvm.MethodName)) ∈ lw_tbl := lw_at lw_m5 168 rfl
theorem q1197 : (Jvm.Cond.instanceMethod ({ cls := "ForkJoinDesk$Machine", name := "give", desc := "(LForkJoinDesk$Fiber;LForkJoinDesk$Frame;I)V" } : Jvm.MethodName)) ∈ lw_all := lw_g (lw_at lw_m5 169 rfl) rfl
theorem q1198 : (Jvm.Cond.code ({ cls := "ForkJoinDesk$Machine", name := "give", desc := "(LForkJoinDesk$Fiber;LForkJoinDesk$Frame;I)V" } : Jvm.MethodName) prog_7_method_10_code (5 : Nat) (Option.none : Option Jvm.ClassFile.FieldType)) ∈ lw_all := lw_g (lw_at lw_m5 170 rfl) rfl
theorem q1199 : (Jvm.Cond.methodLink "ForkJoinDesk$Machine" (52 : Nat) ({ cls := "ForkJoinDesk$Fiber", name := "pop", desc := "()I" } : Jvm.MethodName)) ∈ lw_all := lw_g (lw_at lw_m5 171 rfl) rfl
theorem q1203 : (Jvm.Cond.methodLink "ForkJoinDesk$Machine" (100 : Nat) ({ cls := "ForkJoinDesk$Machine", name := "join", desc := "(LForkJoinDesk$Fiber;)Z" } : Jvm.MethodName)) ∈ lw_all := lw_g (lw_at lw_m5 175 rfl) rfl
theorem q1204 : (Jvm.Cond.declares ({ cls := "ForkJoinDesk$Machine", name := "join", desc := "(LForkJoinDesk$Fiber;)Z" } : Jvm.MethodName)) ∈ lw_tbl := lw_at lw_m5 176 rfl
theorem q1205 : (Jvm.Cond.sameMethod "ForkJoinDesk$Machine" "ForkJoinDesk$Machine" "join" "(LForkJoinDesk$Fiber;)Z") ∈ lw_all := lw_g (lw_at lw_m5 177 rfl) rfl
theorem q1221 : (Jvm.Cond.methodLink "ForkJoinDesk$Machine" (104 : Nat) ({ cls := "ForkJoinDesk$Machine", name := "end", desc := "(LForkJoinDesk$Fiber;)Z" } : Jvm.MethodName)) ∈ lw_all := lw_g (lw_at lw_m5 193 rfl) rfl
theorem q1222 : (Jvm.Cond.declares ({ cls := "ForkJoinDesk$Machine", name := "end", desc := "(LForkJoinDesk$Fiber;)Z" } : Jvm.MethodName)) ∈ lw_tbl := lw_at lw_m5 194 rfl
theorem q1223 : (Jvm.Cond.sameMethod "ForkJoinDesk$Machine" "ForkJoinDesk$Machine" "end" "(LForkJoinDesk$Fiber;)Z") ∈ lw_all := lw_g (lw_at lw_m5 195 rfl) rfl
theorem q1234 : (Jvm.Cond.methodLink "ForkJoinDesk$Machine" (113 : Nat) ({ cls := "ForkJoinDesk$Machine", name := "print", desc := "(LForkJoinDesk$Fiber;I)Z" } : Jvm.MethodName)) ∈ lw_all := lw_g (lw_at lw_m5 206 rfl) rfl
theorem q1235 : (Jvm.Cond.declares ({ cls := "ForkJoinDesk$Machine", name := "print", desc := "(LForkJoinDesk$Fiber;I)Z" } : Jvm.MethodName)) ∈ lw_tbl := lw_at lw_m5 207 rfl
theorem q1236 : (Jvm.Cond.sameMethod "ForkJoinDesk$Machine" "ForkJoinDesk$Machine" "print" "(LForkJoinDesk$Fiber;I)Z") ∈ lw_all := lw_g (lw_at lw_m5 208 rfl) rfl
theorem q1247 : (Jvm.Cond.methodLink "ForkJoinDesk$Machine" (116 : Nat) ({ cls := "ForkJoinDesk$Machine", name := "compute", desc := "(LForkJoinDesk$Fiber;LForkJoinDesk$Frame;LForkJoinDesk$Instruction;)V" } : Jvm.MethodName)) ∈ lw_all := lw_g (lw_at lw_m5 219 rfl) rfl
theorem q1248 : (Jvm.Cond.privateMethod ({ cls := "ForkJoinDesk$Machine", name := "compute", desc := "(LForkJoinDesk$Fiber;LForkJoinDesk$Frame;LForkJoinDesk$Instruction;)V" } : Jvm.MethodName)) ∈ lw_tbl := lw_at lw_m5 220 rfl
theorem q1249 : (Jvm.Cond.instanceMethod ({ cls := "ForkJoinDesk$Machine", name := "compute", desc := "(LForkJoinDesk$Fiber;LForkJoinDesk$Frame;LForkJoinDesk$Instruction;)V" } : Jvm.MethodName)) ∈ lw_all := lw_g (lw_at lw_m5 221 rfl) rfl
theorem q1250 : (Jvm.Cond.code ({ cls := "ForkJoinDesk$Machine", name := "compute", desc := "(LForkJoinDesk$Fiber;LForkJoinDesk$Frame;LForkJoinDesk$Instruction;)V" } : Jvm.MethodName) prog_7_method_14_code (4 : Nat) (Option.none : Option Jvm.ClassFile.FieldType)) ∈ lw_all := lw_g (lw_at lw_m5 222 rfl) rfl
theorem q1251 : (Jvm.Cond.methodLink "ForkJoinDesk$Machine" (130 : Nat) ({ cls := "ForkJoinDesk$Machine", name := "spend", desc := "()V" } : Jvm.MethodName)) ∈ lw_all := lw_g (lw_at lw_m5 223 rfl) rfl
theorem q1252 : (Jvm.Cond.declares ({ cls := "ForkJoinDesk$Machine", name := "spend", desc := "()V" } : Jvm.MethodName)) ∈ lw_tbl := lw_at lw_m5 224 rfl
theorem q1253 : (Jvm.Cond.sameMethod "ForkJoinDesk$Machine" "ForkJoinDesk$Machine" "spend" "()V") ∈ lw_all := lw_g (lw_at lw_m5 225 rfl) rfl
theorem q1258 : (Jvm.Cond.methodLink "ForkJoinDesk$Machine" (151 : Nat) ({ cls := "ForkJoinDesk$Fiber", name := "push", desc := "(I)V" } : Jvm.MethodName)) ∈ lw_all := lw_g (lw_at lw_m5 230 rfl) rfl
theorem q1262 : (Jvm.Cond.methodLink "ForkJoinDesk$Machine" (158 : Nat) ({ cls := "ForkJoinDesk$Machine", name := "read", desc := "(LForkJoinDesk$Fiber;I)V" } : Jvm.MethodName)) ∈ lw_all := lw_g (lw_at lw_m5 234 rfl) rfl
theorem q1263 : (Jvm.Cond.privateMethod ({ cls := "ForkJoinDesk$Machine", name := "read", desc := "(LForkJoinDesk$Fiber;I)V" } : Jvm.MethodName)) ∈ lw_tbl := lw_at lw_m5 235 rfl
theorem q1264 : (Jvm.Cond.instanceMethod ({ cls := "ForkJoinDesk$Machine", name := "read", desc := "(LForkJoinDesk$Fiber;I)V" } : Jvm.MethodName)) ∈ lw_all := lw_g (lw_at lw_m5 236 rfl) rfl
theorem q1265 : (Jvm.Cond.code ({ cls := "ForkJoinDesk$Machine", name := "read", desc := "(LForkJoinDesk$Fiber;I)V" } : Jvm.MethodName) prog_7_method_16_code (4 : Nat) (Option.none : Option Jvm.ClassFile.FieldType)) ∈ lw_all := lw_g (lw_at lw_m5 237 rfl) rfl
theorem q1266 : (Jvm.Cond.methodLink "ForkJoinDesk$Machine" (168 : Nat) ({ cls := "ForkJoinDesk$Machine", name := "touch", desc := "(IIZ)V" } : Jvm.MethodName)) ∈ lw_all := lw_g (lw_at lw_m5 238 rfl) rfl
theorem q1267 : (Jvm.Cond.declares ({ cls := "ForkJoinDesk$Machine", name := "touch", desc := "(IIZ)V" } : Jvm.MethodName)) ∈ lw_tbl := lw_at lw_m5 239 rfl
theorem q1268 : (Jvm.Cond.sameMethod "ForkJoinDesk$Machine" "ForkJoinDesk$Machine" "touch" "(IIZ)V") ∈ lw_all := lw_g (lw_at lw_m6 0 rfl) rfl
theorem q1303 : (Jvm.Cond.methodLink "ForkJoinDesk$Machine" (161 : Nat) ({ cls := "ForkJoinDesk$Machine", name := "write", desc := "(LForkJoinDesk$Fiber;I)V" } : Jvm.MethodName)) ∈ lw_all := lw_g (lw_at lw_m6 35 rfl) rfl
theorem q1304 : (Jvm.Cond.privateMethod ({ cls := "ForkJoinDesk$Machine", name := "write", desc := "(LForkJoinDesk$Fiber;I)V" } : Jvm.MethodName)) ∈ lw_tbl := lw_at lw_m6 36 rfl
theorem q1305 : (Jvm.Cond.instanceMethod ({ cls := "ForkJoinDesk$Machine", name := "write", desc := "(LForkJoinDesk$Fiber;I)V" } : Jvm.MethodName)) ∈ lw_all := lw_g (lw_at lw_m6 37 rfl) rfl
theorem q1306 : (Jvm.Cond.code ({ cls := "ForkJoinDesk$Machine", name := "write", desc := "(LForkJoinDesk$Fiber;I)V" } : Jvm.MethodName) prog_7_method_17_code (5 : Nat) (Option.none : Option Jvm.ClassFile.FieldType)) ∈ lw_all := lw_g (lw_at lw_m6 38 rfl) rfl
theorem q1307 : (Jvm.Cond.methodLink "ForkJoinDesk$Machine" (164 : Nat) ({ cls := "ForkJoinDesk$Machine", name := "two", desc := "(LForkJoinDesk$Fiber;LForkJoinDesk$Op;)V" } : Jvm.MethodName)) ∈ lw_all := lw_g (lw_at lw_m6 39 rfl) rfl
theorem q1308 : (Jvm.Cond.privateMethod ({ cls := "ForkJoinDesk$Machine", name := "two", desc := "(LForkJoinDesk$Fiber;LForkJoinDesk$Op;)V" } : Jvm.MethodName)) ∈ lw_tbl := lw_at lw_m6 40 rfl
theorem q1309 : (Jvm.Cond.instanceMethod ({ cls := "ForkJoinDesk$Machine", name := "two", desc := "(LForkJoinDesk$Fiber;LForkJoinDesk$Op;)V" } : Jvm.MethodName)) ∈ lw_all := lw_g (lw_at lw_m6 41 rfl) rfl
theorem q1310 : (Jvm.Cond.code ({ cls := "ForkJoinDesk$Machine", name := "two", desc := "(LForkJoinDesk$Fiber;LForkJoinDesk$Op;)V" } : Jvm.MethodName) prog_7_method_15_code (5 : Nat) (Option.none : Option Jvm.ClassFile.FieldType)) ∈ lw_all := lw_g (lw_at lw_m6 42 rfl) rfl
theorem q1311 : (Jvm.Cond.fieldLink "ForkJoinDesk$Machine" (120 : Nat) "ForkJoinDesk$Op" "CALL" "LForkJoinDesk$Op;") ∈ lw_all := lw_g (lw_at lw_m6 43 rfl) rfl
theorem q1312 : (Jvm.Cond.methodLink "ForkJoinDesk$Machine" (123 : Nat) ({ cls := "ForkJoinDesk$Machine", name := "call", desc := "(LForkJoinDesk$Fiber;I)V" } : Jvm.MethodName)) ∈ lw_all := lw_g (lw_at lw_m6 44 rfl) rfl
theorem q1313 : (Jvm.Cond.privateMethod ({ cls := "ForkJoinDesk$Machine", name := "call", desc := "(LForkJoinDesk$Fiber;I)V" } : Jvm.MethodName)) ∈ lw_tbl := lw_at lw_m6 45 rfl
theorem q1314 : (Jvm.Cond.instanceMethod ({ cls := "ForkJoinDesk$Machine", name := "call", desc := "(LForkJoinDesk$Fiber;I)V" } : Jvm.MethodName)) ∈ lw_all := lw_g (lw_at lw_m6 46 rfl) rfl
theorem q1315 : (Jvm.Cond.code ({ cls := "ForkJoinDesk$Machine", name := "call", desc := "(LForkJoinDesk$Fiber;I)V" } : Jvm.MethodName) prog_7_method_12_code (5 : Nat) (Option.none : Option Jvm.ClassFile.FieldType)) ∈ lw_all := lw_g (lw_at lw_m6 47 rfl) rfl
theorem q1316 : (Jvm.Cond.methodLink "ForkJoinDesk$Machine" (136 : Nat) ({ cls := "ForkJoinDesk$Fiber", name := "enter", desc := "(IZ)LForkJoinDesk$Frame;" } : Jvm.MethodName)) ∈ lw_all := lw_g (lw_at lw_m6 48 rfl) rfl
theorem q1317 : (Jvm.Cond.fieldLink "ForkJoinDesk$Machine" (127 : Nat) "ForkJoinDesk$Op" "PRINT" "LForkJoinDesk$Op;") ∈ lw_all := lw_g (lw_at lw_m6 49 rfl) rfl
theorem q1884 : (Jvm.Cond.sameMethod "ForkJoinDesk$Machine" "ForkJoinDesk$Machine" "begin" "(LForkJoinDesk$Program;[I)V") ∈ lw_all := lw_g (lw_at lw_m8 136 rfl) rfl
theorem q1885 : (Jvm.Cond.sameMethod "ForkJoinDesk$Machine" "ForkJoinDesk$Machine" "limit" "()Z") ∈ lw_all := lw_g (lw_at lw_m8 137 rfl) rfl
theorem q1886 : (Jvm.Cond.sameMethod "ForkJoinDesk$Machine" "ForkJoinDesk$Machine" "forks" "(LForkJoinDesk$Fiber;I)Z") ∈ lw_all := lw_g (lw_at lw_m8 138 rfl) rfl
theorem q1887 : (Jvm.Cond.sameMethod "ForkJoinDesk$Machine" "ForkJoinDesk$Machine" "give" "(LForkJoinDesk$Fiber;LForkJoinDesk$Frame;I)V") ∈ lw_all := lw_g (lw_at lw_m8 139 rfl) rfl
theorem q1888 : (Jvm.Cond.sameMethod "ForkJoinDesk$Machine" "ForkJoinDesk$Machine" "compute" "(LForkJoinDesk$Fiber;LForkJoinDesk$Frame;LForkJoinDesk$Instruction;)V") ∈ lw_all := lw_g (lw_at lw_m8 140 rfl) rfl
theorem q1889 : (Jvm.Cond.sameMethod "ForkJoinDesk$Machine" "ForkJoinDesk$Machine" "read" "(LForkJoinDesk$Fiber;I)V") ∈ lw_all := lw_g (lw_at lw_m8 141 rfl) rfl
theorem q1890 : (Jvm.Cond.sameMethod "ForkJoinDesk$Machine" "ForkJoinDesk$Machine" "write" "(LForkJoinDesk$Fiber;I)V") ∈ lw_all := lw_g (lw_at lw_m8 142 rfl) rfl
theorem q1891 : (Jvm.Cond.sameMethod "ForkJoinDesk$Machine" "ForkJoinDesk$Machine" "two" "(LForkJoinDesk$Fiber;LForkJoinDesk$Op;)V") ∈ lw_all := lw_g (lw_at lw_m8 143 rfl) rfl
theorem q1892 : (Jvm.Cond.sameMethod "ForkJoinDesk$Machine" "ForkJoinDesk$Machine" "call" "(LForkJoinDesk$Fiber;I)V") ∈ lw_all := lw_g (lw_at lw_m8 144 rfl) rfl
def RX4 : String := "ForkJoinDesk$Serial"
def TX4 : u_T := fun k => match k with
  | 0 => ("ForkJoinDesk$Machine", "program", "LForkJoinDesk$Program;", false)
  | 1 => ("ForkJoinDesk$Machine", "cells", "[I", true)
  | 2 => ("ForkJoinDesk$Machine", "sum", "I", false)
  | 3 => ("ForkJoinDesk$Machine", "work", "I", false)
  | 4 => ("ForkJoinDesk$Machine", "limited", "Z", false)
  | 5 => ("ForkJoinDesk$Machine", "there", "Z", false)
  | 6 => ("ForkJoinDesk$Serial", "thread", "LForkJoinDesk$Fiber;", true)
  | 7 => ("ForkJoinDesk$Serial", "out", "[I", true)
  | 8 => ("ForkJoinDesk$Serial", "printed", "I", false)
  | 9 => ("ForkJoinDesk$Serial", "time", "I", false)
  | 10 => ("ForkJoinDesk$Serial", "span", "I", false)
  | 11 => ("ForkJoinDesk$Serial", "behind", "[I", true)
  | 12 => ("ForkJoinDesk$Serial", "rank", "[I", true)
  | 13 => ("ForkJoinDesk$Serial", "strands", "I", false)
  | 14 => ("ForkJoinDesk$Serial", "strand", "I", false)
  | 15 => ("ForkJoinDesk$Serial", "ranked", "I", false)
  | 16 => ("ForkJoinDesk$Serial", "within", "[I", true)
  | 17 => ("ForkJoinDesk$Serial", "isBeside", "[Z", true)
  | 18 => ("ForkJoinDesk$Serial", "elements", "I", false)
  | 19 => ("ForkJoinDesk$Serial", "writer", "[I", true)
  | 20 => ("ForkJoinDesk$Serial", "reader", "[I", true)
  | 21 => ("ForkJoinDesk$Serial", "told", "[Z", true)
  | _ => ("ForkJoinDesk$Serial", "races", "Ljava/util/ArrayList;", true)
def tyX4 : Nat → FieldType := fun k => match k with
  | 0 => .object "ForkJoinDesk$Program"
  | 1 => .array .int
  | 2 => .int
  | 3 => .int
  | 4 => .boolean
  | 5 => .boolean
  | 6 => .object "ForkJoinDesk$Fiber"
  | 7 => .array .int
  | 8 => .int
  | 9 => .int
  | 10 => .int
  | 11 => .array .int
  | 12 => .array .int
  | 13 => .int
  | 14 => .int
  | 15 => .int
  | 16 => .array .int
  | 17 => .array .boolean
  | 18 => .int
  | 19 => .array .int
  | 20 => .array .int
  | 21 => .array .boolean
  | _ => .object "java/util/ArrayList"
abbrev wsX40 : List Cond := u_ws RX4 TX4 23
theorem nmX4 : ∀ a, a < 23 → ∀ b, b < 23 → a ≠ b → (TX4 a).2.1 ≠ (TX4 b).2.1 := by decide +kernel
theorem tyX4_ok : ∀ k, k < 23 → parseFieldDescriptor (TX4 k).2.2.1 = some (tyX4 k) := by decide +kernel
abbrev cX4_init : ByteArray := prog_11_method_1_code
def yX4_init : MethodName := ⟨RX4, "<init>", "()V"⟩
abbrev cX4_begin : ByteArray := prog_11_method_2_code
def yX4_begin : MethodName := ⟨RX4, "begin", "(LForkJoinDesk$Program;[I)V"⟩
abbrev cX4_fork : ByteArray := prog_11_method_6_code
def yX4_fork : MethodName := ⟨RX4, "fork", "(LForkJoinDesk$Fiber;I)LForkJoinDesk$Frame;"⟩
abbrev cX4_grow : ByteArray := prog_11_method_4_code
def yX4_grow : MethodName := ⟨RX4, "grow", "(I)I"⟩
abbrev cX4_join : ByteArray := prog_11_method_8_code
def yX4_join : MethodName := ⟨RX4, "join", "(LForkJoinDesk$Fiber;)Z"⟩
abbrev cX4_gather : ByteArray := prog_11_method_7_code
def yX4_gather : MethodName := ⟨RX4, "gather", "(LForkJoinDesk$Frame;)V"⟩
abbrev cX4_find : ByteArray := prog_11_method_3_code
def yX4_find : MethodName := ⟨RX4, "find", "(I)I"⟩
abbrev cX4_end : ByteArray := prog_11_method_9_code
def yX4_end : MethodName := ⟨RX4, "end", "(LForkJoinDesk$Fiber;)Z"⟩
abbrev cX4_leave : ByteArray := prog_11_method_10_code
def yX4_leave : MethodName := ⟨RX4, "leave", "(LForkJoinDesk$Frame;LForkJoinDesk$Frame;)V"⟩
abbrev cX4_print : ByteArray := prog_11_method_11_code
def yX4_print : MethodName := ⟨RX4, "print", "(LForkJoinDesk$Fiber;I)Z"⟩
abbrev cX4_spend : ByteArray := prog_11_method_5_code
def yX4_spend : MethodName := ⟨RX4, "spend", "()V"⟩
abbrev cX4_touch : ByteArray := prog_11_method_13_code
def yX4_touch : MethodName := ⟨RX4, "touch", "(IIZ)V"⟩
abbrev cX4_lies : ByteArray := prog_11_method_12_code
def yX4_lies : MethodName := ⟨RX4, "lies", "(I)Z"⟩
abbrev cX4_isBeside : ByteArray := prog_11_method_15_code
def yX4_isBeside : MethodName := ⟨RX4, "isBeside", "(II)Z"⟩
abbrev cX4_rankAll : ByteArray := prog_11_method_14_code
def yX4_rankAll : MethodName := ⟨RX4, "rankAll", "()V"⟩
theorem q90 : (Jvm.Cond.initialized "ForkJoinDesk$Serial") ∈ lw_all := lw_g (lw_at lw_m1 22 rfl) rfl
theorem q485 : (Jvm.Cond.instantiable "ForkJoinDesk$Serial" (23 : Nat)) ∈ lw_all := lw_g (lw_at lw_m2 177 rfl) rfl
theorem q487 : (Jvm.Cond.instanceMethod ({ cls := "ForkJoinDesk$Serial", name := "<init>", desc := "()V" } : Jvm.MethodName)) ∈ lw_all := lw_g (lw_at lw_m2 179 rfl) rfl
theorem q488 : (Jvm.Cond.code ({ cls := "ForkJoinDesk$Serial", name := "<init>", desc := "()V" } : Jvm.MethodName) prog_11_method_1_code (1 : Nat) (Option.none : Option Jvm.ClassFile.FieldType)) ∈ lw_all := lw_g (lw_at lw_m2 180 rfl) rfl
theorem q489 : (Jvm.Cond.methodLinkNest "ForkJoinDesk$Serial" (3 : Nat) ({ cls := "ForkJoinDesk$Machine", name := "<init>", desc := "()V" } : Jvm.MethodName) "ForkJoinDesk") ∈ lw_tbl := lw_at lw_m2 181 rfl
theorem q493 : (Jvm.Cond.classLink "ForkJoinDesk$Serial" (9 : Nat) "ForkJoinDesk$Fiber") ∈ lw_all := lw_g (lw_at lw_m2 185 rfl) rfl
theorem q495 : (Jvm.Cond.methodLinkNest "ForkJoinDesk$Serial" (11 : Nat) ({ cls := "ForkJoinDesk$Fiber", name := "<init>", desc := "()V" } : Jvm.MethodName) "ForkJoinDesk") ∈ lw_tbl := lw_at lw_m2 187 rfl
theorem q505 : (Jvm.Cond.fieldLinkNest "ForkJoinDesk$Serial" (91 : Nat) "ForkJoinDesk$Fiber" "depth" "I" "ForkJoinDesk") ∈ lw_tbl := lw_at lw_m2 197 rfl
theorem q523 : (Jvm.Cond.classLink "ForkJoinDesk$Serial" (44 : Nat) "java/util/ArrayList") ∈ lw_all := lw_g (lw_at lw_m2 215 rfl) rfl
theorem q524 : (Jvm.Cond.methodLink "ForkJoinDesk$Serial" (46 : Nat) ({ cls := "java/util/ArrayList", name := "<init>", desc := "(I)V" } : Jvm.MethodName)) ∈ lw_all := lw_g (lw_at lw_m2 216 rfl) rfl
theorem q525 : (Jvm.Cond.fieldLink "ForkJoinDesk$Serial" (12 : Nat) "ForkJoinDesk$Serial" "thread" "LForkJoinDesk$Fiber;") ∈ lw_all := lw_g (lw_at lw_m2 217 rfl) rfl
theorem q527 : (Jvm.Cond.fieldLink "ForkJoinDesk$Serial" (18 : Nat) "ForkJoinDesk$Serial" "out" "[I") ∈ lw_all := lw_g (lw_at lw_m2 219 rfl) rfl
theorem q529 : (Jvm.Cond.fieldLink "ForkJoinDesk$Serial" (81 : Nat) "ForkJoinDesk$Serial" "printed" "I") ∈ lw_all := lw_g (lw_at lw_m2 221 rfl) rfl
theorem q531 : (Jvm.Cond.fieldLink "ForkJoinDesk$Serial" (78 : Nat) "ForkJoinDesk$Serial" "time" "I") ∈ lw_all := lw_g (lw_at lw_m2 223 rfl) rfl
theorem q532 : (Jvm.Cond.fieldLink "ForkJoinDesk$Serial" (75 : Nat) "ForkJoinDesk$Serial" "span" "I") ∈ lw_all := lw_g (lw_at lw_m2 224 rfl) rfl
theorem q534 : (Jvm.Cond.fieldLink "ForkJoinDesk$Serial" (22 : Nat) "ForkJoinDesk$Serial" "behind" "[I") ∈ lw_all := lw_g (lw_at lw_m2 226 rfl) rfl
theorem q535 : (Jvm.Cond.fieldLink "ForkJoinDesk$Serial" (25 : Nat) "ForkJoinDesk$Serial" "rank" "[I") ∈ lw_all := lw_g (lw_at lw_m2 227 rfl) rfl
theorem q536 : (Jvm.Cond.fieldLink "ForkJoinDesk$Serial" (84 : Nat) "ForkJoinDesk$Serial" "strands" "I") ∈ lw_all := lw_g (lw_at lw_m2 228 rfl) rfl
theorem q538 : (Jvm.Cond.fieldLink "ForkJoinDesk$Serial" (72 : Nat) "ForkJoinDesk$Serial" "strand" "I") ∈ lw_all := lw_g (lw_at lw_m2 230 rfl) rfl
theorem q539 : (Jvm.Cond.fieldLink "ForkJoinDesk$Serial" (68 : Nat) "ForkJoinDesk$Serial" "ranked" "I") ∈ lw_all := lw_g (lw_at lw_m2 231 rfl) rfl
theorem q540 : (Jvm.Cond.fieldLink "ForkJoinDesk$Serial" (28 : Nat) "ForkJoinDesk$Serial" "within" "[I") ∈ lw_all := lw_g (lw_at lw_m2 232 rfl) rfl
theorem q541 : (Jvm.Cond.fieldLink "ForkJoinDesk$Serial" (31 : Nat) "ForkJoinDesk$Serial" "isBeside" "[Z") ∈ lw_all := lw_g (lw_at lw_m2 233 rfl) rfl
theorem q542 : (Jvm.Cond.fieldLink "ForkJoinDesk$Serial" (87 : Nat) "ForkJoinDesk$Serial" "elements" "I") ∈ lw_all := lw_g (lw_at lw_m2 234 rfl) rfl
theorem q543 : (Jvm.Cond.fieldLink "ForkJoinDesk$Serial" (35 : Nat) "ForkJoinDesk$Serial" "writer" "[I") ∈ lw_all := lw_g (lw_at lw_m2 235 rfl) rfl
theorem q544 : (Jvm.Cond.fieldLink "ForkJoinDesk$Serial" (38 : Nat) "ForkJoinDesk$Serial" "reader" "[I") ∈ lw_all := lw_g (lw_at lw_m2 236 rfl) rfl
theorem q545 : (Jvm.Cond.fieldLink "ForkJoinDesk$Serial" (41 : Nat) "ForkJoinDesk$Serial" "told" "[Z") ∈ lw_all := lw_g (lw_at lw_m2 237 rfl) rfl
theorem q546 : (Jvm.Cond.fieldLink "ForkJoinDesk$Serial" (49 : Nat) "ForkJoinDesk$Serial" "races" "Ljava/util/ArrayList;") ∈ lw_all := lw_g (lw_at lw_m2 238 rfl) rfl
theorem q553 : (Jvm.Cond.sameField "ForkJoinDesk$Serial" "ForkJoinDesk$Machine" "sum" "I") ∈ lw_all := lw_g (lw_at lw_m3 5 rfl) rfl
theorem q558 : (Jvm.Cond.sameField "ForkJoinDesk$Serial" "ForkJoinDesk$Machine" "work" "I") ∈ lw_all := lw_g (lw_at lw_m3 10 rfl) rfl
theorem q563 : (Jvm.Cond.sameField "ForkJoinDesk$Serial" "ForkJoinDesk$Machine" "limited" "Z") ∈ lw_all := lw_g (lw_at lw_m3 15 rfl) rfl
theorem q564 : (Jvm.Cond.fieldLink "ForkJoinDesk$Serial" (132 : Nat) "ForkJoinDesk$Serial" "limited" "Z") ∈ lw_all := lw_g (lw_at lw_m3 16 rfl) rfl
theorem q570 : (Jvm.Cond.sameField "ForkJoinDesk$Serial" "ForkJoinDesk$Machine" "there" "Z") ∈ lw_all := lw_g (lw_at lw_m3 22 rfl) rfl
theorem q574 : (Jvm.Cond.laysFinal "ForkJoinDesk$Serial" "ForkJoinDesk$Serial" "thread" "LForkJoinDesk$Fiber;") ∈ lw_all := lw_g (lw_at lw_m3 26 rfl) rfl
theorem q575 : (Jvm.Cond.soleField "ForkJoinDesk$Serial" "thread") ∈ lw_all := lw_g (lw_at lw_m3 27 rfl) rfl
theorem q576 : (Jvm.Cond.laysFinal "ForkJoinDesk$Serial" "ForkJoinDesk$Serial" "out" "[I") ∈ lw_all := lw_g (lw_at lw_m3 28 rfl) rfl
theorem q577 : (Jvm.Cond.soleField "ForkJoinDesk$Serial" "out") ∈ lw_all := lw_g (lw_at lw_m3 29 rfl) rfl
theorem q578 : (Jvm.Cond.lays "ForkJoinDesk$Serial" "ForkJoinDesk$Serial" "printed" "I") ∈ lw_all := lw_g (lw_at lw_m3 30 rfl) rfl
theorem q579 : (Jvm.Cond.soleField "ForkJoinDesk$Serial" "printed") ∈ lw_all := lw_g (lw_at lw_m3 31 rfl) rfl
theorem q580 : (Jvm.Cond.lays "ForkJoinDesk$Serial" "ForkJoinDesk$Serial" "time" "I") ∈ lw_all := lw_g (lw_at lw_m3 32 rfl) rfl
theorem q581 : (Jvm.Cond.soleField "ForkJoinDesk$Serial" "time") ∈ lw_all := lw_g (lw_at lw_m3 33 rfl) rfl
theorem q582 : (Jvm.Cond.lays "ForkJoinDesk$Serial" "ForkJoinDesk$Serial" "span" "I") ∈ lw_all := lw_g (lw_at lw_m3 34 rfl) rfl
theorem q583 : (Jvm.Cond.soleField "ForkJoinDesk$Serial" "span") ∈ lw_all := lw_g (lw_at lw_m3 35 rfl) rfl
theorem q584 : (Jvm.Cond.laysFinal "ForkJoinDesk$Serial" "ForkJoinDesk$Serial" "behind" "[I") ∈ lw_all := lw_g (lw_at lw_m3 36 rfl) rfl
theorem q585 : (Jvm.Cond.soleField "ForkJoinDesk$Serial" "behind") ∈ lw_all := lw_g (lw_at lw_m3 37 rfl) rfl
theorem q586 : (Jvm.Cond.laysFinal "ForkJoinDesk$Serial" "ForkJoinDesk$Serial" "rank" "[I") ∈ lw_all := lw_g (lw_at lw_m3 38 rfl) rfl
theorem q587 : (Jvm.Cond.soleField "ForkJoinDesk$Serial" "rank") ∈ lw_all := lw_g (lw_at lw_m3 39 rfl) rfl
theorem q588 : (Jvm.Cond.lays "ForkJoinDesk$Serial" "ForkJoinDesk$Serial" "strands" "I") ∈ lw_all := lw_g (lw_at lw_m3 40 rfl) rfl
theorem q589 : (Jvm.Cond.soleField "ForkJoinDesk$Serial" "strands") ∈ lw_all := lw_g (lw_at lw_m3 41 rfl) rfl
theorem q590 : (Jvm.Cond.lays "ForkJoinDesk$Serial" "ForkJoinDesk$Serial" "strand" "I") ∈ lw_all := lw_g (lw_at lw_m3 42 rfl) rfl
theorem q591 : (Jvm.Cond.soleField "ForkJoinDesk$Serial" "strand") ∈ lw_all := lw_g (lw_at lw_m3 43 rfl) rfl
theorem q592 : (Jvm.Cond.lays "ForkJoinDesk$Serial" "ForkJoinDesk$Serial" "ranked" "I") ∈ lw_all := lw_g (lw_at lw_m3 44 rfl) rfl
theorem q593 : (Jvm.Cond.soleField "ForkJoinDesk$Serial" "ranked") ∈ lw_all := lw_g (lw_at lw_m3 45 rfl) rfl
theorem q594 : (Jvm.Cond.laysFinal "ForkJoinDesk$Serial" "ForkJoinDesk$Serial" "within" "[I") ∈ lw_all := lw_g (lw_at lw_m3 46 rfl) rfl
theorem q595 : (Jvm.Cond.soleField "ForkJoinDesk$Serial" "within") ∈ lw_all := lw_g (lw_at lw_m3 47 rfl) rfl
theorem q596 : (Jvm.Cond.laysFinal "ForkJoinDesk$Serial" "ForkJoinDesk$Serial" "isBeside" "[Z") ∈ lw_all := lw_g (lw_at lw_m3 48 rfl) rfl
theorem q597 : (Jvm.Cond.soleField "ForkJoinDesk$Serial" "isBeside") ∈ lw_all := lw_g (lw_at lw_m3 49 rfl) rfl
theorem q598 : (Jvm.Cond.lays "ForkJoinDesk$Serial" "ForkJoinDesk$Serial" "elements" "I") ∈ lw_all := lw_g (lw_at lw_m3 50 rfl) rfl
theorem q599 : (Jvm.Cond.soleField "ForkJoinDesk$Serial" "elements") ∈ lw_all := lw_g (lw_at lw_m3 51 rfl) rfl
theorem q600 : (Jvm.Cond.laysFinal "ForkJoinDesk$Serial" "ForkJoinDesk$Serial" "writer" "[I") ∈ lw_all := lw_g (lw_at lw_m3 52 rfl) rfl
theorem q601 : (Jvm.Cond.soleField "ForkJoinDesk$Serial" "writer") ∈ lw_all := lw_g (lw_at lw_m3 53 rfl) rfl
theorem q602 : (Jvm.Cond.laysFinal "ForkJoinDesk$Serial" "ForkJoinDesk$Serial" "reader" "[I") ∈ lw_all := lw_g (lw_at lw_m3 54 rfl) rfl
theorem q603 : (Jvm.Cond.soleField "ForkJoinDesk$Serial" "reader") ∈ lw_all := lw_g (lw_at lw_m3 55 rfl) rfl
theorem q604 : (Jvm.Cond.laysFinal "ForkJoinDesk$Serial" "ForkJoinDesk$Serial" "told" "[Z") ∈ lw_all := lw_g (lw_at lw_m3 56 rfl) rfl
theorem q605 : (Jvm.Cond.soleField "ForkJoinDesk$Serial" "told") ∈ lw_all := lw_g (lw_at lw_m3 57 rfl) rfl
theorem q606 : (Jvm.Cond.laysFinal "ForkJoinDesk$Serial" "ForkJoinDesk$Serial" "races" "Ljava/util/ArrayList;") ∈ lw_all := lw_g (lw_at lw_m3 58 rfl) rfl
theorem q607 : (Jvm.Cond.soleField "ForkJoinDesk$Serial" "races") ∈ lw_all := lw_g (lw_at lw_m3 59 rfl) rfl
theorem q608 : (Jvm.Cond.lays "ForkJoinDesk$Serial" "ForkJoinDesk$Machine" "program" "LForkJoinDesk$Program;") ∈ lw_all := lw_g (lw_at lw_m3 60 rfl) rfl
theorem q610 : (Jvm.Cond.laysFinal "ForkJoinDesk$Serial" "ForkJoinDesk$Machine" "cells" "[I") ∈ lw_all := lw_g (lw_at lw_m3 62 rfl) rfl
theorem q612 : (Jvm.Cond.lays "ForkJoinDesk$Serial" "ForkJoinDesk$Machine" "sum" "I") ∈ lw_all := lw_g (lw_at lw_m3 64 rfl) rfl
theorem q614 : (Jvm.Cond.lays "ForkJoinDesk$Serial" "ForkJoinDesk$Machine" "work" "I") ∈ lw_all := lw_g (lw_at lw_m3 66 rfl) rfl
theorem q616 : (Jvm.Cond.lays "ForkJoinDesk$Serial" "ForkJoinDesk$Machine" "limited" "Z") ∈ lw_all := lw_g (lw_at lw_m3 68 rfl) rfl
theorem q618 : (Jvm.Cond.lays "ForkJoinDesk$Serial" "ForkJoinDesk$Machine" "there" "Z") ∈ lw_all := lw_g (lw_at lw_m3 70 rfl) rfl
theorem q620 : (Jvm.Cond.superclass "ForkJoinDesk$Serial" "ForkJoinDesk$Machine") ∈ lw_all := lw_g (lw_at lw_m3 72 rfl) rfl
theorem q709 : (Jvm.Cond.instanceMethod ({ cls := "ForkJoinDesk$Serial", name := "begin", desc := "(LForkJoinDesk$Program;[I)V" } : Jvm.MethodName)) ∈ lw_all := lw_g (lw_at lw_m3 161 rfl) rfl
theorem q710 : (Jvm.Cond.selects "ForkJoinDesk$Serial" ({ cls := "ForkJoinDesk$Serial", name := "begin", desc := "(LForkJoinDesk$Program;[I)V" } : Jvm.MethodName) ({ cls := "ForkJoinDesk$Serial", name := "begin", desc := "(LForkJoinDesk$Program;[I)V" } : Jvm.MethodName)) ∈ lw_all := lw_g (lw_at lw_m3 162 rfl) rfl
theorem q711 : (Jvm.Cond.code ({ cls := "ForkJoinDesk$Serial", name := "begin", desc := "(LForkJoinDesk$Program;[I)V" } : Jvm.MethodName) prog_11_method_2_code (4 : Nat) (Option.none : Option Jvm.ClassFile.FieldType)) ∈ lw_all := lw_g (lw_at lw_m3 163 rfl) rfl
theorem q712 : (Jvm.Cond.methodLink "ForkJoinDesk$Serial" (53 : Nat) ({ cls := "ForkJoinDesk$Machine", name := "begin", desc := "(LForkJoinDesk$Program;[I)V" } : Jvm.MethodName)) ∈ lw_all := lw_g (lw_at lw_m3 164 rfl) rfl
theorem q716 : (Jvm.Cond.methodLink "ForkJoinDesk$Serial" (57 : Nat) ({ cls := "ForkJoinDesk$Fiber", name := "clear", desc := "()V" } : Jvm.MethodName)) ∈ lw_all := lw_g (lw_at lw_m3 168 rfl) rfl
theorem q720 : (Jvm.Cond.methodLink "ForkJoinDesk$Serial" (64 : Nat) ({ cls := "ForkJoinDesk$Fiber", name := "enter", desc := "(IZ)LForkJoinDesk$Frame;" } : Jvm.MethodName)) ∈ lw_all := lw_g (lw_at lw_m3 172 rfl) rfl
theorem q737 : (Jvm.Cond.fieldLinkNest "ForkJoinDesk$Serial" (140 : Nat) "ForkJoinDesk$Frame" "isFork" "Z" "ForkJoinDesk") ∈ lw_tbl := lw_at lw_m3 189 rfl
theorem q739 : (Jvm.Cond.fieldLinkNest "ForkJoinDesk$Serial" (98 : Nat) "ForkJoinDesk$Frame" "next" "I" "ForkJoinDesk") ∈ lw_tbl := lw_at lw_m3 191 rfl
theorem q743 : (Jvm.Cond.fieldLinkNest "ForkJoinDesk$Serial" (111 : Nat) "ForkJoinDesk$Frame" "element" "I" "ForkJoinDesk") ∈ lw_tbl := lw_at lw_m3 195 rfl
theorem q746 : (Jvm.Cond.fieldLinkNest "ForkJoinDesk$Serial" (117 : Nat) "ForkJoinDesk$Frame" "beside" "I" "ForkJoinDesk") ∈ lw_tbl := lw_at lw_m3 198 rfl
theorem q748 : (Jvm.Cond.fieldLinkNest "ForkJoinDesk$Serial" (114 : Nat) "ForkJoinDesk$Frame" "firstEnd" "I" "ForkJoinDesk") ∈ lw_tbl := lw_at lw_m3 200 rfl
theorem q750 : (Jvm.Cond.fieldLinkNest "ForkJoinDesk$Serial" (104 : Nat) "ForkJoinDesk$Frame" "from" "I" "ForkJoinDesk") ∈ lw_tbl := lw_at lw_m3 202 rfl
theorem q752 : (Jvm.Cond.fieldLinkNest "ForkJoinDesk$Serial" (103 : Nat) "ForkJoinDesk$Frame" "time" "I" "ForkJoinDesk") ∈ lw_tbl := lw_at lw_m3 204 rfl
theorem q754 : (Jvm.Cond.fieldLinkNest "ForkJoinDesk$Serial" (123 : Nat) "ForkJoinDesk$Frame" "late" "I" "ForkJoinDesk") ∈ lw_tbl := lw_at lw_m3 206 rfl
theorem q816 : (Jvm.Cond.selects "ForkJoinDesk$Serial" ({ cls := "java/lang/Object", name := "getClass", desc := "()Ljava/lang/Class;" } : Jvm.MethodName) ({ cls := "java/lang/Object", name := "getClass", desc := "()Ljava/lang/Class;" } : Jvm.MethodName)) ∈ lw_all := lw_g (lw_at lw_m4 28 rfl) rfl
theorem q850 : (Jvm.Cond.methodLink "ForkJoinDesk$Serial" (90 : Nat) ({ cls := "java/util/ArrayList", name := "clear", desc := "()V" } : Jvm.MethodName)) ∈ lw_all := lw_g (lw_at lw_m4 62 rfl) rfl
theorem q926 : (Jvm.Cond.fieldLinkNest "ForkJoinDesk$Serial" (60 : Nat) "ForkJoinDesk$Program" "begin" "[I" "ForkJoinDesk") ∈ lw_tbl := lw_at lw_m4 138 rfl
theorem q1155 : (Jvm.Cond.sameMethod "ForkJoinDesk$Serial" "ForkJoinDesk$Machine" "step" "(LForkJoinDesk$Fiber;)Z") ∈ lw_all := lw_g (lw_at lw_m5 127 rfl) rfl
theorem q1157 : (Jvm.Cond.selects "ForkJoinDesk$Serial" ({ cls := "ForkJoinDesk$Serial", name := "step", desc := "(LForkJoinDesk$Fiber;)Z" } : Jvm.MethodName) ({ cls := "ForkJoinDesk$Machine", name := "step", desc := "(LForkJoinDesk$Fiber;)Z" } : Jvm.MethodName)) ∈ lw_all := lw_g (lw_at lw_m5 129 rfl) rfl
theorem q1187 : (Jvm.Cond.selects "ForkJoinDesk$Serial" ({ cls := "ForkJoinDesk$Machine", name := "fork", desc := "(LForkJoinDesk$Fiber;I)LForkJoinDesk$Frame;" } : Jvm.MethodName) ({ cls := "ForkJoinDesk$Serial", name := "fork", desc := "(LForkJoinDesk$Fiber;I)LForkJoinDesk$Frame;" } : Jvm.MethodName)) ∈ lw_all := lw_g (lw_at lw_m5 159 rfl) rfl
theorem q1188 : (Jvm.Cond.instanceMethod ({ cls := "ForkJoinDesk$Serial", name := "fork", desc := "(LForkJoinDesk$Fiber;I)LForkJoinDesk$Frame;" } : Jvm.MethodName)) ∈ lw_all := lw_g (lw_at lw_m5 160 rfl) rfl
theorem q1189 : (Jvm.Cond.code ({ cls := "ForkJoinDesk$Serial", name := "fork", desc := "(LForkJoinDesk$Fiber;I)LForkJoinDesk$Frame;" } : Jvm.MethodName) prog_11_method_6_code (5 : Nat) (Option.some (Jvm.ClassFile.FieldType.object "ForkJoinDesk$Frame"))) ∈ lw_all := lw_g (lw_at lw_m5 161 rfl) rfl
theorem q1190 : (Jvm.Cond.methodLink "ForkJoinDesk$Serial" (94 : Nat) ({ cls := "ForkJoinDesk$Fiber", name := "top", desc := "()LForkJoinDesk$Frame;" } : Jvm.MethodName)) ∈ lw_all := lw_g (lw_at lw_m5 162 rfl) rfl
theorem q1191 : (Jvm.Cond.methodLink "ForkJoinDesk$Serial" (107 : Nat) ({ cls := "ForkJoinDesk$Serial", name := "grow", desc := "(I)I" } : Jvm.MethodName)) ∈ lw_all := lw_g (lw_at lw_m5 163 rfl) rfl
theorem q1192 : (Jvm.Cond.privateMethod ({ cls := "ForkJoinDesk$Serial", name := "grow", desc := "(I)I" } : Jvm.MethodName)) ∈ lw_tbl := lw_at lw_m5 164 rfl
theorem q1193 : (Jvm.Cond.instanceMethod ({ cls := "ForkJoinDesk$Serial", name := "grow", desc := "(I)I" } : Jvm.MethodName)) ∈ lw_all := lw_g (lw_at lw_m5 165 rfl) rfl
theorem q1194 : (Jvm.Cond.code ({ cls := "ForkJoinDesk$Serial", name := "grow", desc := "(I)I" } : Jvm.MethodName) prog_11_method_4_code (2 : Nat) (Option.some Jvm.ClassFile.FieldType.int)) ∈ lw_all := lw_g (lw_at lw_m5 166 rfl) rfl
theorem q1209 : (Jvm.Cond.selects "ForkJoinDesk$Serial" ({ cls := "ForkJoinDesk$Machine", name := "join", desc := "(LForkJoinDesk$Fiber;)Z" } : Jvm.MethodName) ({ cls := "ForkJoinDesk$Serial", name := "join", desc := "(LForkJoinDesk$Fiber;)Z" } : Jvm.MethodName)) ∈ lw_all := lw_g (lw_at lw_m5 181 rfl) rfl
theorem q1210 : (Jvm.Cond.instanceMethod ({ cls := "ForkJoinDesk$Serial", name := "join", desc := "(LForkJoinDesk$Fiber;)Z" } : Jvm.MethodName)) ∈ lw_all := lw_g (lw_at lw_m5 182 rfl) rfl
theorem q1211 : (Jvm.Cond.code ({ cls := "ForkJoinDesk$Serial", name := "join", desc := "(LForkJoinDesk$Fiber;)Z" } : Jvm.MethodName) prog_11_method_8_code (3 : Nat) (Option.some Jvm.ClassFile.FieldType.boolean)) ∈ lw_all := lw_g (lw_at lw_m5 183 rfl) rfl
theorem q1212 : (Jvm.Cond.methodLink "ForkJoinDesk$Serial" (136 : Nat) ({ cls := "ForkJoinDesk$Serial", name := "gather", desc := "(LForkJoinDesk$Frame;)V" } : Jvm.MethodName)) ∈ lw_all := lw_g (lw_at lw_m5 184 rfl) rfl
theorem q1213 : (Jvm.Cond.privateMethod ({ cls := "ForkJoinDesk$Serial", name := "gather", desc := "(LForkJoinDesk$Frame;)V" } : Jvm.MethodName)) ∈ lw_tbl := lw_at lw_m5 185 rfl
theorem q1214 : (Jvm.Cond.instanceMethod ({ cls := "ForkJoinDesk$Serial", name := "gather", desc := "(LForkJoinDesk$Frame;)V" } : Jvm.MethodName)) ∈ lw_all := lw_g (lw_at lw_m5 186 rfl) rfl
theorem q1215 : (Jvm.Cond.code ({ cls := "ForkJoinDesk$Serial", name := "gather", desc := "(LForkJoinDesk$Frame;)V" } : Jvm.MethodName) prog_11_method_7_code (2 : Nat) (Option.none : Option Jvm.ClassFile.FieldType)) ∈ lw_all := lw_g (lw_at lw_m5 187 rfl) rfl
theorem q1216 : (Jvm.Cond.methodLink "ForkJoinDesk$Serial" (120 : Nat) ({ cls := "ForkJoinDesk$Serial", name := "find", desc := "(I)I" } : Jvm.MethodName)) ∈ lw_all := lw_g (lw_at lw_m5 188 rfl) rfl
theorem q1217 : (Jvm.Cond.privateMethod ({ cls := "ForkJoinDesk$Serial", name := "find", desc := "(I)I" } : Jvm.MethodName)) ∈ lw_tbl := lw_at lw_m5 189 rfl
theorem q1218 : (Jvm.Cond.instanceMethod ({ cls := "ForkJoinDesk$Serial", name := "find", desc := "(I)I" } : Jvm.MethodName)) ∈ lw_all := lw_g (lw_at lw_m5 190 rfl) rfl
theorem q1219 : (Jvm.Cond.code ({ cls := "ForkJoinDesk$Serial", name := "find", desc := "(I)I" } : Jvm.MethodName) prog_11_method_3_code (3 : Nat) (Option.some Jvm.ClassFile.FieldType.int)) ∈ lw_all := lw_g (lw_at lw_m5 191 rfl) rfl
theorem q1220 : (Jvm.Cond.methodLink "ForkJoinDesk$Serial" (126 : Nat) ({ cls := "java/lang/Math", name := "max", desc := "(II)I" } : Jvm.MethodName)) ∈ lw_all := lw_g (lw_at lw_m5 192 rfl) rfl
theorem q1227 : (Jvm.Cond.selects "ForkJoinDesk$Serial" ({ cls := "ForkJoinDesk$Machine", name := "end", desc := "(LForkJoinDesk$Fiber;)Z" } : Jvm.MethodName) ({ cls := "ForkJoinDesk$Serial", name := "end", desc := "(LForkJoinDesk$Fiber;)Z" } : Jvm.MethodName)) ∈ lw_all := lw_g (lw_at lw_m5 199 rfl) rfl
theorem q1228 : (Jvm.Cond.instanceMethod ({ cls := "ForkJoinDesk$Serial", name := "end", desc := "(LForkJoinDesk$Fiber;)Z" } : Jvm.MethodName)) ∈ lw_all := lw_g (lw_at lw_m5 200 rfl) rfl
theorem q1229 : (Jvm.Cond.code ({ cls := "ForkJoinDesk$Serial", name := "end", desc := "(LForkJoinDesk$Fiber;)Z" } : Jvm.MethodName) prog_11_method_9_code (3 : Nat) (Option.some Jvm.ClassFile.FieldType.boolean)) ∈ lw_all := lw_g (lw_at lw_m5 201 rfl) rfl
theorem q1230 : (Jvm.Cond.methodLink "ForkJoinDesk$Serial" (143 : Nat) ({ cls := "ForkJoinDesk$Serial", name := "leave", desc := "(LForkJoinDesk$Frame;LForkJoinDesk$Frame;)V" } : Jvm.MethodName)) ∈ lw_all := lw_g (lw_at lw_m5 202 rfl) rfl
theorem q1231 : (Jvm.Cond.privateMethod ({ cls := "ForkJoinDesk$Serial", name := "leave", desc := "(LForkJoinDesk$Frame;LForkJoinDesk$Frame;)V" } : Jvm.MethodName)) ∈ lw_tbl := lw_at lw_m5 203 rfl
theorem q1232 : (Jvm.Cond.instanceMethod ({ cls := "ForkJoinDesk$Serial", name := "leave", desc := "(LForkJoinDesk$Frame;LForkJoinDesk$Frame;)V" } : Jvm.MethodName)) ∈ lw_all := lw_g (lw_at lw_m5 204 rfl) rfl
theorem q1233 : (Jvm.Cond.code ({ cls := "ForkJoinDesk$Serial", name := "leave", desc := "(LForkJoinDesk$Frame;LForkJoinDesk$Frame;)V" } : Jvm.MethodName) prog_11_method_10_code (4 : Nat) (Option.none : Option Jvm.ClassFile.FieldType)) ∈ lw_all := lw_g (lw_at lw_m5 205 rfl) rfl
theorem q1240 : (Jvm.Cond.selects "ForkJoinDesk$Serial" ({ cls := "ForkJoinDesk$Machine", name := "print", desc := "(LForkJoinDesk$Fiber;I)Z" } : Jvm.MethodName) ({ cls := "ForkJoinDesk$Serial", name := "print", desc := "(LForkJoinDesk$Fiber;I)Z" } : Jvm.MethodName)) ∈ lw_all := lw_g (lw_at lw_m5 212 rfl) rfl
theorem q1241 : (Jvm.Cond.instanceMethod ({ cls := "ForkJoinDesk$Serial", name := "print", desc := "(LForkJoinDesk$Fiber;I)Z" } : Jvm.MethodName)) ∈ lw_all := lw_g (lw_at lw_m5 213 rfl) rfl
theorem q1242 : (Jvm.Cond.code ({ cls := "ForkJoinDesk$Serial", name := "print", desc := "(LForkJoinDesk$Fiber;I)Z" } : Jvm.MethodName) prog_11_method_11_code (3 : Nat) (Option.some Jvm.ClassFile.FieldType.boolean)) ∈ lw_all := lw_g (lw_at lw_m5 214 rfl) rfl
theorem q1243 : (Jvm.Cond.methodLink "ForkJoinDesk$Serial" (147 : Nat) ({ cls := "ForkJoinDesk$Serial", name := "spend", desc := "()V" } : Jvm.MethodName)) ∈ lw_all := lw_g (lw_at lw_m5 215 rfl) rfl
theorem q1244 : (Jvm.Cond.instanceMethod ({ cls := "ForkJoinDesk$Serial", name := "spend", desc := "()V" } : Jvm.MethodName)) ∈ lw_all := lw_g (lw_at lw_m5 216 rfl) rfl
theorem q1245 : (Jvm.Cond.selects "ForkJoinDesk$Serial" ({ cls := "ForkJoinDesk$Serial", name := "spend", desc := "()V" } : Jvm.MethodName) ({ cls := "ForkJoinDesk$Serial", name := "spend", desc := "()V" } : Jvm.MethodName)) ∈ lw_all := lw_g (lw_at lw_m5 217 rfl) rfl
theorem q1246 : (Jvm.Cond.code ({ cls := "ForkJoinDesk$Serial", name := "spend", desc := "()V" } : Jvm.MethodName) prog_11_method_5_code (1 : Nat) (Option.none : Option Jvm.ClassFile.FieldType)) ∈ lw_all := lw_g (lw_at lw_m5 218 rfl) rfl
theorem q1257 : (Jvm.Cond.selects "ForkJoinDesk$Serial" ({ cls := "ForkJoinDesk$Machine", name := "spend", desc := "()V" } : Jvm.MethodName) ({ cls := "ForkJoinDesk$Serial", name := "spend", desc := "()V" } : Jvm.MethodName)) ∈ lw_all := lw_g (lw_at lw_m5 229 rfl) rfl
theorem q1272 : (Jvm.Cond.selects "ForkJoinDesk$Serial" ({ cls := "ForkJoinDesk$Machine", name := "touch", desc := "(IIZ)V" } : Jvm.MethodName) ({ cls := "ForkJoinDesk$Serial", name := "touch", desc := "(IIZ)V" } : Jvm.MethodName)) ∈ lw_all := lw_g (lw_at lw_m6 4 rfl) rfl
theorem q1273 : (Jvm.Cond.instanceMethod ({ cls := "ForkJoinDesk$Serial", name := "touch", desc := "(IIZ)V" } : Jvm.MethodName)) ∈ lw_all := lw_g (lw_at lw_m6 5 rfl) rfl
theorem q1274 : (Jvm.Cond.code ({ cls := "ForkJoinDesk$Serial", name := "touch", desc := "(IIZ)V" } : Jvm.MethodName) prog_11_method_13_code (6 : Nat) (Option.none : Option Jvm.ClassFile.FieldType)) ∈ lw_all := lw_g (lw_at lw_m6 6 rfl) rfl
theorem q1275 : (Jvm.Cond.methodLink "ForkJoinDesk$Serial" (150 : Nat) ({ cls := "ForkJoinDesk$Serial", name := "lies", desc := "(I)Z" } : Jvm.MethodName)) ∈ lw_all := lw_g (lw_at lw_m6 7 rfl) rfl
theorem q1276 : (Jvm.Cond.privateMethod ({ cls := "ForkJoinDesk$Serial", name := "lies", desc := "(I)Z" } : Jvm.MethodName)) ∈ lw_tbl := lw_at lw_m6 8 rfl
theorem q1277 : (Jvm.Cond.instanceMethod ({ cls := "ForkJoinDesk$Serial", name := "lies", desc := "(I)Z" } : Jvm.MethodName)) ∈ lw_all := lw_g (lw_at lw_m6 9 rfl) rfl
theorem q1278 : (Jvm.Cond.code ({ cls := "ForkJoinDesk$Serial", name := "lies", desc := "(I)Z" } : Jvm.MethodName) prog_11_method_12_code (2 : Nat) (Option.some Jvm.ClassFile.FieldType.boolean)) ∈ lw_all := lw_g (lw_at lw_m6 10 rfl) rfl
theorem q1279 : (Jvm.Cond.classLink "ForkJoinDesk$Serial" (154 : Nat) "ForkJoinDesk$Race") ∈ lw_all := lw_g (lw_at lw_m6 11 rfl) rfl
theorem q1281 : (Jvm.Cond.methodLinkNest "ForkJoinDesk$Serial" (156 : Nat) ({ cls := "ForkJoinDesk$Race", name := "<init>", desc := "(IIZI)V" } : Jvm.MethodName) "ForkJoinDesk") ∈ lw_tbl := lw_at lw_m6 13 rfl
theorem q1302 : (Jvm.Cond.methodLink "ForkJoinDesk$Serial" (159 : Nat) ({ cls := "java/util/ArrayList", name := "add", desc := "(Ljava/lang/Object;)Z" } : Jvm.MethodName)) ∈ lw_all := lw_g (lw_at lw_m6 34 rfl) rfl
theorem q1368 : (Jvm.Cond.instanceMethod ({ cls := "ForkJoinDesk$Serial", name := "isBeside", desc := "(II)Z" } : Jvm.MethodName)) ∈ lw_all := lw_g (lw_at lw_m6 100 rfl) rfl
theorem q1369 : (Jvm.Cond.selects "ForkJoinDesk$Serial" ({ cls := "ForkJoinDesk$Serial", name := "isBeside", desc := "(II)Z" } : Jvm.MethodName) ({ cls := "ForkJoinDesk$Serial", name := "isBeside", desc := "(II)Z" } : Jvm.MethodName)) ∈ lw_all := lw_g (lw_at lw_m6 101 rfl) rfl
theorem q1370 : (Jvm.Cond.code ({ cls := "ForkJoinDesk$Serial", name := "isBeside", desc := "(II)Z" } : Jvm.MethodName) prog_11_method_15_code (3 : Nat) (Option.some Jvm.ClassFile.FieldType.boolean)) ∈ lw_all := lw_g (lw_at lw_m6 102 rfl) rfl
theorem q1371 : (Jvm.Cond.methodLink "ForkJoinDesk$Serial" (163 : Nat) ({ cls := "ForkJoinDesk$Serial", name := "rankAll", desc := "()V" } : Jvm.MethodName)) ∈ lw_all := lw_g (lw_at lw_m6 103 rfl) rfl
theorem q1372 : (Jvm.Cond.privateMethod ({ cls := "ForkJoinDesk$Serial", name := "rankAll", desc := "()V" } : Jvm.MethodName)) ∈ lw_tbl := lw_at lw_m6 104 rfl
theorem q1373 : (Jvm.Cond.instanceMethod ({ cls := "ForkJoinDesk$Serial", name := "rankAll", desc := "()V" } : Jvm.MethodName)) ∈ lw_all := lw_g (lw_at lw_m6 105 rfl) rfl
theorem q1374 : (Jvm.Cond.code ({ cls := "ForkJoinDesk$Serial", name := "rankAll", desc := "()V" } : Jvm.MethodName) prog_11_method_14_code (3 : Nat) (Option.none : Option Jvm.ClassFile.FieldType)) ∈ lw_all := lw_g (lw_at lw_m6 106 rfl) rfl
theorem q1903 : (Jvm.Cond.castable "ForkJoinDesk$Serial" "java/lang/Object") ∈ lw_tbl := lw_at lw_m8 155 rfl
theorem in_X4 : ∀ w ∈ wsX40, w ∈ lw_all := lw_in wsX40 [608, 610, 612, 614, 616, 618, 574, 576, 578, 580, 582, 584, 586, 588, 590, 592, 594, 596, 598, 600, 602, 604, 606] (by decide +kernel) (by decide +kernel)
def RX5 : String := "ForkJoinDesk$Fiber"
def TX5 : u_T := fun k => match k with
  | 0 => ("ForkJoinDesk$Fiber", "frames", "Ljava/util/ArrayList;", true)
  | 1 => ("ForkJoinDesk$Fiber", "pile", "[I", true)
  | 2 => ("ForkJoinDesk$Fiber", "depth", "I", false)
  | 3 => ("ForkJoinDesk$Fiber", "high", "I", false)
  | _ => ("ForkJoinDesk$Fiber", "part", "I", false)
def tyX5 : Nat → FieldType := fun k => match k with
  | 0 => .object "java/util/ArrayList"
  | 1 => .array .int
  | 2 => .int
  | 3 => .int
  | _ => .int
abbrev wsX50 : List Cond := u_ws RX5 TX5 5
theorem nmX5 : ∀ a, a < 5 → ∀ b, b < 5 → a ≠ b → (TX5 a).2.1 ≠ (TX5 b).2.1 := by decide +kernel
theorem tyX5_ok : ∀ k, k < 5 → parseFieldDescriptor (TX5 k).2.2.1 = some (tyX5 k) := by decide +kernel
abbrev cX5_init : ByteArray := prog_3_method_1_code
def yX5_init : MethodName := ⟨RX5, "<init>", "()V"⟩
abbrev cX5_clear : ByteArray := prog_3_method_2_code
def yX5_clear : MethodName := ⟨RX5, "clear", "()V"⟩
abbrev cX5_enter : ByteArray := prog_3_method_3_code
def yX5_enter : MethodName := ⟨RX5, "enter", "(IZ)LForkJoinDesk$Frame;"⟩
abbrev cX5_isOver : ByteArray := prog_3_method_7_code
def yX5_isOver : MethodName := ⟨RX5, "isOver", "()Z"⟩
abbrev cX5_top : ByteArray := prog_3_method_6_code
def yX5_top : MethodName := ⟨RX5, "top", "()LForkJoinDesk$Frame;"⟩
abbrev cX5_pop : ByteArray := prog_3_method_5_code
def yX5_pop : MethodName := ⟨RX5, "pop", "()I"⟩
abbrev cX5_push : ByteArray := prog_3_method_4_code
def yX5_push : MethodName := ⟨RX5, "push", "(I)V"⟩
theorem q91 : (Jvm.Cond.initialized "ForkJoinDesk$Fiber") ∈ lw_all := lw_g (lw_at lw_m1 23 rfl) rfl
theorem q494 : (Jvm.Cond.instantiable "ForkJoinDesk$Fiber" (5 : Nat)) ∈ lw_all := lw_g (lw_at lw_m2 186 rfl) rfl
theorem q496 : (Jvm.Cond.instanceMethod ({ cls := "ForkJoinDesk$Fiber", name := "<init>", desc := "()V" } : Jvm.MethodName)) ∈ lw_all := lw_g (lw_at lw_m2 188 rfl) rfl
theorem q497 : (Jvm.Cond.code ({ cls := "ForkJoinDesk$Fiber", name := "<init>", desc := "()V" } : Jvm.MethodName) prog_3_method_1_code (1 : Nat) (Option.none : Option Jvm.ClassFile.FieldType)) ∈ lw_all := lw_g (lw_at lw_m2 189 rfl) rfl
theorem q498 : (Jvm.Cond.methodLink "ForkJoinDesk$Fiber" (1 : Nat) ({ cls := "java/lang/Object", name := "<init>", desc := "()V" } : Jvm.MethodName)) ∈ lw_all := lw_g (lw_at lw_m2 190 rfl) rfl
theorem q499 : (Jvm.Cond.classLink "ForkJoinDesk$Fiber" (7 : Nat) "java/util/ArrayList") ∈ lw_all := lw_g (lw_at lw_m2 191 rfl) rfl
theorem q500 : (Jvm.Cond.methodLink "ForkJoinDesk$Fiber" (9 : Nat) ({ cls := "java/util/ArrayList", name := "<init>", desc := "(I)V" } : Jvm.MethodName)) ∈ lw_all := lw_g (lw_at lw_m2 192 rfl) rfl
theorem q501 : (Jvm.Cond.fieldLink "ForkJoinDesk$Fiber" (12 : Nat) "ForkJoinDesk$Fiber" "frames" "Ljava/util/ArrayList;") ∈ lw_all := lw_g (lw_at lw_m2 193 rfl) rfl
theorem q502 : (Jvm.Cond.fieldLink "ForkJoinDesk$Fiber" (18 : Nat) "ForkJoinDesk$Fiber" "pile" "[I") ∈ lw_all := lw_g (lw_at lw_m2 194 rfl) rfl
theorem q504 : (Jvm.Cond.fieldLink "ForkJoinDesk$Fiber" (22 : Nat) "ForkJoinDesk$Fiber" "depth" "I") ∈ lw_all := lw_g (lw_at lw_m2 196 rfl) rfl
theorem q509 : (Jvm.Cond.fieldLink "ForkJoinDesk$Fiber" (26 : Nat) "ForkJoinDesk$Fiber" "high" "I") ∈ lw_all := lw_g (lw_at lw_m2 201 rfl) rfl
theorem q512 : (Jvm.Cond.laysFinal "ForkJoinDesk$Fiber" "ForkJoinDesk$Fiber" "frames" "Ljava/util/ArrayList;") ∈ lw_all := lw_g (lw_at lw_m2 204 rfl) rfl
theorem q513 : (Jvm.Cond.soleField "ForkJoinDesk$Fiber" "frames") ∈ lw_all := lw_g (lw_at lw_m2 205 rfl) rfl
theorem q514 : (Jvm.Cond.laysFinal "ForkJoinDesk$Fiber" "ForkJoinDesk$Fiber" "pile" "[I") ∈ lw_all := lw_g (lw_at lw_m2 206 rfl) rfl
theorem q515 : (Jvm.Cond.soleField "ForkJoinDesk$Fiber" "pile") ∈ lw_all := lw_g (lw_at lw_m2 207 rfl) rfl
theorem q516 : (Jvm.Cond.lays "ForkJoinDesk$Fiber" "ForkJoinDesk$Fiber" "depth" "I") ∈ lw_all := lw_g (lw_at lw_m2 208 rfl) rfl
theorem q517 : (Jvm.Cond.soleField "ForkJoinDesk$Fiber" "depth") ∈ lw_all := lw_g (lw_at lw_m2 209 rfl) rfl
theorem q518 : (Jvm.Cond.lays "ForkJoinDesk$Fiber" "ForkJoinDesk$Fiber" "high" "I") ∈ lw_all := lw_g (lw_at lw_m2 210 rfl) rfl
theorem q519 : (Jvm.Cond.soleField "ForkJoinDesk$Fiber" "high") ∈ lw_all := lw_g (lw_at lw_m2 211 rfl) rfl
theorem q520 : (Jvm.Cond.lays "ForkJoinDesk$Fiber" "ForkJoinDesk$Fiber" "part" "I") ∈ lw_all := lw_g (lw_at lw_m2 212 rfl) rfl
theorem q521 : (Jvm.Cond.soleField "ForkJoinDesk$Fiber" "part") ∈ lw_all := lw_g (lw_at lw_m2 213 rfl) rfl
theorem q522 : (Jvm.Cond.superclass "ForkJoinDesk$Fiber" "java/lang/Object") ∈ lw_all := lw_g (lw_at lw_m2 214 rfl) rfl
theorem q717 : (Jvm.Cond.instanceMethod ({ cls := "ForkJoinDesk$Fiber", name := "clear", desc := "()V" } : Jvm.MethodName)) ∈ lw_all := lw_g (lw_at lw_m3 169 rfl) rfl
theorem q718 : (Jvm.Cond.selects "ForkJoinDesk$Fiber" ({ cls := "ForkJoinDesk$Fiber", name := "clear", desc := "()V" } : Jvm.MethodName) ({ cls := "ForkJoinDesk$Fiber", name := "clear", desc := "()V" } : Jvm.MethodName)) ∈ lw_all := lw_g (lw_at lw_m3 170 rfl) rfl
theorem q719 : (Jvm.Cond.code ({ cls := "ForkJoinDesk$Fiber", name := "clear", desc := "()V" } : Jvm.MethodName) prog_3_method_2_code (1 : Nat) (Option.none : Option Jvm.ClassFile.FieldType)) ∈ lw_all := lw_g (lw_at lw_m3 171 rfl) rfl
theorem q721 : (Jvm.Cond.instanceMethod ({ cls := "ForkJoinDesk$Fiber", name := "enter", desc := "(IZ)LForkJoinDesk$Frame;" } : Jvm.MethodName)) ∈ lw_all := lw_g (lw_at lw_m3 173 rfl) rfl
theorem q722 : (Jvm.Cond.selects "ForkJoinDesk$Fiber" ({ cls := "ForkJoinDesk$Fiber", name := "enter", desc := "(IZ)LForkJoinDesk$Frame;" } : Jvm.MethodName) ({ cls := "ForkJoinDesk$Fiber", name := "enter", desc := "(IZ)LForkJoinDesk$Frame;" } : Jvm.MethodName)) ∈ lw_all := lw_g (lw_at lw_m3 174 rfl) rfl
theorem q723 : (Jvm.Cond.code ({ cls := "ForkJoinDesk$Fiber", name := "enter", desc := "(IZ)LForkJoinDesk$Frame;" } : Jvm.MethodName) prog_3_method_3_code (4 : Nat) (Option.some (Jvm.ClassFile.FieldType.object "ForkJoinDesk$Frame"))) ∈ lw_all := lw_g (lw_at lw_m3 175 rfl) rfl
theorem q724 : (Jvm.Cond.methodLink "ForkJoinDesk$Fiber" (29 : Nat) ({ cls := "java/util/ArrayList", name := "size", desc := "()I" } : Jvm.MethodName)) ∈ lw_all := lw_g (lw_at lw_m3 176 rfl) rfl
theorem q728 : (Jvm.Cond.classLink "ForkJoinDesk$Fiber" (33 : Nat) "ForkJoinDesk$Frame") ∈ lw_all := lw_g (lw_at lw_m3 180 rfl) rfl
theorem q730 : (Jvm.Cond.methodLinkNest "ForkJoinDesk$Fiber" (35 : Nat) ({ cls := "ForkJoinDesk$Frame", name := "<init>", desc := "()V" } : Jvm.MethodName) "ForkJoinDesk") ∈ lw_tbl := lw_at lw_m3 182 rfl
theorem q782 : (Jvm.Cond.methodLink "ForkJoinDesk$Fiber" (36 : Nat) ({ cls := "java/util/ArrayList", name := "add", desc := "(Ljava/lang/Object;)Z" } : Jvm.MethodName)) ∈ lw_all := lw_g (lw_at lw_m3 234 rfl) rfl
theorem q809 : (Jvm.Cond.selects "ForkJoinDesk$Fiber" ({ cls := "java/lang/Object", name := "getClass", desc := "()Ljava/lang/Class;" } : Jvm.MethodName) ({ cls := "java/lang/Object", name := "getClass", desc := "()Ljava/lang/Class;" } : Jvm.MethodName)) ∈ lw_all := lw_g (lw_at lw_m4 21 rfl) rfl
theorem q832 : (Jvm.Cond.methodLink "ForkJoinDesk$Fiber" (40 : Nat) ({ cls := "java/util/ArrayList", name := "get", desc := "(I)Ljava/lang/Object;" } : Jvm.MethodName)) ∈ lw_all := lw_g (lw_at lw_m4 44 rfl) rfl
theorem q846 : (Jvm.Cond.methodLink "ForkJoinDesk$Fiber" (44 : Nat) ({ cls := "ForkJoinDesk$Frame", name := "begin", desc := "(IZ)V" } : Jvm.MethodName)) ∈ lw_all := lw_g (lw_at lw_m4 58 rfl) rfl
theorem q898 : (Jvm.Cond.instanceMethod ({ cls := "ForkJoinDesk$Fiber", name := "isOver", desc := "()Z" } : Jvm.MethodName)) ∈ lw_all := lw_g (lw_at lw_m4 110 rfl) rfl
theorem q899 : (Jvm.Cond.selects "ForkJoinDesk$Fiber" ({ cls := "ForkJoinDesk$Fiber", name := "isOver", desc := "()Z" } : Jvm.MethodName) ({ cls := "ForkJoinDesk$Fiber", name := "isOver", desc := "()Z" } : Jvm.MethodName)) ∈ lw_all := lw_g (lw_at lw_m4 111 rfl) rfl
theorem q900 : (Jvm.Cond.code ({ cls := "ForkJoinDesk$Fiber", name := "isOver", desc := "()Z" } : Jvm.MethodName) prog_3_method_7_code (1 : Nat) (Option.some Jvm.ClassFile.FieldType.boolean)) ∈ lw_all := lw_g (lw_at lw_m4 112 rfl) rfl
theorem q1161 : (Jvm.Cond.instanceMethod ({ cls := "ForkJoinDesk$Fiber", name := "top", desc := "()LForkJoinDesk$Frame;" } : Jvm.MethodName)) ∈ lw_all := lw_g (lw_at lw_m5 133 rfl) rfl
theorem q1162 : (Jvm.Cond.selects "ForkJoinDesk$Fiber" ({ cls := "ForkJoinDesk$Fiber", name := "top", desc := "()LForkJoinDesk$Frame;" } : Jvm.MethodName) ({ cls := "ForkJoinDesk$Fiber", name := "top", desc := "()LForkJoinDesk$Frame;" } : Jvm.MethodName)) ∈ lw_all := lw_g (lw_at lw_m5 134 rfl) rfl
theorem q1163 : (Jvm.Cond.code ({ cls := "ForkJoinDesk$Fiber", name := "top", desc := "()LForkJoinDesk$Frame;" } : Jvm.MethodName) prog_3_method_6_code (1 : Nat) (Option.some (Jvm.ClassFile.FieldType.object "ForkJoinDesk$Frame"))) ∈ lw_all := lw_g (lw_at lw_m5 135 rfl) rfl
theorem q1200 : (Jvm.Cond.instanceMethod ({ cls := "ForkJoinDesk$Fiber", name := "pop", desc := "()I" } : Jvm.MethodName)) ∈ lw_all := lw_g (lw_at lw_m5 172 rfl) rfl
theorem q1201 : (Jvm.Cond.selects "ForkJoinDesk$Fiber" ({ cls := "ForkJoinDesk$Fiber", name := "pop", desc := "()I" } : Jvm.MethodName) ({ cls := "ForkJoinDesk$Fiber", name := "pop", desc := "()I" } : Jvm.MethodName)) ∈ lw_all := lw_g (lw_at lw_m5 173 rfl) rfl
theorem q1202 : (Jvm.Cond.code ({ cls := "ForkJoinDesk$Fiber", name := "pop", desc := "()I" } : Jvm.MethodName) prog_3_method_5_code (1 : Nat) (Option.some Jvm.ClassFile.FieldType.int)) ∈ lw_all := lw_g (lw_at lw_m5 174 rfl) rfl
theorem q1259 : (Jvm.Cond.instanceMethod ({ cls := "ForkJoinDesk$Fiber", name := "push", desc := "(I)V" } : Jvm.MethodName)) ∈ lw_all := lw_g (lw_at lw_m5 231 rfl) rfl
theorem q1260 : (Jvm.Cond.selects "ForkJoinDesk$Fiber" ({ cls := "ForkJoinDesk$Fiber", name := "push", desc := "(I)V" } : Jvm.MethodName) ({ cls := "ForkJoinDesk$Fiber", name := "push", desc := "(I)V" } : Jvm.MethodName)) ∈ lw_all := lw_g (lw_at lw_m5 232 rfl) rfl
theorem q1261 : (Jvm.Cond.code ({ cls := "ForkJoinDesk$Fiber", name := "push", desc := "(I)V" } : Jvm.MethodName) prog_3_method_4_code (2 : Nat) (Option.none : Option Jvm.ClassFile.FieldType)) ∈ lw_all := lw_g (lw_at lw_m5 233 rfl) rfl
theorem q1904 : (Jvm.Cond.castable "ForkJoinDesk$Fiber" "java/lang/Object") ∈ lw_tbl := lw_at lw_m8 156 rfl
theorem in_X5 : ∀ w ∈ wsX50, w ∈ lw_all := lw_in wsX50 [512, 514, 516, 518, 520] (by decide +kernel) (by decide +kernel)
def RX6 : String := "ForkJoinDesk$Loose"
def TX6 : u_T := fun k => match k with
  | 0 => ("ForkJoinDesk$Machine", "program", "LForkJoinDesk$Program;", false)
  | 1 => ("ForkJoinDesk$Machine", "cells", "[I", true)
  | 2 => ("ForkJoinDesk$Machine", "sum", "I", false)
  | 3 => ("ForkJoinDesk$Machine", "work", "I", false)
  | 4 => ("ForkJoinDesk$Machine", "limited", "Z", false)
  | 5 => ("ForkJoinDesk$Machine", "there", "Z", false)
  | 6 => ("ForkJoinDesk$Loose", "threads", "Ljava/util/ArrayList;", true)
  | 7 => ("ForkJoinDesk$Loose", "behind", "[I", true)
  | 8 => ("ForkJoinDesk$Loose", "first", "[I", true)
  | 9 => ("ForkJoinDesk$Loose", "last", "[I", true)
  | 10 => ("ForkJoinDesk$Loose", "value", "[I", true)
  | 11 => ("ForkJoinDesk$Loose", "next", "[I", true)
  | 12 => ("ForkJoinDesk$Loose", "many", "I", false)
  | 13 => ("ForkJoinDesk$Loose", "parts", "I", false)
  | _ => ("ForkJoinDesk$Loose", "printed", "I", false)
def tyX6 : Nat → FieldType := fun k => match k with
  | 0 => .object "ForkJoinDesk$Program"
  | 1 => .array .int
  | 2 => .int
  | 3 => .int
  | 4 => .boolean
  | 5 => .boolean
  | 6 => .object "java/util/ArrayList"
  | 7 => .array .int
  | 8 => .array .int
  | 9 => .array .int
  | 10 => .array .int
  | 11 => .array .int
  | 12 => .int
  | 13 => .int
  | _ => .int
abbrev wsX60 : List Cond := u_ws RX6 TX6 15
theorem nmX6 : ∀ a, a < 15 → ∀ b, b < 15 → a ≠ b → (TX6 a).2.1 ≠ (TX6 b).2.1 := by decide +kernel
theorem tyX6_ok : ∀ k, k < 15 → parseFieldDescriptor (TX6 k).2.2.1 = some (tyX6 k) := by decide +kernel
abbrev cX6_init : ByteArray := prog_6_method_1_code
def yX6_init : MethodName := ⟨RX6, "<init>", "()V"⟩
abbrev cX6_begin : ByteArray := prog_6_method_2_code
def yX6_begin : MethodName := ⟨RX6, "begin", "(LForkJoinDesk$Program;[I)V"⟩
abbrev cX6_add : ByteArray := prog_6_method_3_code
def yX6_add : MethodName := ⟨RX6, "add", "()LForkJoinDesk$Fiber;"⟩
abbrev cX6_part : ByteArray := prog_6_method_4_code
def yX6_part : MethodName := ⟨RX6, "part", "(I)I"⟩
abbrev cX6_fork : ByteArray := prog_6_method_7_code
def yX6_fork : MethodName := ⟨RX6, "fork", "(LForkJoinDesk$Fiber;I)LForkJoinDesk$Frame;"⟩
abbrev cX6_join : ByteArray := prog_6_method_8_code
def yX6_join : MethodName := ⟨RX6, "join", "(LForkJoinDesk$Fiber;)Z"⟩
abbrev cX6_end : ByteArray := prog_6_method_9_code
def yX6_end : MethodName := ⟨RX6, "end", "(LForkJoinDesk$Fiber;)Z"⟩
abbrev cX6_print : ByteArray := prog_6_method_10_code
def yX6_print : MethodName := ⟨RX6, "print", "(LForkJoinDesk$Fiber;I)Z"⟩
abbrev cX6_spend : ByteArray := prog_6_method_5_code
def yX6_spend : MethodName := ⟨RX6, "spend", "()V"⟩
abbrev cX6_touch : ByteArray := prog_6_method_6_code
def yX6_touch : MethodName := ⟨RX6, "touch", "(IIZ)V"⟩
abbrev cX6_printed : ByteArray := prog_6_method_11_code
def yX6_printed : MethodName := ⟨RX6, "printed", "(I)I"⟩
abbrev cX6_move : ByteArray := prog_6_method_12_code
def yX6_move : MethodName := ⟨RX6, "move", "(LForkJoinDesk$Fiber;I)I"⟩
theorem q92 : (Jvm.Cond.initialized "ForkJoinDesk$Loose") ∈ lw_all := lw_g (lw_at lw_m1 24 rfl) rfl
theorem q506 : (Jvm.Cond.fieldLinkNest "ForkJoinDesk$Loose" (100 : Nat) "ForkJoinDesk$Fiber" "depth" "I" "ForkJoinDesk") ∈ lw_tbl := lw_at lw_m2 198 rfl
theorem q511 : (Jvm.Cond.fieldLinkNest "ForkJoinDesk$Loose" (68 : Nat) "ForkJoinDesk$Fiber" "part" "I" "ForkJoinDesk") ∈ lw_tbl := lw_at lw_m2 203 rfl
theorem q555 : (Jvm.Cond.sameField "ForkJoinDesk$Loose" "ForkJoinDesk$Machine" "sum" "I") ∈ lw_all := lw_g (lw_at lw_m3 7 rfl) rfl
theorem q560 : (Jvm.Cond.sameField "ForkJoinDesk$Loose" "ForkJoinDesk$Machine" "work" "I") ∈ lw_all := lw_g (lw_at lw_m3 12 rfl) rfl
theorem q565 : (Jvm.Cond.fieldLink "ForkJoinDesk$Loose" (103 : Nat) "ForkJoinDesk$Loose" "limited" "Z") ∈ lw_all := lw_g (lw_at lw_m3 17 rfl) rfl
theorem q566 : (Jvm.Cond.sameField "ForkJoinDesk$Loose" "ForkJoinDesk$Machine" "limited" "Z") ∈ lw_all := lw_g (lw_at lw_m3 18 rfl) rfl
theorem q572 : (Jvm.Cond.sameField "ForkJoinDesk$Loose" "ForkJoinDesk$Machine" "there" "Z") ∈ lw_all := lw_g (lw_at lw_m3 24 rfl) rfl
theorem q623 : (Jvm.Cond.instantiable "ForkJoinDesk$Loose" (15 : Nat)) ∈ lw_all := lw_g (lw_at lw_m3 75 rfl) rfl
theorem q625 : (Jvm.Cond.instanceMethod ({ cls := "ForkJoinDesk$Loose", name := "<init>", desc := "()V" } : Jvm.MethodName)) ∈ lw_all := lw_g (lw_at lw_m3 77 rfl) rfl
theorem q626 : (Jvm.Cond.code ({ cls := "ForkJoinDesk$Loose", name := "<init>", desc := "()V" } : Jvm.MethodName) prog_6_method_1_code (1 : Nat) (Option.none : Option Jvm.ClassFile.FieldType)) ∈ lw_all := lw_g (lw_at lw_m3 78 rfl) rfl
theorem q627 : (Jvm.Cond.methodLinkNest "ForkJoinDesk$Loose" (3 : Nat) ({ cls := "ForkJoinDesk$Machine", name := "<init>", desc := "()V" } : Jvm.MethodName) "ForkJoinDesk") ∈ lw_tbl := lw_at lw_m3 79 rfl
theorem q628 : (Jvm.Cond.classLink "ForkJoinDesk$Loose" (9 : Nat) "java/util/ArrayList") ∈ lw_all := lw_g (lw_at lw_m3 80 rfl) rfl
theorem q629 : (Jvm.Cond.methodLink "ForkJoinDesk$Loose" (11 : Nat) ({ cls := "java/util/ArrayList", name := "<init>", desc := "(I)V" } : Jvm.MethodName)) ∈ lw_all := lw_g (lw_at lw_m3 81 rfl) rfl
theorem q630 : (Jvm.Cond.fieldLink "ForkJoinDesk$Loose" (14 : Nat) "ForkJoinDesk$Loose" "threads" "Ljava/util/ArrayList;") ∈ lw_all := lw_g (lw_at lw_m3 82 rfl) rfl
theorem q632 : (Jvm.Cond.fieldLink "ForkJoinDesk$Loose" (20 : Nat) "ForkJoinDesk$Loose" "behind" "[I") ∈ lw_all := lw_g (lw_at lw_m3 84 rfl) rfl
theorem q633 : (Jvm.Cond.fieldLink "ForkJoinDesk$Loose" (24 : Nat) "ForkJoinDesk$Loose" "first" "[I") ∈ lw_all := lw_g (lw_at lw_m3 85 rfl) rfl
theorem q634 : (Jvm.Cond.fieldLink "ForkJoinDesk$Loose" (27 : Nat) "ForkJoinDesk$Loose" "last" "[I") ∈ lw_all := lw_g (lw_at lw_m3 86 rfl) rfl
theorem q635 : (Jvm.Cond.fieldLink "ForkJoinDesk$Loose" (30 : Nat) "ForkJoinDesk$Loose" "value" "[I") ∈ lw_all := lw_g (lw_at lw_m3 87 rfl) rfl
theorem q636 : (Jvm.Cond.fieldLink "ForkJoinDesk$Loose" (33 : Nat) "ForkJoinDesk$Loose" "next" "[I") ∈ lw_all := lw_g (lw_at lw_m3 88 rfl) rfl
theorem q637 : (Jvm.Cond.fieldLink "ForkJoinDesk$Loose" (40 : Nat) "ForkJoinDesk$Loose" "many" "I") ∈ lw_all := lw_g (lw_at lw_m3 89 rfl) rfl
theorem q639 : (Jvm.Cond.fieldLink "ForkJoinDesk$Loose" (44 : Nat) "ForkJoinDesk$Loose" "parts" "I") ∈ lw_all := lw_g (lw_at lw_m3 91 rfl) rfl
theorem q640 : (Jvm.Cond.fieldLink "ForkJoinDesk$Loose" (47 : Nat) "ForkJoinDesk$Loose" "printed" "I") ∈ lw_all := lw_g (lw_at lw_m3 92 rfl) rfl
theorem q642 : (Jvm.Cond.laysFinal "ForkJoinDesk$Loose" "ForkJoinDesk$Loose" "threads" "Ljava/util/ArrayList;") ∈ lw_all := lw_g (lw_at lw_m3 94 rfl) rfl
theorem q643 : (Jvm.Cond.soleField "ForkJoinDesk$Loose" "threads") ∈ lw_all := lw_g (lw_at lw_m3 95 rfl) rfl
theorem q644 : (Jvm.Cond.laysFinal "ForkJoinDesk$Loose" "ForkJoinDesk$Loose" "behind" "[I") ∈ lw_all := lw_g (lw_at lw_m3 96 rfl) rfl
theorem q645 : (Jvm.Cond.soleField "ForkJoinDesk$Loose" "behind") ∈ lw_all := lw_g (lw_at lw_m3 97 rfl) rfl
theorem q646 : (Jvm.Cond.laysFinal "ForkJoinDesk$Loose" "ForkJoinDesk$Loose" "first" "[I") ∈ lw_all := lw_g (lw_at lw_m3 98 rfl) rfl
theorem q647 : (Jvm.Cond.soleField "ForkJoinDesk$Loose" "first") ∈ lw_all := lw_g (lw_at lw_m3 99 rfl) rfl
theorem q648 : (Jvm.Cond.laysFinal "ForkJoinDesk$Loose" "ForkJoinDesk$Loose" "last" "[I") ∈ lw_all := lw_g (lw_at lw_m3 100 rfl) rfl
theorem q649 : (Jvm.Cond.soleField "ForkJoinDesk$Loose" "last") ∈ lw_all := lw_g (lw_at lw_m3 101 rfl) rfl
theorem q650 : (Jvm.Cond.laysFinal "ForkJoinDesk$Loose" "ForkJoinDesk$Loose" "value" "[I") ∈ lw_all := lw_g (lw_at lw_m3 102 rfl) rfl
theorem q651 : (Jvm.Cond.soleField "ForkJoinDesk$Loose" "value") ∈ lw_all := lw_g (lw_at lw_m3 103 rfl) rfl
theorem q652 : (Jvm.Cond.laysFinal "ForkJoinDesk$Loose" "ForkJoinDesk$Loose" "next" "[I") ∈ lw_all := lw_g (lw_at lw_m3 104 rfl) rfl
theorem q653 : (Jvm.Cond.soleField "ForkJoinDesk$Loose" "next") ∈ lw_all := lw_g (lw_at lw_m3 105 rfl) rfl
theorem q654 : (Jvm.Cond.lays "ForkJoinDesk$Loose" "ForkJoinDesk$Loose" "many" "I") ∈ lw_all := lw_g (lw_at lw_m3 106 rfl) rfl
theorem q655 : (Jvm.Cond.soleField "ForkJoinDesk$Loose" "many") ∈ lw_all := lw_g (lw_at lw_m3 107 rfl) rfl
theorem q656 : (Jvm.Cond.lays "ForkJoinDesk$Loose" "ForkJoinDesk$Loose" "parts" "I") ∈ lw_all := lw_g (lw_at lw_m3 108 rfl) rfl
theorem q657 : (Jvm.Cond.soleField "ForkJoinDesk$Loose" "parts") ∈ lw_all := lw_g (lw_at lw_m3 109 rfl) rfl
theorem q658 : (Jvm.Cond.lays "ForkJoinDesk$Loose" "ForkJoinDesk$Loose" "printed" "I") ∈ lw_all := lw_g (lw_at lw_m3 110 rfl) rfl
theorem q659 : (Jvm.Cond.soleField "ForkJoinDesk$Loose" "printed") ∈ lw_all := lw_g (lw_at lw_m3 111 rfl) rfl
theorem q660 : (Jvm.Cond.lays "ForkJoinDesk$Loose" "ForkJoinDesk$Machine" "program" "LForkJoinDesk$Program;") ∈ lw_all := lw_g (lw_at lw_m3 112 rfl) rfl
theorem q661 : (Jvm.Cond.laysFinal "ForkJoinDesk$Loose" "ForkJoinDesk$Machine" "cells" "[I") ∈ lw_all := lw_g (lw_at lw_m3 113 rfl) rfl
theorem q662 : (Jvm.Cond.lays "ForkJoinDesk$Loose" "ForkJoinDesk$Machine" "sum" "I") ∈ lw_all := lw_g (lw_at lw_m3 114 rfl) rfl
theorem q663 : (Jvm.Cond.lays "ForkJoinDesk$Loose" "ForkJoinDesk$Machine" "work" "I") ∈ lw_all := lw_g (lw_at lw_m3 115 rfl) rfl
theorem q664 : (Jvm.Cond.lays "ForkJoinDesk$Loose" "ForkJoinDesk$Machine" "limited" "Z") ∈ lw_all := lw_g (lw_at lw_m3 116 rfl) rfl
theorem q665 : (Jvm.Cond.lays "ForkJoinDesk$Loose" "ForkJoinDesk$Machine" "there" "Z") ∈ lw_all := lw_g (lw_at lw_m3 117 rfl) rfl
theorem q666 : (Jvm.Cond.superclass "ForkJoinDesk$Loose" "ForkJoinDesk$Machine") ∈ lw_all := lw_g (lw_at lw_m3 118 rfl) rfl
theorem q740 : (Jvm.Cond.fieldLinkNest "ForkJoinDesk$Loose" (89 : Nat) "ForkJoinDesk$Frame" "next" "I" "ForkJoinDesk") ∈ lw_tbl := lw_at lw_m3 192 rfl
theorem q756 : (Jvm.Cond.fieldLinkNest "ForkJoinDesk$Loose" (93 : Nat) "ForkJoinDesk$Frame" "open" "I" "ForkJoinDesk") ∈ lw_tbl := lw_at lw_m3 208 rfl
theorem q758 : (Jvm.Cond.fieldLinkNest "ForkJoinDesk$Loose" (96 : Nat) "ForkJoinDesk$Frame" "forker" "LForkJoinDesk$Frame;" "ForkJoinDesk") ∈ lw_tbl := lw_at lw_m3 210 rfl
theorem q812 : (Jvm.Cond.selects "ForkJoinDesk$Loose" ({ cls := "java/lang/Object", name := "getClass", desc := "()Ljava/lang/Class;" } : Jvm.MethodName) ({ cls := "java/lang/Object", name := "getClass", desc := "()Ljava/lang/Class;" } : Jvm.MethodName)) ∈ lw_all := lw_g (lw_at lw_m4 24 rfl) rfl
theorem q872 : (Jvm.Cond.instanceMethod ({ cls := "ForkJoinDesk$Loose", name := "begin", desc := "(LForkJoinDesk$Program;[I)V" } : Jvm.MethodName)) ∈ lw_all := lw_g (lw_at lw_m4 84 rfl) rfl
theorem q873 : (Jvm.Cond.selects "ForkJoinDesk$Loose" ({ cls := "ForkJoinDesk$Loose", name := "begin", desc := "(LForkJoinDesk$Program;[I)V" } : Jvm.MethodName) ({ cls := "ForkJoinDesk$Loose", name := "begin", desc := "(LForkJoinDesk$Program;[I)V" } : Jvm.MethodName)) ∈ lw_all := lw_g (lw_at lw_m4 85 rfl) rfl
theorem q874 : (Jvm.Cond.code ({ cls := "ForkJoinDesk$Loose", name := "begin", desc := "(LForkJoinDesk$Program;[I)V" } : Jvm.MethodName) prog_6_method_2_code (4 : Nat) (Option.none : Option Jvm.ClassFile.FieldType)) ∈ lw_all := lw_g (lw_at lw_m4 86 rfl) rfl
theorem q875 : (Jvm.Cond.methodLink "ForkJoinDesk$Loose" (36 : Nat) ({ cls := "ForkJoinDesk$Machine", name := "begin", desc := "(LForkJoinDesk$Program;[I)V" } : Jvm.MethodName)) ∈ lw_all := lw_g (lw_at lw_m4 87 rfl) rfl
theorem q876 : (Jvm.Cond.methodLink "ForkJoinDesk$Loose" (50 : Nat) ({ cls := "ForkJoinDesk$Loose", name := "add", desc := "()LForkJoinDesk$Fiber;" } : Jvm.MethodName)) ∈ lw_all := lw_g (lw_at lw_m4 88 rfl) rfl
theorem q877 : (Jvm.Cond.privateMethod ({ cls := "ForkJoinDesk$Loose", name := "add", desc := "()LForkJoinDesk$Fiber;" } : Jvm.MethodName)) ∈ lw_tbl := lw_at lw_m4 89 rfl
theorem q878 : (Jvm.Cond.instanceMethod ({ cls := "ForkJoinDesk$Loose", name := "add", desc := "()LForkJoinDesk$Fiber;" } : Jvm.MethodName)) ∈ lw_all := lw_g (lw_at lw_m4 90 rfl) rfl
theorem q879 : (Jvm.Cond.code ({ cls := "ForkJoinDesk$Loose", name := "add", desc := "()LForkJoinDesk$Fiber;" } : Jvm.MethodName) prog_6_method_3_code (2 : Nat) (Option.some (Jvm.ClassFile.FieldType.object "ForkJoinDesk$Fiber"))) ∈ lw_all := lw_g (lw_at lw_m4 91 rfl) rfl
theorem q880 : (Jvm.Cond.methodLink "ForkJoinDesk$Loose" (70 : Nat) ({ cls := "java/util/ArrayList", name := "size", desc := "()I" } : Jvm.MethodName)) ∈ lw_all := lw_g (lw_at lw_m4 92 rfl) rfl
theorem q881 : (Jvm.Cond.classLink "ForkJoinDesk$Loose" (59 : Nat) "ForkJoinDesk$Fiber") ∈ lw_all := lw_g (lw_at lw_m4 93 rfl) rfl
theorem q882 : (Jvm.Cond.methodLinkNest "ForkJoinDesk$Loose" (74 : Nat) ({ cls := "ForkJoinDesk$Fiber", name := "<init>", desc := "()V" } : Jvm.MethodName) "ForkJoinDesk") ∈ lw_tbl := lw_at lw_m4 94 rfl
theorem q883 : (Jvm.Cond.methodLink "ForkJoinDesk$Loose" (75 : Nat) ({ cls := "java/util/ArrayList", name := "add", desc := "(Ljava/lang/Object;)Z" } : Jvm.MethodName)) ∈ lw_all := lw_g (lw_at lw_m4 95 rfl) rfl
theorem q884 : (Jvm.Cond.methodLink "ForkJoinDesk$Loose" (78 : Nat) ({ cls := "java/util/ArrayList", name := "get", desc := "(I)Ljava/lang/Object;" } : Jvm.MethodName)) ∈ lw_all := lw_g (lw_at lw_m4 96 rfl) rfl
theorem q885 : (Jvm.Cond.methodLink "ForkJoinDesk$Loose" (82 : Nat) ({ cls := "ForkJoinDesk$Fiber", name := "clear", desc := "()V" } : Jvm.MethodName)) ∈ lw_all := lw_g (lw_at lw_m4 97 rfl) rfl
theorem q886 : (Jvm.Cond.methodLink "ForkJoinDesk$Loose" (58 : Nat) ({ cls := "ForkJoinDesk$Fiber", name := "enter", desc := "(IZ)LForkJoinDesk$Frame;" } : Jvm.MethodName)) ∈ lw_all := lw_g (lw_at lw_m4 98 rfl) rfl
theorem q887 : (Jvm.Cond.methodLink "ForkJoinDesk$Loose" (64 : Nat) ({ cls := "ForkJoinDesk$Loose", name := "part", desc := "(I)I" } : Jvm.MethodName)) ∈ lw_all := lw_g (lw_at lw_m4 99 rfl) rfl
theorem q888 : (Jvm.Cond.privateMethod ({ cls := "ForkJoinDesk$Loose", name := "part", desc := "(I)I" } : Jvm.MethodName)) ∈ lw_tbl := lw_at lw_m4 100 rfl
theorem q889 : (Jvm.Cond.instanceMethod ({ cls := "ForkJoinDesk$Loose", name := "part", desc := "(I)I" } : Jvm.MethodName)) ∈ lw_all := lw_g (lw_at lw_m4 101 rfl) rfl
theorem q890 : (Jvm.Cond.code ({ cls := "ForkJoinDesk$Loose", name := "part", desc := "(I)I" } : Jvm.MethodName) prog_6_method_4_code (2 : Nat) (Option.some Jvm.ClassFile.FieldType.int)) ∈ lw_all := lw_g (lw_at lw_m4 102 rfl) rfl
theorem q927 : (Jvm.Cond.fieldLinkNest "ForkJoinDesk$Loose" (54 : Nat) "ForkJoinDesk$Program" "begin" "[I" "ForkJoinDesk") ∈ lw_tbl := lw_at lw_m4 139 rfl
theorem q1183 : (Jvm.Cond.selects "ForkJoinDesk$Loose" ({ cls := "ForkJoinDesk$Machine", name := "fork", desc := "(LForkJoinDesk$Fiber;I)LForkJoinDesk$Frame;" } : Jvm.MethodName) ({ cls := "ForkJoinDesk$Loose", name := "fork", desc := "(LForkJoinDesk$Fiber;I)LForkJoinDesk$Frame;" } : Jvm.MethodName)) ∈ lw_all := lw_g (lw_at lw_m5 155 rfl) rfl
theorem q1184 : (Jvm.Cond.instanceMethod ({ cls := "ForkJoinDesk$Loose", name := "fork", desc := "(LForkJoinDesk$Fiber;I)LForkJoinDesk$Frame;" } : Jvm.MethodName)) ∈ lw_all := lw_g (lw_at lw_m5 156 rfl) rfl
theorem q1185 : (Jvm.Cond.code ({ cls := "ForkJoinDesk$Loose", name := "fork", desc := "(LForkJoinDesk$Fiber;I)LForkJoinDesk$Frame;" } : Jvm.MethodName) prog_6_method_7_code (6 : Nat) (Option.some (Jvm.ClassFile.FieldType.object "ForkJoinDesk$Frame"))) ∈ lw_all := lw_g (lw_at lw_m5 157 rfl) rfl
theorem q1186 : (Jvm.Cond.methodLink "ForkJoinDesk$Loose" (85 : Nat) ({ cls := "ForkJoinDesk$Fiber", name := "top", desc := "()LForkJoinDesk$Frame;" } : Jvm.MethodName)) ∈ lw_all := lw_g (lw_at lw_m5 158 rfl) rfl
theorem q1206 : (Jvm.Cond.selects "ForkJoinDesk$Loose" ({ cls := "ForkJoinDesk$Machine", name := "join", desc := "(LForkJoinDesk$Fiber;)Z" } : Jvm.MethodName) ({ cls := "ForkJoinDesk$Loose", name := "join", desc := "(LForkJoinDesk$Fiber;)Z" } : Jvm.MethodName)) ∈ lw_all := lw_g (lw_at lw_m5 178 rfl) rfl
theorem q1207 : (Jvm.Cond.instanceMethod ({ cls := "ForkJoinDesk$Loose", name := "join", desc := "(LForkJoinDesk$Fiber;)Z" } : Jvm.MethodName)) ∈ lw_all := lw_g (lw_at lw_m5 179 rfl) rfl
theorem q1208 : (Jvm.Cond.code ({ cls := "ForkJoinDesk$Loose", name := "join", desc := "(LForkJoinDesk$Fiber;)Z" } : Jvm.MethodName) prog_6_method_8_code (2 : Nat) (Option.some Jvm.ClassFile.FieldType.boolean)) ∈ lw_all := lw_g (lw_at lw_m5 180 rfl) rfl
theorem q1224 : (Jvm.Cond.selects "ForkJoinDesk$Loose" ({ cls := "ForkJoinDesk$Machine", name := "end", desc := "(LForkJoinDesk$Fiber;)Z" } : Jvm.MethodName) ({ cls := "ForkJoinDesk$Loose", name := "end", desc := "(LForkJoinDesk$Fiber;)Z" } : Jvm.MethodName)) ∈ lw_all := lw_g (lw_at lw_m5 196 rfl) rfl
theorem q1225 : (Jvm.Cond.instanceMethod ({ cls := "ForkJoinDesk$Loose", name := "end", desc := "(LForkJoinDesk$Fiber;)Z" } : Jvm.MethodName)) ∈ lw_all := lw_g (lw_at lw_m5 197 rfl) rfl
theorem q1226 : (Jvm.Cond.code ({ cls := "ForkJoinDesk$Loose", name := "end", desc := "(LForkJoinDesk$Fiber;)Z" } : Jvm.MethodName) prog_6_method_9_code (3 : Nat) (Option.some Jvm.ClassFile.FieldType.boolean)) ∈ lw_all := lw_g (lw_at lw_m5 198 rfl) rfl
theorem q1237 : (Jvm.Cond.selects "ForkJoinDesk$Loose" ({ cls := "ForkJoinDesk$Machine", name := "print", desc := "(LForkJoinDesk$Fiber;I)Z" } : Jvm.MethodName) ({ cls := "ForkJoinDesk$Loose", name := "print", desc := "(LForkJoinDesk$Fiber;I)Z" } : Jvm.MethodName)) ∈ lw_all := lw_g (lw_at lw_m5 209 rfl) rfl
theorem q1238 : (Jvm.Cond.instanceMethod ({ cls := "ForkJoinDesk$Loose", name := "print", desc := "(LForkJoinDesk$Fiber;I)Z" } : Jvm.MethodName)) ∈ lw_all := lw_g (lw_at lw_m5 210 rfl) rfl
theorem q1239 : (Jvm.Cond.code ({ cls := "ForkJoinDesk$Loose", name := "print", desc := "(LForkJoinDesk$Fiber;I)Z" } : Jvm.MethodName) prog_6_method_10_code (4 : Nat) (Option.some Jvm.ClassFile.FieldType.boolean)) ∈ lw_all := lw_g (lw_at lw_m5 211 rfl) rfl
theorem q1254 : (Jvm.Cond.selects "ForkJoinDesk$Loose" ({ cls := "ForkJoinDesk$Machine", name := "spend", desc := "()V" } : Jvm.MethodName) ({ cls := "ForkJoinDesk$Loose", name := "spend", desc := "()V" } : Jvm.MethodName)) ∈ lw_all := lw_g (lw_at lw_m5 226 rfl) rfl
theorem q1255 : (Jvm.Cond.instanceMethod ({ cls := "ForkJoinDesk$Loose", name := "spend", desc := "()V" } : Jvm.MethodName)) ∈ lw_all := lw_g (lw_at lw_m5 227 rfl) rfl
theorem q1256 : (Jvm.Cond.code ({ cls := "ForkJoinDesk$Loose", name := "spend", desc := "()V" } : Jvm.MethodName) prog_6_method_5_code (1 : Nat) (Option.none : Option Jvm.ClassFile.FieldType)) ∈ lw_all := lw_g (lw_at lw_m5 228 rfl) rfl
theorem q1269 : (Jvm.Cond.selects "ForkJoinDesk$Loose" ({ cls := "ForkJoinDesk$Machine", name := "touch", desc := "(IIZ)V" } : Jvm.MethodName) ({ cls := "ForkJoinDesk$Loose", name := "touch", desc := "(IIZ)V" } : Jvm.MethodName)) ∈ lw_all := lw_g (lw_at lw_m6 1 rfl) rfl
theorem q1270 : (Jvm.Cond.instanceMethod ({ cls := "ForkJoinDesk$Loose", name := "touch", desc := "(IIZ)V" } : Jvm.MethodName)) ∈ lw_all := lw_g (lw_at lw_m6 2 rfl) rfl
theorem q1271 : (Jvm.Cond.code ({ cls := "ForkJoinDesk$Loose", name := "touch", desc := "(IIZ)V" } : Jvm.MethodName) prog_6_method_6_code (4 : Nat) (Option.none : Option Jvm.ClassFile.FieldType)) ∈ lw_all := lw_g (lw_at lw_m6 3 rfl) rfl
theorem q1383 : (Jvm.Cond.instanceMethod ({ cls := "ForkJoinDesk$Loose", name := "printed", desc := "(I)I" } : Jvm.MethodName)) ∈ lw_all := lw_g (lw_at lw_m6 115 rfl) rfl
theorem q1384 : (Jvm.Cond.selects "ForkJoinDesk$Loose" ({ cls := "ForkJoinDesk$Loose", name := "printed", desc := "(I)I" } : Jvm.MethodName) ({ cls := "ForkJoinDesk$Loose", name := "printed", desc := "(I)I" } : Jvm.MethodName)) ∈ lw_all := lw_g (lw_at lw_m6 116 rfl) rfl
theorem q1385 : (Jvm.Cond.code ({ cls := "ForkJoinDesk$Loose", name := "printed", desc := "(I)I" } : Jvm.MethodName) prog_6_method_11_code (5 : Nat) (Option.some Jvm.ClassFile.FieldType.int)) ∈ lw_all := lw_g (lw_at lw_m6 117 rfl) rfl
theorem q1394 : (Jvm.Cond.instanceMethod ({ cls := "ForkJoinDesk$Loose", name := "move", desc := "(LForkJoinDesk$Fiber;I)I" } : Jvm.MethodName)) ∈ lw_all := lw_g (lw_at lw_m6 126 rfl) rfl
theorem q1395 : (Jvm.Cond.selects "ForkJoinDesk$Loose" ({ cls := "ForkJoinDesk$Loose", name := "move", desc := "(LForkJoinDesk$Fiber;I)I" } : Jvm.MethodName) ({ cls := "ForkJoinDesk$Loose", name := "move", desc := "(LForkJoinDesk$Fiber;I)I" } : Jvm.MethodName)) ∈ lw_all := lw_g (lw_at lw_m6 127 rfl) rfl
theorem q1396 : (Jvm.Cond.code ({ cls := "ForkJoinDesk$Loose", name := "move", desc := "(LForkJoinDesk$Fiber;I)I" } : Jvm.MethodName) prog_6_method_12_code (4 : Nat) (Option.some Jvm.ClassFile.FieldType.int)) ∈ lw_all := lw_g (lw_at lw_m6 128 rfl) rfl
theorem q1397 : (Jvm.Cond.methodLink "ForkJoinDesk$Loose" (107 : Nat) ({ cls := "ForkJoinDesk$Fiber", name := "isOver", desc := "()Z" } : Jvm.MethodName)) ∈ lw_all := lw_g (lw_at lw_m6 129 rfl) rfl
theorem q1398 : (Jvm.Cond.methodLink "ForkJoinDesk$Loose" (111 : Nat) ({ cls := "ForkJoinDesk$Loose", name := "step", desc := "(LForkJoinDesk$Fiber;)Z" } : Jvm.MethodName)) ∈ lw_all := lw_g (lw_at lw_m6 130 rfl) rfl
theorem q1399 : (Jvm.Cond.sameMethod "ForkJoinDesk$Loose" "ForkJoinDesk$Machine" "step" "(LForkJoinDesk$Fiber;)Z") ∈ lw_all := lw_g (lw_at lw_m6 131 rfl) rfl
theorem q1400 : (Jvm.Cond.selects "ForkJoinDesk$Loose" ({ cls := "ForkJoinDesk$Loose", name := "step", desc := "(LForkJoinDesk$Fiber;)Z" } : Jvm.MethodName) ({ cls := "ForkJoinDesk$Machine", name := "step", desc := "(LForkJoinDesk$Fiber;)Z" } : Jvm.MethodName)) ∈ lw_all := lw_g (lw_at lw_m6 132 rfl) rfl
theorem q1905 : (Jvm.Cond.castable "ForkJoinDesk$Loose" "java/lang/Object") ∈ lw_tbl := lw_at lw_m8 157 rfl
theorem in_X6 : ∀ w ∈ wsX60, w ∈ lw_all := lw_in wsX60 [660, 661, 662, 663, 664, 665, 642, 644, 646, 648, 650, 652, 654, 656, 658] (by decide +kernel) (by decide +kernel)
def RX7 : String := "ForkJoinDeskModel"
def TX7 : u_T := fun k => match k with
  | 0 => ("ForkJoinDeskModel", "thrown", "I", false)
  | 1 => ("ForkJoinDeskModel", "tape", "[I", true)
  | 2 => ("ForkJoinDeskModel", "taped", "I", false)
  | 3 => ("ForkJoinDeskModel", "fault", "I", false)
  | 4 => ("ForkJoinDeskModel", "at", "I", false)
  | 5 => ("ForkJoinDeskModel", "wrong", "I", false)
  | 6 => ("ForkJoinDeskModel", "brackets", "I", false)
  | 7 => ("ForkJoinDeskModel", "minuses", "I", false)
  | 8 => ("ForkJoinDeskModel", "procedures", "I", false)
  | 9 => ("ForkJoinDeskModel", "name", "[I", true)
  | 10 => ("ForkJoinDeskModel", "variables", "[I", true)
  | 11 => ("ForkJoinDeskModel", "variable", "[I", true)
  | 12 => ("ForkJoinDeskModel", "first", "[I", true)
  | 13 => ("ForkJoinDeskModel", "size", "I", false)
  | 14 => ("ForkJoinDeskModel", "code", "[I", true)
  | 15 => ("ForkJoinDeskModel", "value", "[I", true)
  | 16 => ("ForkJoinDeskModel", "place", "[I", true)
  | 17 => ("ForkJoinDeskModel", "calls", "I", false)
  | 18 => ("ForkJoinDeskModel", "callAt", "[I", true)
  | 19 => ("ForkJoinDeskModel", "callArguments", "[I", true)
  | 20 => ("ForkJoinDeskModel", "given", "I", false)
  | 21 => ("ForkJoinDeskModel", "callName", "I", false)
  | 22 => ("ForkJoinDeskModel", "callPlace", "I", false)
  | 23 => ("ForkJoinDeskModel", "isFork", "Z", false)
  | 24 => ("ForkJoinDeskModel", "due", "[I", true)
  | 25 => ("ForkJoinDeskModel", "dues", "I", false)
  | 26 => ("ForkJoinDeskModel", "patch", "[I", true)
  | 27 => ("ForkJoinDeskModel", "patches", "I", false)
  | 28 => ("ForkJoinDeskModel", "there", "Z", false)
  | 29 => ("ForkJoinDeskModel", "size0", "I", false)
  | 30 => ("ForkJoinDeskModel", "code0", "[I", true)
  | 31 => ("ForkJoinDeskModel", "value0", "[I", true)
  | 32 => ("ForkJoinDeskModel", "place0", "[I", true)
  | 33 => ("ForkJoinDeskModel", "first0", "[I", true)
  | 34 => ("ForkJoinDeskModel", "variables0", "[I", true)
  | 35 => ("ForkJoinDeskModel", "variable0", "[I", true)
  | 36 => ("ForkJoinDeskModel", "inputs", "[I", true)
  | 37 => ("ForkJoinDeskModel", "deep", "[I", true)
  | 38 => ("ForkJoinDeskModel", "next", "[I", true)
  | 39 => ("ForkJoinDeskModel", "open", "[I", true)
  | 40 => ("ForkJoinDeskModel", "local", "[I", true)
  | 41 => ("ForkJoinDeskModel", "stack", "[I", true)
  | 42 => ("ForkJoinDeskModel", "stacked", "[I", true)
  | 43 => ("ForkJoinDeskModel", "forker", "[I", true)
  | 44 => ("ForkJoinDeskModel", "cells", "[I", true)
  | 45 => ("ForkJoinDeskModel", "sum", "[I", true)
  | 46 => ("ForkJoinDeskModel", "work", "[I", true)
  | 47 => ("ForkJoinDeskModel", "begun", "Z", false)
  | 48 => ("ForkJoinDeskModel", "ended", "Z", false)
  | 49 => ("ForkJoinDeskModel", "limited", "Z", false)
  | 50 => ("ForkJoinDeskModel", "strands", "I", false)
  | 51 => ("ForkJoinDeskModel", "strand", "I", false)
  | 52 => ("ForkJoinDeskModel", "time", "I", false)
  | 53 => ("ForkJoinDeskModel", "span", "I", false)
  | 54 => ("ForkJoinDeskModel", "before", "[I", true)
  | 55 => ("ForkJoinDeskModel", "forked", "[Z", true)
  | 56 => ("ForkJoinDeskModel", "isForked", "[Z", true)
  | 57 => ("ForkJoinDeskModel", "latest", "[I", true)
  | 58 => ("ForkJoinDeskModel", "joins", "[I", true)
  | 59 => ("ForkJoinDeskModel", "backStrand", "[I", true)
  | 60 => ("ForkJoinDeskModel", "backTime", "[I", true)
  | 61 => ("ForkJoinDeskModel", "readers", "[I", true)
  | 62 => ("ForkJoinDeskModel", "writers", "[I", true)
  | 63 => ("ForkJoinDeskModel", "raced", "[Z", true)
  | 64 => ("ForkJoinDeskModel", "races", "I", false)
  | 65 => ("ForkJoinDeskModel", "race", "[I", true)
  | 66 => ("ForkJoinDeskModel", "printed", "I", false)
  | 67 => ("ForkJoinDeskModel", "print", "[I", true)
  | 68 => ("ForkJoinDeskModel", "loosened", "Z", false)
  | 69 => ("ForkJoinDeskModel", "looseLimited", "Z", false)
  | 70 => ("ForkJoinDeskModel", "threads", "I", false)
  | 71 => ("ForkJoinDeskModel", "loosePrinted", "I", false)
  | 72 => ("ForkJoinDeskModel", "knots", "I", false)
  | 73 => ("ForkJoinDeskModel", "knotNext", "[I", true)
  | 74 => ("ForkJoinDeskModel", "knotValue", "[I", true)
  | 75 => ("ForkJoinDeskModel", "isPrint", "[Z", true)
  | _ => ("ForkJoinDeskModel", "tail", "[I", true)
def tyX7 : Nat → FieldType := fun k => match k with
  | 0 => .int
  | 1 => .array .int
  | 2 => .int
  | 3 => .int
  | 4 => .int
  | 5 => .int
  | 6 => .int
  | 7 => .int
  | 8 => .int
  | 9 => .array .int
  | 10 => .array .int
  | 11 => .array .int
  | 12 => .array .int
  | 13 => .int
  | 14 => .array .int
  | 15 => .array .int
  | 16 => .array .int
  | 17 => .int
  | 18 => .array .int
  | 19 => .array .int
  | 20 => .int
  | 21 => .int
  | 22 => .int
  | 23 => .boolean
  | 24 => .array .int
  | 25 => .int
  | 26 => .array .int
  | 27 => .int
  | 28 => .boolean
  | 29 => .int
  | 30 => .array .int
  | 31 => .array .int
  | 32 => .array .int
  | 33 => .array .int
  | 34 => .array .int
  | 35 => .array .int
  | 36 => .array .int
  | 37 => .array .int
  | 38 => .array .int
  | 39 => .array .int
  | 40 => .array .int
  | 41 => .array .int
  | 42 => .array .int
  | 43 => .array .int
  | 44 => .array .int
  | 45 => .array .int
  | 46 => .array .int
  | 47 => .boolean
  | 48 => .boolean
  | 49 => .boolean
  | 50 => .int
  | 51 => .int
  | 52 => .int
  | 53 => .int
  | 54 => .array .int
  | 55 => .array .boolean
  | 56 => .array .boolean
  | 57 => .array .int
  | 58 => .array .int
  | 59 => .array .int
  | 60 => .array .int
  | 61 => .array .int
  | 62 => .array .int
  | 63 => .array .boolean
  | 64 => .int
  | 65 => .array .int
  | 66 => .int
  | 67 => .array .int
  | 68 => .boolean
  | 69 => .boolean
  | 70 => .int
  | 71 => .int
  | 72 => .int
  | 73 => .array .int
  | 74 => .array .int
  | 75 => .array .boolean
  | _ => .array .int
abbrev wsX70 : List Cond := u_ws RX7 TX7 77
theorem nmX7 : ∀ a, a < 77 → ∀ b, b < 77 → a ≠ b → (TX7 a).2.1 ≠ (TX7 b).2.1 := by decide +kernel
theorem tyX7_ok : ∀ k, k < 77 → parseFieldDescriptor (TX7 k).2.2.1 = some (tyX7 k) := by decide +kernel
abbrev cX7_init : ByteArray := prog_13_method_1_code
def yX7_init : MethodName := ⟨RX7, "<init>", "()V"⟩
abbrev cX7_thrown : ByteArray := prog_13_method_2_code
def yX7_thrown : MethodName := ⟨RX7, "thrown", "()I"⟩
abbrev cX7_type : ByteArray := prog_13_method_4_code
def yX7_type : MethodName := ⟨RX7, "type", "(JI)Z"⟩
abbrev cX7_compile : ByteArray := prog_13_method_29_code
def yX7_compile : MethodName := ⟨RX7, "compile", "()I"⟩
abbrev cX7_read : ByteArray := prog_13_method_27_code
def yX7_read : MethodName := ⟨RX7, "read", "()Z"⟩
abbrev cX7_skip : ByteArray := prog_13_method_6_code
def yX7_skip : MethodName := ⟨RX7, "skip", "()V"⟩
abbrev cX7_push : ByteArray := prog_13_method_9_code
def yX7_push : MethodName := ⟨RX7, "push", "(I)V"⟩
abbrev cX7_emit : ByteArray := prog_13_method_10_code
def yX7_emit : MethodName := ⟨RX7, "emit", "(III)V"⟩
abbrev cX7_turn : ByteArray := prog_13_method_26_code
def yX7_turn : MethodName := ⟨RX7, "turn", "(I)V"⟩
abbrev cX7_here : ByteArray := prog_13_method_5_code
def yX7_here : MethodName := ⟨RX7, "here", "()I"⟩
abbrev cX7_more : ByteArray := prog_13_method_16_code
def yX7_more : MethodName := ⟨RX7, "more", "()V"⟩
abbrev cX7_isName : ByteArray := prog_13_method_11_code
def yX7_isName : MethodName := ⟨RX7, "isName", "(I)Z"⟩
abbrev cX7_refuse : ByteArray := prog_13_method_7_code
def yX7_refuse : MethodName := ⟨RX7, "refuse", "(I)V"⟩
abbrev cX7_procedure : ByteArray := prog_13_method_17_code
def yX7_procedure : MethodName := ⟨RX7, "procedure", "()V"⟩
abbrev cX7_named : ByteArray := prog_13_method_15_code
def yX7_named : MethodName := ⟨RX7, "named", "(I)I"⟩
abbrev cX7_take : ByteArray := prog_13_method_8_code
def yX7_take : MethodName := ⟨RX7, "take", "()V"⟩
abbrev cX7_isVariable : ByteArray := prog_13_method_12_code
def yX7_isVariable : MethodName := ⟨RX7, "isVariable", "(I)Z"⟩
abbrev cX7_parameter : ByteArray := prog_13_method_18_code
def yX7_parameter : MethodName := ⟨RX7, "parameter", "()V"⟩
abbrev cX7_isStatement : ByteArray := prog_13_method_19_code
def yX7_isStatement : MethodName := ⟨RX7, "isStatement", "(I)Z"⟩
abbrev cX7_statement : ByteArray := prog_13_method_21_code
def yX7_statement : MethodName := ⟨RX7, "statement", "()V"⟩
abbrev cX7_called : ByteArray := prog_13_method_20_code
def yX7_called : MethodName := ⟨RX7, "called", "(Z)V"⟩
abbrev cX7_patchTo : ByteArray := prog_13_method_24_code
def yX7_patchTo : MethodName := ⟨RX7, "patchTo", "(II)V"⟩
abbrev cX7_tested : ByteArray := prog_13_method_25_code
def yX7_tested : MethodName := ⟨RX7, "tested", "()V"⟩
abbrev cX7_begins : ByteArray := prog_13_method_14_code
def yX7_begins : MethodName := ⟨RX7, "begins", "(I)Z"⟩
abbrev cX7_isDigit : ByteArray := prog_13_method_13_code
def yX7_isDigit : MethodName := ⟨RX7, "isDigit", "(I)Z"⟩
abbrev cX7_between : ByteArray := prog_13_method_23_code
def yX7_between : MethodName := ⟨RX7, "between", "(IZII)V"⟩
abbrev cX7_atom : ByteArray := prog_13_method_22_code
def yX7_atom : MethodName := ⟨RX7, "atom", "()V"⟩
abbrev cX7_settle : ByteArray := prog_13_method_28_code
def yX7_settle : MethodName := ⟨RX7, "settle", "()Z"⟩
abbrev cX7_raise : ByteArray := prog_13_method_3_code
def yX7_raise : MethodName := ⟨RX7, "raise", "(I)I"⟩
abbrev cX7_fault : ByteArray := prog_13_method_30_code
def yX7_fault : MethodName := ⟨RX7, "fault", "()I"⟩
abbrev cX7_input : ByteArray := prog_13_method_31_code
def yX7_input : MethodName := ⟨RX7, "input", "(II)Z"⟩
abbrev cX7_begin : ByteArray := prog_13_method_43_code
def yX7_begin : MethodName := ⟨RX7, "begin", "()Z"⟩
abbrev cX7_strandFrom : ByteArray := prog_13_method_40_code
def yX7_strandFrom : MethodName := ⟨RX7, "strandFrom", "(I)I"⟩
abbrev cX7_put : ByteArray := prog_13_method_39_code
def yX7_put : MethodName := ⟨RX7, "put", "([III)V"⟩
abbrev cX7_enterSerial : ByteArray := prog_13_method_44_code
def yX7_enterSerial : MethodName := ⟨RX7, "enterSerial", "(IZ)V"⟩
abbrev cX7_enter : ByteArray := prog_13_method_32_code
def yX7_enter : MethodName := ⟨RX7, "enter", "(III)V"⟩
abbrev cX7_run : ByteArray := prog_13_method_49_code
def yX7_run : MethodName := ⟨RX7, "run", "(I)I"⟩
abbrev cX7_stepSerial : ByteArray := prog_13_method_48_code
def yX7_stepSerial : MethodName := ⟨RX7, "stepSerial", "()V"⟩
abbrev cX7_passes : ByteArray := prog_13_method_47_code
def yX7_passes : MethodName := ⟨RX7, "passes", "(II)Z"⟩
abbrev cX7_join : ByteArray := prog_13_method_45_code
def yX7_join : MethodName := ⟨RX7, "join", "(I)V"⟩
abbrev cX7_plain : ByteArray := prog_13_method_37_code
def yX7_plain : MethodName := ⟨RX7, "plain", "(III)Z"⟩
abbrev cX7_side : ByteArray := prog_13_method_36_code
def yX7_side : MethodName := ⟨RX7, "side", "(I)I"⟩
abbrev cX7_give : ByteArray := prog_13_method_34_code
def yX7_give : MethodName := ⟨RX7, "give", "(II)V"⟩
abbrev cX7_pop : ByteArray := prog_13_method_33_code
def yX7_pop : MethodName := ⟨RX7, "pop", "(I)I"⟩
abbrev cX7_sign : ByteArray := prog_13_method_35_code
def yX7_sign : MethodName := ⟨RX7, "sign", "(III)I"⟩
abbrev cX7_touch : ByteArray := prog_13_method_42_code
def yX7_touch : MethodName := ⟨RX7, "touch", "(IZI)V"⟩
abbrev cX7_goBack : ByteArray := prog_13_method_46_code
def yX7_goBack : MethodName := ⟨RX7, "goBack", "(I)V"⟩
abbrev cX7_races : ByteArray := prog_13_method_50_code
def yX7_races : MethodName := ⟨RX7, "races", "()I"⟩
abbrev cX7_race : ByteArray := prog_13_method_51_code
def yX7_race : MethodName := ⟨RX7, "race", "(II)I"⟩
abbrev cX7_beside : ByteArray := prog_13_method_52_code
def yX7_beside : MethodName := ⟨RX7, "beside", "(II)Z"⟩
abbrev cX7_isBeside : ByteArray := prog_13_method_41_code
def yX7_isBeside : MethodName := ⟨RX7, "isBeside", "(II)Z"⟩
abbrev cX7_has : ByteArray := prog_13_method_38_code
def yX7_has : MethodName := ⟨RX7, "has", "([III)Z"⟩
abbrev cX7_serial : ByteArray := prog_13_method_53_code
def yX7_serial : MethodName := ⟨RX7, "serial", "(I)I"⟩
abbrev cX7_cell : ByteArray := prog_13_method_54_code
def yX7_cell : MethodName := ⟨RX7, "cell", "(IZ)I"⟩
abbrev cX7_printed : ByteArray := prog_13_method_55_code
def yX7_printed : MethodName := ⟨RX7, "printed", "(IZ)I"⟩
abbrev cX7_loosen : ByteArray := prog_13_method_57_code
def yX7_loosen : MethodName := ⟨RX7, "loosen", "()Z"⟩
abbrev cX7_knot : ByteArray := prog_13_method_56_code
def yX7_knot : MethodName := ⟨RX7, "knot", "(IZI)I"⟩
abbrev cX7_move : ByteArray := prog_13_method_60_code
def yX7_move : MethodName := ⟨RX7, "move", "(II)I"⟩
abbrev cX7_stepLoose : ByteArray := prog_13_method_59_code
def yX7_stepLoose : MethodName := ⟨RX7, "stepLoose", "(I)Z"⟩
abbrev cX7_fork : ByteArray := prog_13_method_58_code
def yX7_fork : MethodName := ⟨RX7, "fork", "(III)V"⟩
abbrev cX7_loose : ByteArray := prog_13_method_61_code
def yX7_loose : MethodName := ⟨RX7, "loose", "(I)I"⟩
theorem q93 : (Jvm.Cond.initialized "ForkJoinDeskModel") ∈ lw_all := lw_g (lw_at lw_m1 25 rfl) rfl
theorem q817 : (Jvm.Cond.selects "ForkJoinDeskModel" ({ cls := "java/lang/Object", name := "getClass", desc := "()Ljava/lang/Class;" } : Jvm.MethodName) ({ cls := "java/lang/Object", name := "getClass", desc := "()Ljava/lang/Class;" } : Jvm.MethodName)) ∈ lw_all := lw_g (lw_at lw_m4 29 rfl) rfl
theorem q1402 : (Jvm.Cond.instantiable "ForkJoinDeskModel" (77 : Nat)) ∈ lw_all := lw_g (lw_at lw_m6 134 rfl) rfl
theorem q1404 : (Jvm.Cond.instanceMethod ({ cls := "ForkJoinDeskModel", name := "<init>", desc := "()V" } : Jvm.MethodName)) ∈ lw_all := lw_g (lw_at lw_m6 136 rfl) rfl
theorem q1405 : (Jvm.Cond.code ({ cls := "ForkJoinDeskModel", name := "<init>", desc := "()V" } : Jvm.MethodName) prog_13_method_1_code (1 : Nat) (Option.none : Option Jvm.ClassFile.FieldType)) ∈ lw_all := lw_g (lw_at lw_m6 137 rfl) rfl
theorem q1406 : (Jvm.Cond.methodLink "ForkJoinDeskModel" (1 : Nat) ({ cls := "java/lang/Object", name := "<init>", desc := "()V" } : Jvm.MethodName)) ∈ lw_all := lw_g (lw_at lw_m6 138 rfl) rfl
theorem q1407 : (Jvm.Cond.constant "ForkJoinDeskModel" (80 : Nat) (105040 : Int32)) ∈ lw_all := lw_g (lw_at lw_m6 139 rfl) rfl
theorem q1408 : (Jvm.Cond.constant "ForkJoinDeskModel" (102 : Nat) (70500 : Int32)) ∈ lw_all := lw_g (lw_at lw_m6 140 rfl) rfl
theorem q1409 : (Jvm.Cond.fieldLink "ForkJoinDeskModel" (152 : Nat) "ForkJoinDeskModel" "thrown" "I") ∈ lw_all := lw_g (lw_at lw_m6 141 rfl) rfl
theorem q1410 : (Jvm.Cond.fieldLink "ForkJoinDeskModel" (7 : Nat) "ForkJoinDeskModel" "tape" "[I") ∈ lw_all := lw_g (lw_at lw_m6 142 rfl) rfl
theorem q1411 : (Jvm.Cond.fieldLink "ForkJoinDeskModel" (155 : Nat) "ForkJoinDeskModel" "taped" "I") ∈ lw_all := lw_g (lw_at lw_m6 143 rfl) rfl
theorem q1412 : (Jvm.Cond.fieldLink "ForkJoinDeskModel" (13 : Nat) "ForkJoinDeskModel" "fault" "I") ∈ lw_all := lw_g (lw_at lw_m6 144 rfl) rfl
theorem q1413 : (Jvm.Cond.fieldLink "ForkJoinDeskModel" (160 : Nat) "ForkJoinDeskModel" "at" "I") ∈ lw_all := lw_g (lw_at lw_m6 145 rfl) rfl
theorem q1414 : (Jvm.Cond.fieldLink "ForkJoinDeskModel" (163 : Nat) "ForkJoinDeskModel" "wrong" "I") ∈ lw_all := lw_g (lw_at lw_m6 146 rfl) rfl
theorem q1415 : (Jvm.Cond.fieldLink "ForkJoinDeskModel" (170 : Nat) "ForkJoinDeskModel" "brackets" "I") ∈ lw_all := lw_g (lw_at lw_m6 147 rfl) rfl
theorem q1416 : (Jvm.Cond.fieldLink "ForkJoinDeskModel" (229 : Nat) "ForkJoinDeskModel" "minuses" "I") ∈ lw_all := lw_g (lw_at lw_m6 148 rfl) rfl
theorem q1417 : (Jvm.Cond.fieldLink "ForkJoinDeskModel" (193 : Nat) "ForkJoinDeskModel" "procedures" "I") ∈ lw_all := lw_g (lw_at lw_m6 149 rfl) rfl
theorem q1418 : (Jvm.Cond.fieldLink "ForkJoinDeskModel" (17 : Nat) "ForkJoinDeskModel" "name" "[I") ∈ lw_all := lw_g (lw_at lw_m6 150 rfl) rfl
theorem q1419 : (Jvm.Cond.fieldLink "ForkJoinDeskModel" (20 : Nat) "ForkJoinDeskModel" "variables" "[I") ∈ lw_all := lw_g (lw_at lw_m6 151 rfl) rfl
theorem q1420 : (Jvm.Cond.fieldLink "ForkJoinDeskModel" (23 : Nat) "ForkJoinDeskModel" "variable" "[I") ∈ lw_all := lw_g (lw_at lw_m6 152 rfl) rfl
theorem q1421 : (Jvm.Cond.fieldLink "ForkJoinDeskModel" (26 : Nat) "ForkJoinDeskModel" "first" "[I") ∈ lw_all := lw_g (lw_at lw_m6 153 rfl) rfl
theorem q1422 : (Jvm.Cond.fieldLink "ForkJoinDeskModel" (183 : Nat) "ForkJoinDeskModel" "size" "I") ∈ lw_all := lw_g (lw_at lw_m6 154 rfl) rfl
theorem q1423 : (Jvm.Cond.fieldLink "ForkJoinDeskModel" (29 : Nat) "ForkJoinDeskModel" "code" "[I") ∈ lw_all := lw_g (lw_at lw_m6 155 rfl) rfl
theorem q1424 : (Jvm.Cond.fieldLink "ForkJoinDeskModel" (32 : Nat) "ForkJoinDeskModel" "value" "[I") ∈ lw_all := lw_g (lw_at lw_m6 156 rfl) rfl
theorem q1425 : (Jvm.Cond.fieldLink "ForkJoinDeskModel" (35 : Nat) "ForkJoinDeskModel" "place" "[I") ∈ lw_all := lw_g (lw_at lw_m6 157 rfl) rfl
theorem q1426 : (Jvm.Cond.fieldLink "ForkJoinDeskModel" (261 : Nat) "ForkJoinDeskModel" "calls" "I") ∈ lw_all := lw_g (lw_at lw_m6 158 rfl) rfl
theorem q1427 : (Jvm.Cond.fieldLink "ForkJoinDeskModel" (38 : Nat) "ForkJoinDeskModel" "callAt" "[I") ∈ lw_all := lw_g (lw_at lw_m6 159 rfl) rfl
theorem q1428 : (Jvm.Cond.fieldLink "ForkJoinDeskModel" (41 : Nat) "ForkJoinDeskModel" "callArguments" "[I") ∈ lw_all := lw_g (lw_at lw_m6 160 rfl) rfl
theorem q1429 : (Jvm.Cond.fieldLink "ForkJoinDeskModel" (219 : Nat) "ForkJoinDeskModel" "given" "I") ∈ lw_all := lw_g (lw_at lw_m6 161 rfl) rfl
theorem q1430 : (Jvm.Cond.fieldLink "ForkJoinDeskModel" (213 : Nat) "ForkJoinDeskModel" "callName" "I") ∈ lw_all := lw_g (lw_at lw_m6 162 rfl) rfl
theorem q1431 : (Jvm.Cond.fieldLink "ForkJoinDeskModel" (216 : Nat) "ForkJoinDeskModel" "callPlace" "I") ∈ lw_all := lw_g (lw_at lw_m6 163 rfl) rfl
theorem q1432 : (Jvm.Cond.fieldLink "ForkJoinDeskModel" (209 : Nat) "ForkJoinDeskModel" "isFork" "Z") ∈ lw_all := lw_g (lw_at lw_m6 164 rfl) rfl
theorem q1433 : (Jvm.Cond.fieldLink "ForkJoinDeskModel" (44 : Nat) "ForkJoinDeskModel" "due" "[I") ∈ lw_all := lw_g (lw_at lw_m6 165 rfl) rfl
theorem q1434 : (Jvm.Cond.fieldLink "ForkJoinDeskModel" (180 : Nat) "ForkJoinDeskModel" "dues" "I") ∈ lw_all := lw_g (lw_at lw_m6 166 rfl) rfl
theorem q1435 : (Jvm.Cond.fieldLink "ForkJoinDeskModel" (47 : Nat) "ForkJoinDeskModel" "patch" "[I") ∈ lw_all := lw_g (lw_at lw_m6 167 rfl) rfl
theorem q1436 : (Jvm.Cond.fieldLink "ForkJoinDeskModel" (226 : Nat) "ForkJoinDeskModel" "patches" "I") ∈ lw_all := lw_g (lw_at lw_m6 168 rfl) rfl
theorem q1437 : (Jvm.Cond.fieldLink "ForkJoinDeskModel" (284 : Nat) "ForkJoinDeskModel" "there" "Z") ∈ lw_all := lw_g (lw_at lw_m6 169 rfl) rfl
theorem q1438 : (Jvm.Cond.fieldLink "ForkJoinDeskModel" (293 : Nat) "ForkJoinDeskModel" "size0" "I") ∈ lw_all := lw_g (lw_at lw_m6 170 rfl) rfl
theorem q1439 : (Jvm.Cond.fieldLink "ForkJoinDeskModel" (50 : Nat) "ForkJoinDeskModel" "code0" "[I") ∈ lw_all := lw_g (lw_at lw_m6 171 rfl) rfl
theorem q1440 : (Jvm.Cond.fieldLink "ForkJoinDeskModel" (53 : Nat) "ForkJoinDeskModel" "value0" "[I") ∈ lw_all := lw_g (lw_at lw_m6 172 rfl) rfl
theorem q1441 : (Jvm.Cond.fieldLink "ForkJoinDeskModel" (56 : Nat) "ForkJoinDeskModel" "place0" "[I") ∈ lw_all := lw_g (lw_at lw_m6 173 rfl) rfl
theorem q1442 : (Jvm.Cond.fieldLink "ForkJoinDeskModel" (59 : Nat) "ForkJoinDeskModel" "first0" "[I") ∈ lw_all := lw_g (lw_at lw_m6 174 rfl) rfl
theorem q1443 : (Jvm.Cond.fieldLink "ForkJoinDeskModel" (62 : Nat) "ForkJoinDeskModel" "variables0" "[I") ∈ lw_all := lw_g (lw_at lw_m6 175 rfl) rfl
theorem q1444 : (Jvm.Cond.fieldLink "ForkJoinDeskModel" (65 : Nat) "ForkJoinDeskModel" "variable0" "[I") ∈ lw_all := lw_g (lw_at lw_m6 176 rfl) rfl
theorem q1445 : (Jvm.Cond.fieldLink "ForkJoinDeskModel" (68 : Nat) "ForkJoinDeskModel" "inputs" "[I") ∈ lw_all := lw_g (lw_at lw_m6 177 rfl) rfl
theorem q1446 : (Jvm.Cond.fieldLink "ForkJoinDeskModel" (71 : Nat) "ForkJoinDeskModel" "deep" "[I") ∈ lw_all := lw_g (lw_at lw_m6 178 rfl) rfl
theorem q1447 : (Jvm.Cond.fieldLink "ForkJoinDeskModel" (74 : Nat) "ForkJoinDeskModel" "next" "[I") ∈ lw_all := lw_g (lw_at lw_m6 179 rfl) rfl
theorem q1448 : (Jvm.Cond.fieldLink "ForkJoinDeskModel" (77 : Nat) "ForkJoinDeskModel" "open" "[I") ∈ lw_all := lw_g (lw_at lw_m6 180 rfl) rfl
theorem q1449 : (Jvm.Cond.fieldLink "ForkJoinDeskModel" (81 : Nat) "ForkJoinDeskModel" "local" "[I") ∈ lw_all := lw_g (lw_at lw_m6 181 rfl) rfl
theorem q1450 : (Jvm.Cond.fieldLink "ForkJoinDeskModel" (84 : Nat) "ForkJoinDeskModel" "stack" "[I") ∈ lw_all := lw_g (lw_at lw_m6 182 rfl) rfl
theorem q1451 : (Jvm.Cond.fieldLink "ForkJoinDeskModel" (87 : Nat) "ForkJoinDeskModel" "stacked" "[I") ∈ lw_all := lw_g (lw_at lw_m6 183 rfl) rfl
theorem q1452 : (Jvm.Cond.fieldLink "ForkJoinDeskModel" (90 : Nat) "ForkJoinDeskModel" "forker" "[I") ∈ lw_all := lw_g (lw_at lw_m6 184 rfl) rfl
theorem q1453 : (Jvm.Cond.fieldLink "ForkJoinDeskModel" (93 : Nat) "ForkJoinDeskModel" "cells" "[I") ∈ lw_all := lw_g (lw_at lw_m6 185 rfl) rfl
theorem q1454 : (Jvm.Cond.fieldLink "ForkJoinDeskModel" (96 : Nat) "ForkJoinDeskModel" "sum" "[I") ∈ lw_all := lw_g (lw_at lw_m6 186 rfl) rfl
theorem q1455 : (Jvm.Cond.fieldLink "ForkJoinDeskModel" (99 : Nat) "ForkJoinDeskModel" "work" "[I") ∈ lw_all := lw_g (lw_at lw_m6 187 rfl) rfl
theorem q1456 : (Jvm.Cond.fieldLink "ForkJoinDeskModel" (287 : Nat) "ForkJoinDeskModel" "begun" "Z") ∈ lw_all := lw_g (lw_at lw_m6 188 rfl) rfl
theorem q1457 : (Jvm.Cond.fieldLink "ForkJoinDeskModel" (330 : Nat) "ForkJoinDeskModel" "ended" "Z") ∈ lw_all := lw_g (lw_at lw_m6 189 rfl) rfl
theorem q1458 : (Jvm.Cond.fieldLink "ForkJoinDeskModel" (333 : Nat) "ForkJoinDeskModel" "limited" "Z") ∈ lw_all := lw_g (lw_at lw_m6 190 rfl) rfl
theorem q1459 : (Jvm.Cond.fieldLink "ForkJoinDeskModel" (316 : Nat) "ForkJoinDeskModel" "strands" "I") ∈ lw_all := lw_g (lw_at lw_m6 191 rfl) rfl
theorem q1460 : (Jvm.Cond.fieldLink "ForkJoinDeskModel" (327 : Nat) "ForkJoinDeskModel" "strand" "I") ∈ lw_all := lw_g (lw_at lw_m6 192 rfl) rfl
theorem q1461 : (Jvm.Cond.fieldLink "ForkJoinDeskModel" (336 : Nat) "ForkJoinDeskModel" "time" "I") ∈ lw_all := lw_g (lw_at lw_m6 193 rfl) rfl
theorem q1462 : (Jvm.Cond.fieldLink "ForkJoinDeskModel" (339 : Nat) "ForkJoinDeskModel" "span" "I") ∈ lw_all := lw_g (lw_at lw_m6 194 rfl) rfl
theorem q1463 : (Jvm.Cond.fieldLink "ForkJoinDeskModel" (103 : Nat) "ForkJoinDeskModel" "before" "[I") ∈ lw_all := lw_g (lw_at lw_m6 195 rfl) rfl
theorem q1464 : (Jvm.Cond.fieldLink "ForkJoinDeskModel" (106 : Nat) "ForkJoinDeskModel" "forked" "[Z") ∈ lw_all := lw_g (lw_at lw_m6 196 rfl) rfl
theorem q1465 : (Jvm.Cond.fieldLink "ForkJoinDeskModel" (110 : Nat) "ForkJoinDeskModel" "isForked" "[Z") ∈ lw_all := lw_g (lw_at lw_m6 197 rfl) rfl
theorem q1466 : (Jvm.Cond.fieldLink "ForkJoinDeskModel" (113 : Nat) "ForkJoinDeskModel" "latest" "[I") ∈ lw_all := lw_g (lw_at lw_m6 198 rfl) rfl
theorem q1467 : (Jvm.Cond.fieldLink "ForkJoinDeskModel" (116 : Nat) "ForkJoinDeskModel" "joins" "[I") ∈ lw_all := lw_g (lw_at lw_m6 199 rfl) rfl
theorem q1468 : (Jvm.Cond.fieldLink "ForkJoinDeskModel" (119 : Nat) "ForkJoinDeskModel" "backStrand" "[I") ∈ lw_all := lw_g (lw_at lw_m6 200 rfl) rfl
theorem q1469 : (Jvm.Cond.fieldLink "ForkJoinDeskModel" (122 : Nat) "ForkJoinDeskModel" "backTime" "[I") ∈ lw_all := lw_g (lw_at lw_m6 201 rfl) rfl
theorem q1470 : (Jvm.Cond.fieldLink "ForkJoinDeskModel" (125 : Nat) "ForkJoinDeskModel" "readers" "[I") ∈ lw_all := lw_g (lw_at lw_m6 202 rfl) rfl
theorem q1471 : (Jvm.Cond.fieldLink "ForkJoinDeskModel" (128 : Nat) "ForkJoinDeskModel" "writers" "[I") ∈ lw_all := lw_g (lw_at lw_m6 203 rfl) rfl
theorem q1472 : (Jvm.Cond.fieldLink "ForkJoinDeskModel" (131 : Nat) "ForkJoinDeskModel" "raced" "[Z") ∈ lw_all := lw_g (lw_at lw_m6 204 rfl) rfl
theorem q1473 : (Jvm.Cond.fieldLink "ForkJoinDeskModel" (296 : Nat) "ForkJoinDeskModel" "races" "I") ∈ lw_all := lw_g (lw_at lw_m6 205 rfl) rfl
theorem q1474 : (Jvm.Cond.fieldLink "ForkJoinDeskModel" (134 : Nat) "ForkJoinDeskModel" "race" "[I") ∈ lw_all := lw_g (lw_at lw_m6 206 rfl) rfl
theorem q1475 : (Jvm.Cond.fieldLink "ForkJoinDeskModel" (342 : Nat) "ForkJoinDeskModel" "printed" "I") ∈ lw_all := lw_g (lw_at lw_m6 207 rfl) rfl
theorem q1476 : (Jvm.Cond.fieldLink "ForkJoinDeskModel" (137 : Nat) "ForkJoinDeskModel" "print" "[I") ∈ lw_all := lw_g (lw_at lw_m6 208 rfl) rfl
theorem q1477 : (Jvm.Cond.fieldLink "ForkJoinDeskModel" (290 : Nat) "ForkJoinDeskModel" "loosened" "Z") ∈ lw_all := lw_g (lw_at lw_m6 209 rfl) rfl
theorem q1478 : (Jvm.Cond.fieldLink "ForkJoinDeskModel" (381 : Nat) "ForkJoinDeskModel" "looseLimited" "Z") ∈ lw_all := lw_g (lw_at lw_m6 210 rfl) rfl
theorem q1479 : (Jvm.Cond.fieldLink "ForkJoinDeskModel" (384 : Nat) "ForkJoinDeskModel" "threads" "I") ∈ lw_all := lw_g (lw_at lw_m6 211 rfl) rfl
theorem q1480 : (Jvm.Cond.fieldLink "ForkJoinDeskModel" (375 : Nat) "ForkJoinDeskModel" "loosePrinted" "I") ∈ lw_all := lw_g (lw_at lw_m6 212 rfl) rfl
theorem q1481 : (Jvm.Cond.fieldLink "ForkJoinDeskModel" (378 : Nat) "ForkJoinDeskModel" "knots" "I") ∈ lw_all := lw_g (lw_at lw_m6 213 rfl) rfl
theorem q1482 : (Jvm.Cond.fieldLink "ForkJoinDeskModel" (140 : Nat) "ForkJoinDeskModel" "knotNext" "[I") ∈ lw_all := lw_g (lw_at lw_m6 214 rfl) rfl
theorem q1483 : (Jvm.Cond.fieldLink "ForkJoinDeskModel" (143 : Nat) "ForkJoinDeskModel" "knotValue" "[I") ∈ lw_all := lw_g (lw_at lw_m6 215 rfl) rfl
theorem q1484 : (Jvm.Cond.fieldLink "ForkJoinDeskModel" (146 : Nat) "ForkJoinDeskModel" "isPrint" "[Z") ∈ lw_all := lw_g (lw_at lw_m6 216 rfl) rfl
theorem q1485 : (Jvm.Cond.fieldLink "ForkJoinDeskModel" (149 : Nat) "ForkJoinDeskModel" "tail" "[I") ∈ lw_all := lw_g (lw_at lw_m6 217 rfl) rfl
theorem q1486 : (Jvm.Cond.lays "ForkJoinDeskModel" "ForkJoinDeskModel" "thrown" "I") ∈ lw_all := lw_g (lw_at lw_m6 218 rfl) rfl
theorem q1487 : (Jvm.Cond.soleField "ForkJoinDeskModel" "thrown") ∈ lw_all := lw_g (lw_at lw_m6 219 rfl) rfl
theorem q1488 : (Jvm.Cond.laysFinal "ForkJoinDeskModel" "ForkJoinDeskModel" "tape" "[I") ∈ lw_all := lw_g (lw_at lw_m6 220 rfl) rfl
theorem q1489 : (Jvm.Cond.soleField "ForkJoinDeskModel" "tape") ∈ lw_all := lw_g (lw_at lw_m6 221 rfl) rfl
theorem q1490 : (Jvm.Cond.lays "ForkJoinDeskModel" "ForkJoinDeskModel" "taped" "I") ∈ lw_all := lw_g (lw_at lw_m6 222 rfl) rfl
theorem q1491 : (Jvm.Cond.soleField "ForkJoinDeskModel" "taped") ∈ lw_all := lw_g (lw_at lw_m6 223 rfl) rfl
theorem q1492 : (Jvm.Cond.lays "ForkJoinDeskModel" "ForkJoinDeskModel" "fault" "I") ∈ lw_all := lw_g (lw_at lw_m6 224 rfl) rfl
theorem q1493 : (Jvm.Cond.soleField "ForkJoinDeskModel" "fault") ∈ lw_all := lw_g (lw_at lw_m6 225 rfl) rfl
theorem q1494 : (Jvm.Cond.lays "ForkJoinDeskModel" "ForkJoinDeskModel" "at" "I") ∈ lw_all := lw_g (lw_at lw_m6 226 rfl) rfl
theorem q1495 : (Jvm.Cond.soleField "ForkJoinDeskModel" "at") ∈ lw_all := lw_g (lw_at lw_m6 227 rfl) rfl
theorem q1496 : (Jvm.Cond.lays "ForkJoinDeskModel" "ForkJoinDeskModel" "wrong" "I") ∈ lw_all := lw_g (lw_at lw_m6 228 rfl) rfl
theorem q1497 : (Jvm.Cond.soleField "ForkJoinDeskModel" "wrong") ∈ lw_all := lw_g (lw_at lw_m6 229 rfl) rfl
theorem q1498 : (Jvm.Cond.lays "ForkJoinDeskModel" "ForkJoinDeskModel" "brackets" "I") ∈ lw_all := lw_g (lw_at lw_m6 230 rfl) rfl
theorem q1499 : (Jvm.Cond.soleField "ForkJoinDeskModel" "brackets") ∈ lw_all := lw_g (lw_at lw_m6 231 rfl) rfl
theorem q1500 : (Jvm.Cond.lays "ForkJoinDeskModel" "ForkJoinDeskModel" "minuses" "I") ∈ lw_all := lw_g (lw_at lw_m6 232 rfl) rfl
theorem q1501 : (Jvm.Cond.soleField "ForkJoinDeskModel" "minuses") ∈ lw_all := lw_g (lw_at lw_m6 233 rfl) rfl
theorem q1502 : (Jvm.Cond.lays "ForkJoinDeskModel" "ForkJoinDeskModel" "procedures" "I") ∈ lw_all := lw_g (lw_at lw_m6 234 rfl) rfl
theorem q1503 : (Jvm.Cond.soleField "ForkJoinDeskModel" "procedures") ∈ lw_all := lw_g (lw_at lw_m6 235 rfl) rfl
theorem q1504 : (Jvm.Cond.laysFinal "ForkJoinDeskModel" "ForkJoinDeskModel" "name" "[I") ∈ lw_all := lw_g (lw_at lw_m6 236 rfl) rfl
theorem q1505 : (Jvm.Cond.soleField "ForkJoinDeskModel" "name") ∈ lw_all := lw_g (lw_at lw_m6 237 rfl) rfl
theorem q1506 : (Jvm.Cond.laysFinal "ForkJoinDeskModel" "ForkJoinDeskModel" "variables" "[I") ∈ lw_all := lw_g (lw_at lw_m6 238 rfl) rfl
theorem q1507 : (Jvm.Cond.soleField "ForkJoinDeskModel" "variables") ∈ lw_all := lw_g (lw_at lw_m6 239 rfl) rfl
theorem q1508 : (Jvm.Cond.laysFinal "ForkJoinDeskModel" "ForkJoinDeskModel" "variable" "[I") ∈ lw_all := lw_g (lw_at lw_m7 0 rfl) rfl
theorem q1509 : (Jvm.Cond.soleField "ForkJoinDeskModel" "variable") ∈ lw_all := lw_g (lw_at lw_m7 1 rfl) rfl
theorem q1510 : (Jvm.Cond.laysFinal "ForkJoinDeskModel" "ForkJoinDeskModel" "first" "[I") ∈ lw_all := lw_g (lw_at lw_m7 2 rfl) rfl
theorem q1511 : (Jvm.Cond.soleField "ForkJoinDeskModel" "first") ∈ lw_all := lw_g (lw_at lw_m7 3 rfl) rfl
theorem q1512 : (Jvm.Cond.lays "ForkJoinDeskModel" "ForkJoinDeskModel" "size" "I") ∈ lw_all := lw_g (lw_at lw_m7 4 rfl) rfl
theorem q1513 : (Jvm.Cond.soleField "ForkJoinDeskModel" "size") ∈ lw_all := lw_g (lw_at lw_m7 5 rfl) rfl
theorem q1514 : (Jvm.Cond.laysFinal "ForkJoinDeskModel" "ForkJoinDeskModel" "code" "[I") ∈ lw_all := lw_g (lw_at lw_m7 6 rfl) rfl
theorem q1515 : (Jvm.Cond.soleField "ForkJoinDeskModel" "code") ∈ lw_all := lw_g (lw_at lw_m7 7 rfl) rfl
theorem q1516 : (Jvm.Cond.laysFinal "ForkJoinDeskModel" "ForkJoinDeskModel" "value" "[I") ∈ lw_all := lw_g (lw_at lw_m7 8 rfl) rfl
theorem q1517 : (Jvm.Cond.soleField "ForkJoinDeskModel" "value") ∈ lw_all := lw_g (lw_at lw_m7 9 rfl) rfl
theorem q1518 : (Jvm.Cond.laysFinal "ForkJoinDeskModel" "ForkJoinDeskModel" "place" "[I") ∈ lw_all := lw_g (lw_at lw_m7 10 rfl) rfl
theorem q1519 : (Jvm.Cond.soleField "ForkJoinDeskModel" "place") ∈ lw_all := lw_g (lw_at lw_m7 11 rfl) rfl
theorem q1520 : (Jvm.Cond.lays "ForkJoinDeskModel" "ForkJoinDeskModel" "calls" "I") ∈ lw_all := lw_g (lw_at lw_m7 12 rfl) rfl
theorem q1521 : (Jvm.Cond.soleField "ForkJoinDeskModel" "calls") ∈ lw_all := lw_g (lw_at lw_m7 13 rfl) rfl
theorem q1522 : (Jvm.Cond.laysFinal "ForkJoinDeskModel" "ForkJoinDeskModel" "callAt" "[I") ∈ lw_all := lw_g (lw_at lw_m7 14 rfl) rfl
theorem q1523 : (Jvm.Cond.soleField "ForkJoinDeskModel" "callAt") ∈ lw_all := lw_g (lw_at lw_m7 15 rfl) rfl
theorem q1524 : (Jvm.Cond.laysFinal "ForkJoinDeskModel" "ForkJoinDeskModel" "callArguments" "[I") ∈ lw_all := lw_g (lw_at lw_m7 16 rfl) rfl
theorem q1525 : (Jvm.Cond.soleField "ForkJoinDeskModel" "callArguments") ∈ lw_all := lw_g (lw_at lw_m7 17 rfl) rfl
theorem q1526 : (Jvm.Cond.lays "ForkJoinDeskModel" "ForkJoinDeskModel" "given" "I") ∈ lw_all := lw_g (lw_at lw_m7 18 rfl) rfl
theorem q1527 : (Jvm.Cond.soleField "ForkJoinDeskModel" "given") ∈ lw_all := lw_g (lw_at lw_m7 19 rfl) rfl
theorem q1528 : (Jvm.Cond.lays "ForkJoinDeskModel" "ForkJoinDeskModel" "callName" "I") ∈ lw_all := lw_g (lw_at lw_m7 20 rfl) rfl
theorem q1529 : (Jvm.Cond.soleField "ForkJoinDeskModel" "callName") ∈ lw_all := lw_g (lw_at lw_m7 21 rfl) rfl
theorem q1530 : (Jvm.Cond.lays "ForkJoinDeskModel" "ForkJoinDeskModel" "callPlace" "I") ∈ lw_all := lw_g (lw_at lw_m7 22 rfl) rfl
theorem q1531 : (Jvm.Cond.soleField "ForkJoinDeskModel" "callPlace") ∈ lw_all := lw_g (lw_at lw_m7 23 rfl) rfl
theorem q1532 : (Jvm.Cond.lays "ForkJoinDeskModel" "ForkJoinDeskModel" "isFork" "Z") ∈ lw_all := lw_g (lw_at lw_m7 24 rfl) rfl
theorem q1533 : (Jvm.Cond.soleField "ForkJoinDeskModel" "isFork") ∈ lw_all := lw_g (lw_at lw_m7 25 rfl) rfl
theorem q1534 : (Jvm.Cond.laysFinal "ForkJoinDeskModel" "ForkJoinDeskModel" "due" "[I") ∈ lw_all := lw_g (lw_at lw_m7 26 rfl) rfl
theorem q1535 : (Jvm.Cond.soleField "ForkJoinDeskModel" "due") ∈ lw_all := lw_g (lw_at lw_m7 27 rfl) rfl
theorem q1536 : (Jvm.Cond.lays "ForkJoinDeskModel" "ForkJoinDeskModel" "dues" "I") ∈ lw_all := lw_g (lw_at lw_m7 28 rfl) rfl
theorem q1537 : (Jvm.Cond.soleField "ForkJoinDeskModel" "dues") ∈ lw_all := lw_g (lw_at lw_m7 29 rfl) rfl
theorem q1538 : (Jvm.Cond.laysFinal "ForkJoinDeskModel" "ForkJoinDeskModel" "patch" "[I") ∈ lw_all := lw_g (lw_at lw_m7 30 rfl) rfl
theorem q1539 : (Jvm.Cond.soleField "ForkJoinDeskModel" "patch") ∈ lw_all := lw_g (lw_at lw_m7 31 rfl) rfl
theorem q1540 : (Jvm.Cond.lays "ForkJoinDeskModel" "ForkJoinDeskModel" "patches" "I") ∈ lw_all := lw_g (lw_at lw_m7 32 rfl) rfl
theorem q1541 : (Jvm.Cond.soleField "ForkJoinDeskModel" "patches") ∈ lw_all := lw_g (lw_at lw_m7 33 rfl) rfl
theorem q1542 : (Jvm.Cond.lays "ForkJoinDeskModel" "ForkJoinDeskModel" "there" "Z") ∈ lw_all := lw_g (lw_at lw_m7 34 rfl) rfl
theorem q1543 : (Jvm.Cond.soleField "ForkJoinDeskModel" "there") ∈ lw_all := lw_g (lw_at lw_m7 35 rfl) rfl
theorem q1544 : (Jvm.Cond.lays "ForkJoinDeskModel" "ForkJoinDeskModel" "size0" "I") ∈ lw_all := lw_g (lw_at lw_m7 36 rfl) rfl
theorem q1545 : (Jvm.Cond.soleField "ForkJoinDeskModel" "size0") ∈ lw_all := lw_g (lw_at lw_m7 37 rfl) rfl
theorem q1546 : (Jvm.Cond.laysFinal "ForkJoinDeskModel" "ForkJoinDeskModel" "code0" "[I") ∈ lw_all := lw_g (lw_at lw_m7 38 rfl) rfl
theorem q1547 : (Jvm.Cond.soleField "ForkJoinDeskModel" "code0") ∈ lw_all := lw_g (lw_at lw_m7 39 rfl) rfl
theorem q1548 : (Jvm.Cond.laysFinal "ForkJoinDeskModel" "ForkJoinDeskModel" "value0" "[I") ∈ lw_all := lw_g (lw_at lw_m7 40 rfl) rfl
theorem q1549 : (Jvm.Cond.soleField "ForkJoinDeskModel" "value0") ∈ lw_all := lw_g (lw_at lw_m7 41 rfl) rfl
theorem q1550 : (Jvm.Cond.laysFinal "ForkJoinDeskModel" "ForkJoinDeskModel" "place0" "[I") ∈ lw_all := lw_g (lw_at lw_m7 42 rfl) rfl
theorem q1551 : (Jvm.Cond.soleField "ForkJoinDeskModel" "place0") ∈ lw_all := lw_g (lw_at lw_m7 43 rfl) rfl
theorem q1552 : (Jvm.Cond.laysFinal "ForkJoinDeskModel" "ForkJoinDeskModel" "first0" "[I") ∈ lw_all := lw_g (lw_at lw_m7 44 rfl) rfl
theorem q1553 : (Jvm.Cond.soleField "ForkJoinDeskModel" "first0") ∈ lw_all := lw_g (lw_at lw_m7 45 rfl) rfl
theorem q1554 : (Jvm.Cond.laysFinal "ForkJoinDeskModel" "ForkJoinDeskModel" "variables0" "[I") ∈ lw_all := lw_g (lw_at lw_m7 46 rfl) rfl
theorem q1555 : (Jvm.Cond.soleField "ForkJoinDeskModel" "variables0") ∈ lw_all := lw_g (lw_at lw_m7 47 rfl) rfl
theorem q1556 : (Jvm.Cond.laysFinal "ForkJoinDeskModel" "ForkJoinDeskModel" "variable0" "[I") ∈ lw_all := lw_g (lw_at lw_m7 48 rfl) rfl
theorem q1557 : (Jvm.Cond.soleField "ForkJoinDeskModel" "variable0") ∈ lw_all := lw_g (lw_at lw_m7 49 rfl) rfl
theorem q1558 : (Jvm.Cond.laysFinal "ForkJoinDeskModel" "ForkJoinDeskModel" "inputs" "[I") ∈ lw_all := lw_g (lw_at lw_m7 50 rfl) rfl
theorem q1559 : (Jvm.Cond.soleField "ForkJoinDeskModel" "inputs") ∈ lw_all := lw_g (lw_at lw_m7 51 rfl) rfl
theorem q1560 : (Jvm.Cond.laysFinal "ForkJoinDeskModel" "ForkJoinDeskModel" "deep" "[I") ∈ lw_all := lw_g (lw_at lw_m7 52 rfl) rfl
theorem q1561 : (Jvm.Cond.soleField "ForkJoinDeskModel" "deep") ∈ lw_all := lw_g (lw_at lw_m7 53 rfl) rfl
theorem q1562 : (Jvm.Cond.laysFinal "ForkJoinDeskModel" "ForkJoinDeskModel" "next" "[I") ∈ lw_all := lw_g (lw_at lw_m7 54 rfl) rfl
theorem q1563 : (Jvm.Cond.soleField "ForkJoinDeskModel" "next") ∈ lw_all := lw_g (lw_at lw_m7 55 rfl) rfl
theorem q1564 : (Jvm.Cond.laysFinal "ForkJoinDeskModel" "ForkJoinDeskModel" "open" "[I") ∈ lw_all := lw_g (lw_at lw_m7 56 rfl) rfl
theorem q1565 : (Jvm.Cond.soleField "ForkJoinDeskModel" "open") ∈ lw_all := lw_g (lw_at lw_m7 57 rfl) rfl
theorem q1566 : (Jvm.Cond.laysFinal "ForkJoinDeskModel" "ForkJoinDeskModel" "local" "[I") ∈ lw_all := lw_g (lw_at lw_m7 58 rfl) rfl
theorem q1567 : (Jvm.Cond.soleField "ForkJoinDeskModel" "local") ∈ lw_all := lw_g (lw_at lw_m7 59 rfl) rfl
theorem q1568 : (Jvm.Cond.laysFinal "ForkJoinDeskModel" "ForkJoinDeskModel" "stack" "[I") ∈ lw_all := lw_g (lw_at lw_m7 60 rfl) rfl
theorem q1569 : (Jvm.Cond.soleField "ForkJoinDeskModel" "stack") ∈ lw_all := lw_g (lw_at lw_m7 61 rfl) rfl
theorem q1570 : (Jvm.Cond.laysFinal "ForkJoinDeskModel" "ForkJoinDeskModel" "stacked" "[I") ∈ lw_all := lw_g (lw_at lw_m7 62 rfl) rfl
theorem q1571 : (Jvm.Cond.soleField "ForkJoinDeskModel" "stacked") ∈ lw_all := lw_g (lw_at lw_m7 63 rfl) rfl
theorem q1572 : (Jvm.Cond.laysFinal "ForkJoinDeskModel" "ForkJoinDeskModel" "forker" "[I") ∈ lw_all := lw_g (lw_at lw_m7 64 rfl) rfl
theorem q1573 : (Jvm.Cond.soleField "ForkJoinDeskModel" "forker") ∈ lw_all := lw_g (lw_at lw_m7 65 rfl) rfl
theorem q1574 : (Jvm.Cond.laysFinal "ForkJoinDeskModel" "ForkJoinDeskModel" "cells" "[I") ∈ lw_all := lw_g (lw_at lw_m7 66 rfl) rfl
theorem q1575 : (Jvm.Cond.soleField "ForkJoinDeskModel" "cells") ∈ lw_all := lw_g (lw_at lw_m7 67 rfl) rfl
theorem q1576 : (Jvm.Cond.laysFinal "ForkJoinDeskModel" "ForkJoinDeskModel" "sum" "[I") ∈ lw_all := lw_g (lw_at lw_m7 68 rfl) rfl
theorem q1577 : (Jvm.Cond.soleField "ForkJoinDeskModel" "sum") ∈ lw_all := lw_g (lw_at lw_m7 69 rfl) rfl
theorem q1578 : (Jvm.Cond.laysFinal "ForkJoinDeskModel" "ForkJoinDeskModel" "work" "[I") ∈ lw_all := lw_g (lw_at lw_m7 70 rfl) rfl
theorem q1579 : (Jvm.Cond.soleField "ForkJoinDeskModel" "work") ∈ lw_all := lw_g (lw_at lw_m7 71 rfl) rfl
theorem q1580 : (Jvm.Cond.lays "ForkJoinDeskModel" "ForkJoinDeskModel" "begun" "Z") ∈ lw_all := lw_g (lw_at lw_m7 72 rfl) rfl
theorem q1581 : (Jvm.Cond.soleField "ForkJoinDeskModel" "begun") ∈ lw_all := lw_g (lw_at lw_m7 73 rfl) rfl
theorem q1582 : (Jvm.Cond.lays "ForkJoinDeskModel" "ForkJoinDeskModel" "ended" "Z") ∈ lw_all := lw_g (lw_at lw_m7 74 rfl) rfl
theorem q1583 : (Jvm.Cond.soleField "ForkJoinDeskModel" "ended") ∈ lw_all := lw_g (lw_at lw_m7 75 rfl) rfl
theorem q1584 : (Jvm.Cond.lays "ForkJoinDeskModel" "ForkJoinDeskModel" "limited" "Z") ∈ lw_all := lw_g (lw_at lw_m7 76 rfl) rfl
theorem q1585 : (Jvm.Cond.soleField "ForkJoinDeskModel" "limited") ∈ lw_all := lw_g (lw_at lw_m7 77 rfl) rfl
theorem q1586 : (Jvm.Cond.lays "ForkJoinDeskModel" "ForkJoinDeskModel" "strands" "I") ∈ lw_all := lw_g (lw_at lw_m7 78 rfl) rfl
theorem q1587 : (Jvm.Cond.soleField "ForkJoinDeskModel" "strands") ∈ lw_all := lw_g (lw_at lw_m7 79 rfl) rfl
theorem q1588 : (Jvm.Cond.lays "ForkJoinDeskModel" "ForkJoinDeskModel" "strand" "I") ∈ lw_all := lw_g (lw_at lw_m7 80 rfl) rfl
theorem q1589 : (Jvm.Cond.soleField "ForkJoinDeskModel" "strand") ∈ lw_all := lw_g (lw_at lw_m7 81 rfl) rfl
theorem q1590 : (Jvm.Cond.lays "ForkJoinDeskModel" "ForkJoinDeskModel" "time" "I") ∈ lw_all := lw_g (lw_at lw_m7 82 rfl) rfl
theorem q1591 : (Jvm.Cond.soleField "ForkJoinDeskModel" "time") ∈ lw_all := lw_g (lw_at lw_m7 83 rfl) rfl
theorem q1592 : (Jvm.Cond.lays "ForkJoinDeskModel" "ForkJoinDeskModel" "span" "I") ∈ lw_all := lw_g (lw_at lw_m7 84 rfl) rfl
theorem q1593 : (Jvm.Cond.soleField "ForkJoinDeskModel" "span") ∈ lw_all := lw_g (lw_at lw_m7 85 rfl) rfl
theorem q1594 : (Jvm.Cond.laysFinal "ForkJoinDeskModel" "ForkJoinDeskModel" "before" "[I") ∈ lw_all := lw_g (lw_at lw_m7 86 rfl) rfl
theorem q1595 : (Jvm.Cond.soleField "ForkJoinDeskModel" "before") ∈ lw_all := lw_g (lw_at lw_m7 87 rfl) rfl
theorem q1596 : (Jvm.Cond.laysFinal "ForkJoinDeskModel" "ForkJoinDeskModel" "forked" "[Z") ∈ lw_all := lw_g (lw_at lw_m7 88 rfl) rfl
theorem q1597 : (Jvm.Cond.soleField "ForkJoinDeskModel" "forked") ∈ lw_all := lw_g (lw_at lw_m7 89 rfl) rfl
theorem q1598 : (Jvm.Cond.laysFinal "ForkJoinDeskModel" "ForkJoinDeskModel" "isForked" "[Z") ∈ lw_all := lw_g (lw_at lw_m7 90 rfl) rfl
theorem q1599 : (Jvm.Cond.soleField "ForkJoinDeskModel" "isForked") ∈ lw_all := lw_g (lw_at lw_m7 91 rfl) rfl
theorem q1600 : (Jvm.Cond.laysFinal "ForkJoinDeskModel" "ForkJoinDeskModel" "latest" "[I") ∈ lw_all := lw_g (lw_at lw_m7 92 rfl) rfl
theorem q1601 : (Jvm.Cond.soleField "ForkJoinDeskModel" "latest") ∈ lw_all := lw_g (lw_at lw_m7 93 rfl) rfl
theorem q1602 : (Jvm.Cond.laysFinal "ForkJoinDeskModel" "ForkJoinDeskModel" "joins" "[I") ∈ lw_all := lw_g (lw_at lw_m7 94 rfl) rfl
theorem q1603 : (Jvm.Cond.soleField "ForkJoinDeskModel" "joins") ∈ lw_all := lw_g (lw_at lw_m7 95 rfl) rfl
theorem q1604 : (Jvm.Cond.laysFinal "ForkJoinDeskModel" "ForkJoinDeskModel" "backStrand" "[I") ∈ lw_all := lw_g (lw_at lw_m7 96 rfl) rfl
theorem q1605 : (Jvm.Cond.soleField "ForkJoinDeskModel" "backStrand") ∈ lw_all := lw_g (lw_at lw_m7 97 rfl) rfl
theorem q1606 : (Jvm.Cond.laysFinal "ForkJoinDeskModel" "ForkJoinDeskModel" "backTime" "[I") ∈ lw_all := lw_g (lw_at lw_m7 98 rfl) rfl
theorem q1607 : (Jvm.Cond.soleField "ForkJoinDeskModel" "backTime") ∈ lw_all := lw_g (lw_at lw_m7 99 rfl) rfl
theorem q1608 : (Jvm.Cond.laysFinal "ForkJoinDeskModel" "ForkJoinDeskModel" "readers" "[I") ∈ lw_all := lw_g (lw_at lw_m7 100 rfl) rfl
theorem q1609 : (Jvm.Cond.soleField "ForkJoinDeskModel" "readers") ∈ lw_all := lw_g (lw_at lw_m7 101 rfl) rfl
theorem q1610 : (Jvm.Cond.laysFinal "ForkJoinDeskModel" "ForkJoinDeskModel" "writers" "[I") ∈ lw_all := lw_g (lw_at lw_m7 102 rfl) rfl
theorem q1611 : (Jvm.Cond.soleField "ForkJoinDeskModel" "writers") ∈ lw_all := lw_g (lw_at lw_m7 103 rfl) rfl
theorem q1612 : (Jvm.Cond.laysFinal "ForkJoinDeskModel" "ForkJoinDeskModel" "raced" "[Z") ∈ lw_all := lw_g (lw_at lw_m7 104 rfl) rfl
theorem q1613 : (Jvm.Cond.soleField "ForkJoinDeskModel" "raced") ∈ lw_all := lw_g (lw_at lw_m7 105 rfl) rfl
theorem q1614 : (Jvm.Cond.lays "ForkJoinDeskModel" "ForkJoinDeskModel" "races" "I") ∈ lw_all := lw_g (lw_at lw_m7 106 rfl) rfl
theorem q1615 : (Jvm.Cond.soleField "ForkJoinDeskModel" "races") ∈ lw_all := lw_g (lw_at lw_m7 107 rfl) rfl
theorem q1616 : (Jvm.Cond.laysFinal "ForkJoinDeskModel" "ForkJoinDeskModel" "race" "[I") ∈ lw_all := lw_g (lw_at lw_m7 108 rfl) rfl
theorem q1617 : (Jvm.Cond.soleField "ForkJoinDeskModel" "race") ∈ lw_all := lw_g (lw_at lw_m7 109 rfl) rfl
theorem q1618 : (Jvm.Cond.lays "ForkJoinDeskModel" "ForkJoinDeskModel" "printed" "I") ∈ lw_all := lw_g (lw_at lw_m7 110 rfl) rfl
theorem q1619 : (Jvm.Cond.soleField "ForkJoinDeskModel" "printed") ∈ lw_all := lw_g (lw_at lw_m7 111 rfl) rfl
theorem q1620 : (Jvm.Cond.laysFinal "ForkJoinDeskModel" "ForkJoinDeskModel" "print" "[I") ∈ lw_all := lw_g (lw_at lw_m7 112 rfl) rfl
theorem q1621 : (Jvm.Cond.soleField "ForkJoinDeskModel" "print") ∈ lw_all := lw_g (lw_at lw_m7 113 rfl) rfl
theorem q1622 : (Jvm.Cond.lays "ForkJoinDeskModel" "ForkJoinDeskModel" "loosened" "Z") ∈ lw_all := lw_g (lw_at lw_m7 114 rfl) rfl
theorem q1623 : (Jvm.Cond.soleField "ForkJoinDeskModel" "loosened") ∈ lw_all := lw_g (lw_at lw_m7 115 rfl) rfl
theorem q1624 : (Jvm.Cond.lays "ForkJoinDeskModel" "ForkJoinDeskModel" "looseLimited" "Z") ∈ lw_all := lw_g (lw_at lw_m7 116 rfl) rfl
theorem q1625 : (Jvm.Cond.soleField "ForkJoinDeskModel" "looseLimited") ∈ lw_all := lw_g (lw_at lw_m7 117 rfl) rfl
theorem q1626 : (Jvm.Cond.lays "ForkJoinDeskModel" "ForkJoinDeskModel" "threads" "I") ∈ lw_all := lw_g (lw_at lw_m7 118 rfl) rfl
theorem q1627 : (Jvm.Cond.soleField "ForkJoinDeskModel" "threads") ∈ lw_all := lw_g (lw_at lw_m7 119 rfl) rfl
theorem q1628 : (Jvm.Cond.lays "ForkJoinDeskModel" "ForkJoinDeskModel" "loosePrinted" "I") ∈ lw_all := lw_g (lw_at lw_m7 120 rfl) rfl
theorem q1629 : (Jvm.Cond.soleField "ForkJoinDeskModel" "loosePrinted") ∈ lw_all := lw_g (lw_at lw_m7 121 rfl) rfl
theorem q1630 : (Jvm.Cond.lays "ForkJoinDeskModel" "ForkJoinDeskModel" "knots" "I") ∈ lw_all := lw_g (lw_at lw_m7 122 rfl) rfl
theorem q1631 : (Jvm.Cond.soleField "ForkJoinDeskModel" "knots") ∈ lw_all := lw_g (lw_at lw_m7 123 rfl) rfl
theorem q1632 : (Jvm.Cond.laysFinal "ForkJoinDeskModel" "ForkJoinDeskModel" "knotNext" "[I") ∈ lw_all := lw_g (lw_at lw_m7 124 rfl) rfl
theorem q1633 : (Jvm.Cond.soleField "ForkJoinDeskModel" "knotNext") ∈ lw_all := lw_g (lw_at lw_m7 125 rfl) rfl
theorem q1634 : (Jvm.Cond.laysFinal "ForkJoinDeskModel" "ForkJoinDeskModel" "knotValue" "[I") ∈ lw_all := lw_g (lw_at lw_m7 126 rfl) rfl
theorem q1635 : (Jvm.Cond.soleField "ForkJoinDeskModel" "knotValue") ∈ lw_all := lw_g (lw_at lw_m7 127 rfl) rfl
theorem q1636 : (Jvm.Cond.laysFinal "ForkJoinDeskModel" "ForkJoinDeskModel" "isPrint" "[Z") ∈ lw_all := lw_g (lw_at lw_m7 128 rfl) rfl
theorem q1637 : (Jvm.Cond.soleField "ForkJoinDeskModel" "isPrint") ∈ lw_all := lw_g (lw_at lw_m7 129 rfl) rfl
theorem q1638 : (Jvm.Cond.laysFinal "ForkJoinDeskModel" "ForkJoinDeskModel" "tail" "[I") ∈ lw_all := lw_g (lw_at lw_m7 130 rfl) rfl
theorem q1639 : (Jvm.Cond.soleField "ForkJoinDeskModel" "tail") ∈ lw_all := lw_g (lw_at lw_m7 131 rfl) rfl
theorem q1640 : (Jvm.Cond.superclass "ForkJoinDeskModel" "java/lang/Object") ∈ lw_all := lw_g (lw_at lw_m7 132 rfl) rfl
theorem q1642 : (Jvm.Cond.instanceMethod ({ cls := "ForkJoinDeskModel", name := "thrown", desc := "()I" } : Jvm.MethodName)) ∈ lw_all := lw_g (lw_at lw_m7 134 rfl) rfl
theorem q1643 : (Jvm.Cond.selects "ForkJoinDeskModel" ({ cls := "ForkJoinDeskModel", name := "thrown", desc := "()I" } : Jvm.MethodName) ({ cls := "ForkJoinDeskModel", name := "thrown", desc := "()I" } : Jvm.MethodName)) ∈ lw_all := lw_g (lw_at lw_m7 135 rfl) rfl
theorem q1644 : (Jvm.Cond.code ({ cls := "ForkJoinDeskModel", name := "thrown", desc := "()I" } : Jvm.MethodName) prog_13_method_2_code (1 : Nat) (Option.some Jvm.ClassFile.FieldType.int)) ∈ lw_all := lw_g (lw_at lw_m7 136 rfl) rfl
theorem q1646 : (Jvm.Cond.instanceMethod ({ cls := "ForkJoinDeskModel", name := "type", desc := "(JI)Z" } : Jvm.MethodName)) ∈ lw_all := lw_g (lw_at lw_m7 138 rfl) rfl
theorem q1647 : (Jvm.Cond.selects "ForkJoinDeskModel" ({ cls := "ForkJoinDeskModel", name := "type", desc := "(JI)Z" } : Jvm.MethodName) ({ cls := "ForkJoinDeskModel", name := "type", desc := "(JI)Z" } : Jvm.MethodName)) ∈ lw_all := lw_g (lw_at lw_m7 139 rfl) rfl
theorem q1648 : (Jvm.Cond.code ({ cls := "ForkJoinDeskModel", name := "type", desc := "(JI)Z" } : Jvm.MethodName) prog_13_method_4_code (6 : Nat) (Option.some Jvm.ClassFile.FieldType.boolean)) ∈ lw_all := lw_g (lw_at lw_m7 140 rfl) rfl
theorem q1649 : (Jvm.Cond.constantLong "ForkJoinDeskModel" (158 : Nat) (255 : Int64)) ∈ lw_all := lw_g (lw_at lw_m7 141 rfl) rfl
theorem q1651 : (Jvm.Cond.instanceMethod ({ cls := "ForkJoinDeskModel", name := "compile", desc := "()I" } : Jvm.MethodName)) ∈ lw_all := lw_g (lw_at lw_m7 143 rfl) rfl
theorem q1652 : (Jvm.Cond.selects "ForkJoinDeskModel" ({ cls := "ForkJoinDeskModel", name := "compile", desc := "()I" } : Jvm.MethodName) ({ cls := "ForkJoinDeskModel", name := "compile", desc := "()I" } : Jvm.MethodName)) ∈ lw_all := lw_g (lw_at lw_m7 144 rfl) rfl
theorem q1653 : (Jvm.Cond.code ({ cls := "ForkJoinDeskModel", name := "compile", desc := "()I" } : Jvm.MethodName) prog_13_method_29_code (3 : Nat) (Option.some Jvm.ClassFile.FieldType.int)) ∈ lw_all := lw_g (lw_at lw_m7 145 rfl) rfl
theorem q1654 : (Jvm.Cond.methodLink "ForkJoinDeskModel" (274 : Nat) ({ cls := "ForkJoinDeskModel", name := "read", desc := "()Z" } : Jvm.MethodName)) ∈ lw_all := lw_g (lw_at lw_m7 146 rfl) rfl
theorem q1655 : (Jvm.Cond.privateMethod ({ cls := "ForkJoinDeskModel", name := "read", desc := "()Z" } : Jvm.MethodName)) ∈ lw_tbl := lw_at lw_m7 147 rfl
theorem q1656 : (Jvm.Cond.instanceMethod ({ cls := "ForkJoinDeskModel", name := "read", desc := "()Z" } : Jvm.MethodName)) ∈ lw_all := lw_g (lw_at lw_m7 148 rfl) rfl
theorem q1657 : (Jvm.Cond.code ({ cls := "ForkJoinDeskModel", name := "read", desc := "()Z" } : Jvm.MethodName) prog_13_method_27_code (4 : Nat) (Option.some Jvm.ClassFile.FieldType.boolean)) ∈ lw_all := lw_g (lw_at lw_m7 149 rfl) rfl
theorem q1658 : (Jvm.Cond.methodLink "ForkJoinDeskModel" (177 : Nat) ({ cls := "ForkJoinDeskModel", name := "skip", desc := "()V" } : Jvm.MethodName)) ∈ lw_all := lw_g (lw_at lw_m7 150 rfl) rfl
theorem q1659 : (Jvm.Cond.privateMethod ({ cls := "ForkJoinDeskModel", name := "skip", desc := "()V" } : Jvm.MethodName)) ∈ lw_tbl := lw_at lw_m7 151 rfl
theorem q1660 : (Jvm.Cond.instanceMethod ({ cls := "ForkJoinDeskModel", name := "skip", desc := "()V" } : Jvm.MethodName)) ∈ lw_all := lw_g (lw_at lw_m7 152 rfl) rfl
theorem q1661 : (Jvm.Cond.code ({ cls := "ForkJoinDeskModel", name := "skip", desc := "()V" } : Jvm.MethodName) prog_13_method_6_code (1 : Nat) (Option.none : Option Jvm.ClassFile.FieldType)) ∈ lw_all := lw_g (lw_at lw_m7 153 rfl) rfl
theorem q1662 : (Jvm.Cond.methodLink "ForkJoinDeskModel" (199 : Nat) ({ cls := "ForkJoinDeskModel", name := "push", desc := "(I)V" } : Jvm.MethodName)) ∈ lw_all := lw_g (lw_at lw_m7 154 rfl) rfl
theorem q1663 : (Jvm.Cond.privateMethod ({ cls := "ForkJoinDeskModel", name := "push", desc := "(I)V" } : Jvm.MethodName)) ∈ lw_tbl := lw_at lw_m7 155 rfl
theorem q1664 : (Jvm.Cond.instanceMethod ({ cls := "ForkJoinDeskModel", name := "push", desc := "(I)V" } : Jvm.MethodName)) ∈ lw_all := lw_g (lw_at lw_m7 156 rfl) rfl
theorem q1665 : (Jvm.Cond.code ({ cls := "ForkJoinDeskModel", name := "push", desc := "(I)V" } : Jvm.MethodName) prog_13_method_9_code (2 : Nat) (Option.none : Option Jvm.ClassFile.FieldType)) ∈ lw_all := lw_g (lw_at lw_m7 157 rfl) rfl
theorem q1666 : (Jvm.Cond.methodLink "ForkJoinDeskModel" (232 : Nat) ({ cls := "ForkJoinDeskModel", name := "emit", desc := "(III)V" } : Jvm.MethodName)) ∈ lw_all := lw_g (lw_at lw_m7 158 rfl) rfl
theorem q1667 : (Jvm.Cond.privateMethod ({ cls := "ForkJoinDeskModel", name := "emit", desc := "(III)V" } : Jvm.MethodName)) ∈ lw_tbl := lw_at lw_m7 159 rfl
theorem q1668 : (Jvm.Cond.instanceMethod ({ cls := "ForkJoinDeskModel", name := "emit", desc := "(III)V" } : Jvm.MethodName)) ∈ lw_all := lw_g (lw_at lw_m7 160 rfl) rfl
theorem q1669 : (Jvm.Cond.code ({ cls := "ForkJoinDeskModel", name := "emit", desc := "(III)V" } : Jvm.MethodName) prog_13_method_10_code (4 : Nat) (Option.none : Option Jvm.ClassFile.FieldType)) ∈ lw_all := lw_g (lw_at lw_m7 161 rfl) rfl
theorem q1670 : (Jvm.Cond.methodLink "ForkJoinDeskModel" (271 : Nat) ({ cls := "ForkJoinDeskModel", name := "turn", desc := "(I)V" } : Jvm.MethodName)) ∈ lw_all := lw_g (lw_at lw_m7 162 rfl) rfl
theorem q1671 : (Jvm.Cond.privateMethod ({ cls := "ForkJoinDeskModel", name := "turn", desc := "(I)V" } : Jvm.MethodName)) ∈ lw_tbl := lw_at lw_m7 163 rfl
theorem q1672 : (Jvm.Cond.instanceMethod ({ cls := "ForkJoinDeskModel", name := "turn", desc := "(I)V" } : Jvm.MethodName)) ∈ lw_all := lw_g (lw_at lw_m7 164 rfl) rfl
theorem q1673 : (Jvm.Cond.code ({ cls := "ForkJoinDeskModel", name := "turn", desc := "(I)V" } : Jvm.MethodName) prog_13_method_26_code (3 : Nat) (Option.none : Option Jvm.ClassFile.FieldType)) ∈ lw_all := lw_g (lw_at lw_m7 165 rfl) rfl
theorem q1674 : (Jvm.Cond.methodLink "ForkJoinDeskModel" (166 : Nat) ({ cls := "ForkJoinDeskModel", name := "here", desc := "()I" } : Jvm.MethodName)) ∈ lw_all := lw_g (lw_at lw_m7 166 rfl) rfl
theorem q1675 : (Jvm.Cond.privateMethod ({ cls := "ForkJoinDeskModel", name := "here", desc := "()I" } : Jvm.MethodName)) ∈ lw_tbl := lw_at lw_m7 167 rfl
theorem q1676 : (Jvm.Cond.instanceMethod ({ cls := "ForkJoinDeskModel", name := "here", desc := "()I" } : Jvm.MethodName)) ∈ lw_all := lw_g (lw_at lw_m7 168 rfl) rfl
theorem q1677 : (Jvm.Cond.code ({ cls := "ForkJoinDeskModel", name := "here", desc := "()I" } : Jvm.MethodName) prog_13_method_5_code (1 : Nat) (Option.some Jvm.ClassFile.FieldType.int)) ∈ lw_all := lw_g (lw_at lw_m7 169 rfl) rfl
theorem q1678 : (Jvm.Cond.methodLink "ForkJoinDeskModel" (236 : Nat) ({ cls := "ForkJoinDeskModel", name := "more", desc := "()V" } : Jvm.MethodName)) ∈ lw_all := lw_g (lw_at lw_m7 170 rfl) rfl
theorem q1679 : (Jvm.Cond.privateMethod ({ cls := "ForkJoinDeskModel", name := "more", desc := "()V" } : Jvm.MethodName)) ∈ lw_tbl := lw_at lw_m7 171 rfl
theorem q1680 : (Jvm.Cond.instanceMethod ({ cls := "ForkJoinDeskModel", name := "more", desc := "()V" } : Jvm.MethodName)) ∈ lw_all := lw_g (lw_at lw_m7 172 rfl) rfl
theorem q1681 : (Jvm.Cond.code ({ cls := "ForkJoinDeskModel", name := "more", desc := "()V" } : Jvm.MethodName) prog_13_method_16_code (1 : Nat) (Option.none : Option Jvm.ClassFile.FieldType)) ∈ lw_all := lw_g (lw_at lw_m7 173 rfl) rfl
theorem q1682 : (Jvm.Cond.methodLink "ForkJoinDeskModel" (196 : Nat) ({ cls := "ForkJoinDeskModel", name := "isName", desc := "(I)Z" } : Jvm.MethodName)) ∈ lw_all := lw_g (lw_at lw_m7 174 rfl) rfl
theorem q1683 : (Jvm.Cond.static ({ cls := "ForkJoinDeskModel", name := "isName", desc := "(I)Z" } : Jvm.MethodName)) ∈ lw_all := lw_g (lw_at lw_m7 175 rfl) rfl
theorem q1684 : (Jvm.Cond.code ({ cls := "ForkJoinDeskModel", name := "isName", desc := "(I)Z" } : Jvm.MethodName) prog_13_method_11_code (1 : Nat) (Option.some Jvm.ClassFile.FieldType.boolean)) ∈ lw_all := lw_g (lw_at lw_m7 176 rfl) rfl
theorem q1685 : (Jvm.Cond.methodLink "ForkJoinDeskModel" (173 : Nat) ({ cls := "ForkJoinDeskModel", name := "refuse", desc := "(I)V" } : Jvm.MethodName)) ∈ lw_all := lw_g (lw_at lw_m7 177 rfl) rfl
theorem q1686 : (Jvm.Cond.privateMethod ({ cls := "ForkJoinDeskModel", name := "refuse", desc := "(I)V" } : Jvm.MethodName)) ∈ lw_tbl := lw_at lw_m7 178 rfl
theorem q1687 : (Jvm.Cond.instanceMethod ({ cls := "ForkJoinDeskModel", name := "refuse", desc := "(I)V" } : Jvm.MethodName)) ∈ lw_all := lw_g (lw_at lw_m7 179 rfl) rfl
theorem q1688 : (Jvm.Cond.code ({ cls := "ForkJoinDeskModel", name := "refuse", desc := "(I)V" } : Jvm.MethodName) prog_13_method_7_code (2 : Nat) (Option.none : Option Jvm.ClassFile.FieldType)) ∈ lw_all := lw_g (lw_at lw_m7 180 rfl) rfl
theorem q1689 : (Jvm.Cond.methodLink "ForkJoinDeskModel" (239 : Nat) ({ cls := "ForkJoinDeskModel", name := "procedure", desc := "()V" } : Jvm.MethodName)) ∈ lw_all := lw_g (lw_at lw_m7 181 rfl) rfl
theorem q1690 : (Jvm.Cond.privateMethod ({ cls := "ForkJoinDeskModel", name := "procedure", desc := "()V" } : Jvm.MethodName)) ∈ lw_tbl := lw_at lw_m7 182 rfl
theorem q1691 : (Jvm.Cond.instanceMethod ({ cls := "ForkJoinDeskModel", name := "procedure", desc := "()V" } : Jvm.MethodName)) ∈ lw_all := lw_g (lw_at lw_m7 183 rfl) rfl
theorem q1692 : (Jvm.Cond.code ({ cls := "ForkJoinDeskModel", name := "procedure", desc := "()V" } : Jvm.MethodName) prog_13_method_17_code (1 : Nat) (Option.none : Option Jvm.ClassFile.FieldType)) ∈ lw_all := lw_g (lw_at lw_m7 184 rfl) rfl
theorem q1693 : (Jvm.Cond.methodLink "ForkJoinDeskModel" (202 : Nat) ({ cls := "ForkJoinDeskModel", name := "named", desc := "(I)I" } : Jvm.MethodName)) ∈ lw_all := lw_g (lw_at lw_m7 185 rfl) rfl
theorem q1694 : (Jvm.Cond.privateMethod ({ cls := "ForkJoinDeskModel", name := "named", desc := "(I)I" } : Jvm.MethodName)) ∈ lw_tbl := lw_at lw_m7 186 rfl
theorem q1695 : (Jvm.Cond.instanceMethod ({ cls := "ForkJoinDeskModel", name := "named", desc := "(I)I" } : Jvm.MethodName)) ∈ lw_all := lw_g (lw_at lw_m7 187 rfl) rfl
theorem q1696 : (Jvm.Cond.code ({ cls := "ForkJoinDeskModel", name := "named", desc := "(I)I" } : Jvm.MethodName) prog_13_method_15_code (3 : Nat) (Option.some Jvm.ClassFile.FieldType.int)) ∈ lw_all := lw_g (lw_at lw_m7 188 rfl) rfl
theorem q1697 : (Jvm.Cond.methodLink "ForkJoinDeskModel" (206 : Nat) ({ cls := "ForkJoinDeskModel", name := "take", desc := "()V" } : Jvm.MethodName)) ∈ lw_all := lw_g (lw_at lw_m7 189 rfl) rfl
theorem q1698 : (Jvm.Cond.privateMethod ({ cls := "ForkJoinDeskModel", name := "take", desc := "()V" } : Jvm.MethodName)) ∈ lw_tbl := lw_at lw_m7 190 rfl
theorem q1699 : (Jvm.Cond.instanceMethod ({ cls := "ForkJoinDeskModel", name := "take", desc := "()V" } : Jvm.MethodName)) ∈ lw_all := lw_g (lw_at lw_m7 191 rfl) rfl
theorem q1700 : (Jvm.Cond.code ({ cls := "ForkJoinDeskModel", name := "take", desc := "()V" } : Jvm.MethodName) prog_13_method_8_code (2 : Nat) (Option.none : Option Jvm.ClassFile.FieldType)) ∈ lw_all := lw_g (lw_at lw_m7 192 rfl) rfl
theorem q1701 : (Jvm.Cond.methodLink "ForkJoinDeskModel" (190 : Nat) ({ cls := "ForkJoinDeskModel", name := "isVariable", desc := "(I)Z" } : Jvm.MethodName)) ∈ lw_all := lw_g (lw_at lw_m7 193 rfl) rfl
theorem q1702 : (Jvm.Cond.static ({ cls := "ForkJoinDeskModel", name := "isVariable", desc := "(I)Z" } : Jvm.MethodName)) ∈ lw_all := lw_g (lw_at lw_m7 194 rfl) rfl
theorem q1703 : (Jvm.Cond.code ({ cls := "ForkJoinDeskModel", name := "isVariable", desc := "(I)Z" } : Jvm.MethodName) prog_13_method_12_code (1 : Nat) (Option.some Jvm.ClassFile.FieldType.boolean)) ∈ lw_all := lw_g (lw_at lw_m7 195 rfl) rfl
theorem q1704 : (Jvm.Cond.methodLink "ForkJoinDeskModel" (242 : Nat) ({ cls := "ForkJoinDeskModel", name := "parameter", desc := "()V" } : Jvm.MethodName)) ∈ lw_all := lw_g (lw_at lw_m7 196 rfl) rfl
theorem q1705 : (Jvm.Cond.privateMethod ({ cls := "ForkJoinDeskModel", name := "parameter", desc := "()V" } : Jvm.MethodName)) ∈ lw_tbl := lw_at lw_m7 197 rfl
theorem q1706 : (Jvm.Cond.instanceMethod ({ cls := "ForkJoinDeskModel", name := "parameter", desc := "()V" } : Jvm.MethodName)) ∈ lw_all := lw_g (lw_at lw_m7 198 rfl) rfl
theorem q1707 : (Jvm.Cond.code ({ cls := "ForkJoinDeskModel", name := "parameter", desc := "()V" } : Jvm.MethodName) prog_13_method_18_code (4 : Nat) (Option.none : Option Jvm.ClassFile.FieldType)) ∈ lw_all := lw_g (lw_at lw_m7 199 rfl) rfl
theorem q1708 : (Jvm.Cond.methodLink "ForkJoinDeskModel" (245 : Nat) ({ cls := "ForkJoinDeskModel", name := "isStatement", desc := "(I)Z" } : Jvm.MethodName)) ∈ lw_all := lw_g (lw_at lw_m7 200 rfl) rfl
theorem q1709 : (Jvm.Cond.static ({ cls := "ForkJoinDeskModel", name := "isStatement", desc := "(I)Z" } : Jvm.MethodName)) ∈ lw_all := lw_g (lw_at lw_m7 201 rfl) rfl
theorem q1710 : (Jvm.Cond.code ({ cls := "ForkJoinDeskModel", name := "isStatement", desc := "(I)Z" } : Jvm.MethodName) prog_13_method_19_code (1 : Nat) (Option.some Jvm.ClassFile.FieldType.boolean)) ∈ lw_all := lw_g (lw_at lw_m7 202 rfl) rfl
theorem q1711 : (Jvm.Cond.methodLink "ForkJoinDeskModel" (248 : Nat) ({ cls := "ForkJoinDeskModel", name := "statement", desc := "()V" } : Jvm.MethodName)) ∈ lw_all := lw_g (lw_at lw_m7 203 rfl) rfl
theorem q1712 : (Jvm.Cond.privateMethod ({ cls := "ForkJoinDeskModel", name := "statement", desc := "()V" } : Jvm.MethodName)) ∈ lw_tbl := lw_at lw_m7 204 rfl
theorem q1713 : (Jvm.Cond.instanceMethod ({ cls := "ForkJoinDeskModel", name := "statement", desc := "()V" } : Jvm.MethodName)) ∈ lw_all := lw_g (lw_at lw_m7 205 rfl) rfl
theorem q1714 : (Jvm.Cond.code ({ cls := "ForkJoinDeskModel", name := "statement", desc := "()V" } : Jvm.MethodName) prog_13_method_21_code (3 : Nat) (Option.none : Option Jvm.ClassFile.FieldType)) ∈ lw_all := lw_g (lw_at lw_m7 206 rfl) rfl
theorem q1715 : (Jvm.Cond.methodLink "ForkJoinDeskModel" (222 : Nat) ({ cls := "ForkJoinDeskModel", name := "called", desc := "(Z)V" } : Jvm.MethodName)) ∈ lw_all := lw_g (lw_at lw_m7 207 rfl) rfl
theorem q1716 : (Jvm.Cond.privateMethod ({ cls := "ForkJoinDeskModel", name := "called", desc := "(Z)V" } : Jvm.MethodName)) ∈ lw_tbl := lw_at lw_m7 208 rfl
theorem q1717 : (Jvm.Cond.instanceMethod ({ cls := "ForkJoinDeskModel", name := "called", desc := "(Z)V" } : Jvm.MethodName)) ∈ lw_all := lw_g (lw_at lw_m7 209 rfl) rfl
theorem q1718 : (Jvm.Cond.code ({ cls := "ForkJoinDeskModel", name := "called", desc := "(Z)V" } : Jvm.MethodName) prog_13_method_20_code (2 : Nat) (Option.none : Option Jvm.ClassFile.FieldType)) ∈ lw_all := lw_g (lw_at lw_m7 210 rfl) rfl
theorem q1719 : (Jvm.Cond.methodLink "ForkJoinDeskModel" (251 : Nat) ({ cls := "ForkJoinDeskModel", name := "patchTo", desc := "(II)V" } : Jvm.MethodName)) ∈ lw_all := lw_g (lw_at lw_m7 211 rfl) rfl
theorem q1720 : (Jvm.Cond.privateMethod ({ cls := "ForkJoinDeskModel", name := "patchTo", desc := "(II)V" } : Jvm.MethodName)) ∈ lw_tbl := lw_at lw_m7 212 rfl
theorem q1721 : (Jvm.Cond.instanceMethod ({ cls := "ForkJoinDeskModel", name := "patchTo", desc := "(II)V" } : Jvm.MethodName)) ∈ lw_all := lw_g (lw_at lw_m7 213 rfl) rfl
theorem q1722 : (Jvm.Cond.code ({ cls := "ForkJoinDeskModel", name := "patchTo", desc := "(II)V" } : Jvm.MethodName) prog_13_method_24_code (3 : Nat) (Option.none : Option Jvm.ClassFile.FieldType)) ∈ lw_all := lw_g (lw_at lw_m7 214 rfl) rfl
theorem q1723 : (Jvm.Cond.methodLink "ForkJoinDeskModel" (255 : Nat) ({ cls := "ForkJoinDeskModel", name := "tested", desc := "()V" } : Jvm.MethodName)) ∈ lw_all := lw_g (lw_at lw_m7 215 rfl) rfl
theorem q1724 : (Jvm.Cond.privateMethod ({ cls := "ForkJoinDeskModel", name := "tested", desc := "()V" } : Jvm.MethodName)) ∈ lw_tbl := lw_at lw_m7 216 rfl
theorem q1725 : (Jvm.Cond.instanceMethod ({ cls := "ForkJoinDeskModel", name := "tested", desc := "()V" } : Jvm.MethodName)) ∈ lw_all := lw_g (lw_at lw_m7 217 rfl) rfl
theorem q1726 : (Jvm.Cond.code ({ cls := "ForkJoinDeskModel", name := "tested", desc := "()V" } : Jvm.MethodName) prog_13_method_25_code (1 : Nat) (Option.none : Option Jvm.ClassFile.FieldType)) ∈ lw_all := lw_g (lw_at lw_m7 218 rfl) rfl
theorem q1727 : (Jvm.Cond.methodLink "ForkJoinDeskModel" (258 : Nat) ({ cls := "ForkJoinDeskModel", name := "begins", desc := "(I)Z" } : Jvm.MethodName)) ∈ lw_all := lw_g (lw_at lw_m7 219 rfl) rfl
theorem q1728 : (Jvm.Cond.static ({ cls := "ForkJoinDeskModel", name := "begins", desc := "(I)Z" } : Jvm.MethodName)) ∈ lw_all := lw_g (lw_at lw_m7 220 rfl) rfl
theorem q1729 : (Jvm.Cond.code ({ cls := "ForkJoinDeskModel", name := "begins", desc := "(I)Z" } : Jvm.MethodName) prog_13_method_14_code (1 : Nat) (Option.some Jvm.ClassFile.FieldType.boolean)) ∈ lw_all := lw_g (lw_at lw_m7 221 rfl) rfl
theorem q1730 : (Jvm.Cond.methodLink "ForkJoinDeskModel" (186 : Nat) ({ cls := "ForkJoinDeskModel", name := "isDigit", desc := "(I)Z" } : Jvm.MethodName)) ∈ lw_all := lw_g (lw_at lw_m7 222 rfl) rfl
theorem q1731 : (Jvm.Cond.static ({ cls := "ForkJoinDeskModel", name := "isDigit", desc := "(I)Z" } : Jvm.MethodName)) ∈ lw_all := lw_g (lw_at lw_m7 223 rfl) rfl
theorem q1732 : (Jvm.Cond.code ({ cls := "ForkJoinDeskModel", name := "isDigit", desc := "(I)Z" } : Jvm.MethodName) prog_13_method_13_code (1 : Nat) (Option.some Jvm.ClassFile.FieldType.boolean)) ∈ lw_all := lw_g (lw_at lw_m7 224 rfl) rfl
theorem q1733 : (Jvm.Cond.methodLink "ForkJoinDeskModel" (264 : Nat) ({ cls := "ForkJoinDeskModel", name := "between", desc := "(IZII)V" } : Jvm.MethodName)) ∈ lw_all := lw_g (lw_at lw_m7 225 rfl) rfl
theorem q1734 : (Jvm.Cond.privateMethod ({ cls := "ForkJoinDeskModel", name := "between", desc := "(IZII)V" } : Jvm.MethodName)) ∈ lw_tbl := lw_at lw_m7 226 rfl
theorem q1735 : (Jvm.Cond.instanceMethod ({ cls := "ForkJoinDeskModel", name := "between", desc := "(IZII)V" } : Jvm.MethodName)) ∈ lw_all := lw_g (lw_at lw_m7 227 rfl) rfl
theorem q1736 : (Jvm.Cond.code ({ cls := "ForkJoinDeskModel", name := "between", desc := "(IZII)V" } : Jvm.MethodName) prog_13_method_23_code (5 : Nat) (Option.none : Option Jvm.ClassFile.FieldType)) ∈ lw_all := lw_g (lw_at lw_m7 228 rfl) rfl
theorem q1737 : (Jvm.Cond.methodLink "ForkJoinDeskModel" (268 : Nat) ({ cls := "ForkJoinDeskModel", name := "atom", desc := "()V" } : Jvm.MethodName)) ∈ lw_all := lw_g (lw_at lw_m7 229 rfl) rfl
theorem q1738 : (Jvm.Cond.privateMethod ({ cls := "ForkJoinDeskModel", name := "atom", desc := "()V" } : Jvm.MethodName)) ∈ lw_tbl := lw_at lw_m7 230 rfl
theorem q1739 : (Jvm.Cond.instanceMethod ({ cls := "ForkJoinDeskModel", name := "atom", desc := "()V" } : Jvm.MethodName)) ∈ lw_all := lw_g (lw_at lw_m7 231 rfl) rfl
theorem q1740 : (Jvm.Cond.code ({ cls := "ForkJoinDeskModel", name := "atom", desc := "()V" } : Jvm.MethodName) prog_13_method_22_code (5 : Nat) (Option.none : Option Jvm.ClassFile.FieldType)) ∈ lw_all := lw_g (lw_at lw_m7 232 rfl) rfl
theorem q1741 : (Jvm.Cond.methodLink "ForkJoinDeskModel" (278 : Nat) ({ cls := "ForkJoinDeskModel", name := "settle", desc := "()Z" } : Jvm.MethodName)) ∈ lw_all := lw_g (lw_at lw_m7 233 rfl) rfl
theorem q1742 : (Jvm.Cond.privateMethod ({ cls := "ForkJoinDeskModel", name := "settle", desc := "()Z" } : Jvm.MethodName)) ∈ lw_tbl := lw_at lw_m7 234 rfl
theorem q1743 : (Jvm.Cond.instanceMethod ({ cls := "ForkJoinDeskModel", name := "settle", desc := "()Z" } : Jvm.MethodName)) ∈ lw_all := lw_g (lw_at lw_m7 235 rfl) rfl
theorem q1744 : (Jvm.Cond.code ({ cls := "ForkJoinDeskModel", name := "settle", desc := "()Z" } : Jvm.MethodName) prog_13_method_28_code (4 : Nat) (Option.some Jvm.ClassFile.FieldType.boolean)) ∈ lw_all := lw_g (lw_at lw_m7 236 rfl) rfl
theorem q1745 : (Jvm.Cond.methodLink "ForkJoinDeskModel" (281 : Nat) ({ cls := "ForkJoinDeskModel", name := "raise", desc := "(I)I" } : Jvm.MethodName)) ∈ lw_all := lw_g (lw_at lw_m7 237 rfl) rfl
theorem q1746 : (Jvm.Cond.privateMethod ({ cls := "ForkJoinDeskModel", name := "raise", desc := "(I)I" } : Jvm.MethodName)) ∈ lw_tbl := lw_at lw_m7 238 rfl
theorem q1747 : (Jvm.Cond.instanceMethod ({ cls := "ForkJoinDeskModel", name := "raise", desc := "(I)I" } : Jvm.MethodName)) ∈ lw_all := lw_g (lw_at lw_m7 239 rfl) rfl
theorem q1748 : (Jvm.Cond.code ({ cls := "ForkJoinDeskModel", name := "raise", desc := "(I)I" } : Jvm.MethodName) prog_13_method_3_code (2 : Nat) (Option.some Jvm.ClassFile.FieldType.int)) ∈ lw_all := lw_g (lw_at lw_m8 0 rfl) rfl
theorem q1750 : (Jvm.Cond.instanceMethod ({ cls := "ForkJoinDeskModel", name := "fault", desc := "()I" } : Jvm.MethodName)) ∈ lw_all := lw_g (lw_at lw_m8 2 rfl) rfl
theorem q1751 : (Jvm.Cond.selects "ForkJoinDeskModel" ({ cls := "ForkJoinDeskModel", name := "fault", desc := "()I" } : Jvm.MethodName) ({ cls := "ForkJoinDeskModel", name := "fault", desc := "()I" } : Jvm.MethodName)) ∈ lw_all := lw_g (lw_at lw_m8 3 rfl) rfl
theorem q1752 : (Jvm.Cond.code ({ cls := "ForkJoinDeskModel", name := "fault", desc := "()I" } : Jvm.MethodName) prog_13_method_30_code (1 : Nat) (Option.some Jvm.ClassFile.FieldType.int)) ∈ lw_all := lw_g (lw_at lw_m8 4 rfl) rfl
theorem q1754 : (Jvm.Cond.instanceMethod ({ cls := "ForkJoinDeskModel", name := "input", desc := "(II)Z" } : Jvm.MethodName)) ∈ lw_all := lw_g (lw_at lw_m8 6 rfl) rfl
theorem q1755 : (Jvm.Cond.selects "ForkJoinDeskModel" ({ cls := "ForkJoinDeskModel", name := "input", desc := "(II)Z" } : Jvm.MethodName) ({ cls := "ForkJoinDeskModel", name := "input", desc := "(II)Z" } : Jvm.MethodName)) ∈ lw_all := lw_g (lw_at lw_m8 7 rfl) rfl
theorem q1756 : (Jvm.Cond.code ({ cls := "ForkJoinDeskModel", name := "input", desc := "(II)Z" } : Jvm.MethodName) prog_13_method_31_code (3 : Nat) (Option.some Jvm.ClassFile.FieldType.boolean)) ∈ lw_all := lw_g (lw_at lw_m8 8 rfl) rfl
theorem q1758 : (Jvm.Cond.instanceMethod ({ cls := "ForkJoinDeskModel", name := "begin", desc := "()Z" } : Jvm.MethodName)) ∈ lw_all := lw_g (lw_at lw_m8 10 rfl) rfl
theorem q1759 : (Jvm.Cond.selects "ForkJoinDeskModel" ({ cls := "ForkJoinDeskModel", name := "begin", desc := "()Z" } : Jvm.MethodName) ({ cls := "ForkJoinDeskModel", name := "begin", desc := "()Z" } : Jvm.MethodName)) ∈ lw_all := lw_g (lw_at lw_m8 11 rfl) rfl
theorem q1760 : (Jvm.Cond.code ({ cls := "ForkJoinDeskModel", name := "begin", desc := "()Z" } : Jvm.MethodName) prog_13_method_43_code (2 : Nat) (Option.some Jvm.ClassFile.FieldType.boolean)) ∈ lw_all := lw_g (lw_at lw_m8 12 rfl) rfl
theorem q1761 : (Jvm.Cond.methodLink "ForkJoinDeskModel" (345 : Nat) ({ cls := "ForkJoinDeskModel", name := "strandFrom", desc := "(I)I" } : Jvm.MethodName)) ∈ lw_all := lw_g (lw_at lw_m8 13 rfl) rfl
theorem q1762 : (Jvm.Cond.privateMethod ({ cls := "ForkJoinDeskModel", name := "strandFrom", desc := "(I)I" } : Jvm.MethodName)) ∈ lw_tbl := lw_at lw_m8 14 rfl
theorem q1763 : (Jvm.Cond.instanceMethod ({ cls := "ForkJoinDeskModel", name := "strandFrom", desc := "(I)I" } : Jvm.MethodName)) ∈ lw_all := lw_g (lw_at lw_m8 15 rfl) rfl
theorem q1764 : (Jvm.Cond.code ({ cls := "ForkJoinDeskModel", name := "strandFrom", desc := "(I)I" } : Jvm.MethodName) prog_13_method_40_code (4 : Nat) (Option.some Jvm.ClassFile.FieldType.int)) ∈ lw_all := lw_g (lw_at lw_m8 16 rfl) rfl
theorem q1765 : (Jvm.Cond.methodLink "ForkJoinDeskModel" (319 : Nat) ({ cls := "ForkJoinDeskModel", name := "put", desc := "([III)V" } : Jvm.MethodName)) ∈ lw_all := lw_g (lw_at lw_m8 17 rfl) rfl
theorem q1766 : (Jvm.Cond.static ({ cls := "ForkJoinDeskModel", name := "put", desc := "([III)V" } : Jvm.MethodName)) ∈ lw_all := lw_g (lw_at lw_m8 18 rfl) rfl
theorem q1767 : (Jvm.Cond.code ({ cls := "ForkJoinDeskModel", name := "put", desc := "([III)V" } : Jvm.MethodName) prog_13_method_39_code (3 : Nat) (Option.none : Option Jvm.ClassFile.FieldType)) ∈ lw_all := lw_g (lw_at lw_m8 19 rfl) rfl
theorem q1768 : (Jvm.Cond.methodLink "ForkJoinDeskModel" (348 : Nat) ({ cls := "ForkJoinDeskModel", name := "enterSerial", desc := "(IZ)V" } : Jvm.MethodName)) ∈ lw_all := lw_g (lw_at lw_m8 20 rfl) rfl
theorem q1769 : (Jvm.Cond.privateMethod ({ cls := "ForkJoinDeskModel", name := "enterSerial", desc := "(IZ)V" } : Jvm.MethodName)) ∈ lw_tbl := lw_at lw_m8 21 rfl
theorem q1770 : (Jvm.Cond.instanceMethod ({ cls := "ForkJoinDeskModel", name := "enterSerial", desc := "(IZ)V" } : Jvm.MethodName)) ∈ lw_all := lw_g (lw_at lw_m8 22 rfl) rfl
theorem q1771 : (Jvm.Cond.code ({ cls := "ForkJoinDeskModel", name := "enterSerial", desc := "(IZ)V" } : Jvm.MethodName) prog_13_method_44_code (5 : Nat) (Option.none : Option Jvm.ClassFile.FieldType)) ∈ lw_all := lw_g (lw_at lw_m8 23 rfl) rfl
theorem q1772 : (Jvm.Cond.methodLink "ForkJoinDeskModel" (352 : Nat) ({ cls := "ForkJoinDeskModel", name := "enter", desc := "(III)V" } : Jvm.MethodName)) ∈ lw_all := lw_g (lw_at lw_m8 24 rfl) rfl
theorem q1773 : (Jvm.Cond.privateMethod ({ cls := "ForkJoinDeskModel", name := "enter", desc := "(III)V" } : Jvm.MethodName)) ∈ lw_tbl := lw_at lw_m8 25 rfl
theorem q1774 : (Jvm.Cond.instanceMethod ({ cls := "ForkJoinDeskModel", name := "enter", desc := "(III)V" } : Jvm.MethodName)) ∈ lw_all := lw_g (lw_at lw_m8 26 rfl) rfl
theorem q1775 : (Jvm.Cond.code ({ cls := "ForkJoinDeskModel", name := "enter", desc := "(III)V" } : Jvm.MethodName) prog_13_method_32_code (6 : Nat) (Option.none : Option Jvm.ClassFile.FieldType)) ∈ lw_all := lw_g (lw_at lw_m8 27 rfl) rfl
theorem q1777 : (Jvm.Cond.instanceMethod ({ cls := "ForkJoinDeskModel", name := "run", desc := "(I)I" } : Jvm.MethodName)) ∈ lw_all := lw_g (lw_at lw_m8 29 rfl) rfl
theorem q1778 : (Jvm.Cond.selects "ForkJoinDeskModel" ({ cls := "ForkJoinDeskModel", name := "run", desc := "(I)I" } : Jvm.MethodName) ({ cls := "ForkJoinDeskModel", name := "run", desc := "(I)I" } : Jvm.MethodName)) ∈ lw_all := lw_g (lw_at lw_m8 30 rfl) rfl
theorem q1779 : (Jvm.Cond.code ({ cls := "ForkJoinDeskModel", name := "run", desc := "(I)I" } : Jvm.MethodName) prog_13_method_49_code (3 : Nat) (Option.some Jvm.ClassFile.FieldType.int)) ∈ lw_all := lw_g (lw_at lw_m8 31 rfl) rfl
theorem q1780 : (Jvm.Cond.methodLink "ForkJoinDeskModel" (369 : Nat) ({ cls := "ForkJoinDeskModel", name := "stepSerial", desc := "()V" } : Jvm.MethodName)) ∈ lw_all := lw_g (lw_at lw_m8 32 rfl) rfl
theorem q1781 : (Jvm.Cond.privateMethod ({ cls := "ForkJoinDeskModel", name := "stepSerial", desc := "()V" } : Jvm.MethodName)) ∈ lw_tbl := lw_at lw_m8 33 rfl
theorem q1782 : (Jvm.Cond.instanceMethod ({ cls := "ForkJoinDeskModel", name := "stepSerial", desc := "()V" } : Jvm.MethodName)) ∈ lw_all := lw_g (lw_at lw_m8 34 rfl) rfl
theorem q1783 : (Jvm.Cond.code ({ cls := "ForkJoinDeskModel", name := "stepSerial", desc := "()V" } : Jvm.MethodName) prog_13_method_48_code (5 : Nat) (Option.none : Option Jvm.ClassFile.FieldType)) ∈ lw_all := lw_g (lw_at lw_m8 35 rfl) rfl
theorem q1784 : (Jvm.Cond.methodLink "ForkJoinDeskModel" (355 : Nat) ({ cls := "ForkJoinDeskModel", name := "passes", desc := "(II)Z" } : Jvm.MethodName)) ∈ lw_all := lw_g (lw_at lw_m8 36 rfl) rfl
theorem q1785 : (Jvm.Cond.privateMethod ({ cls := "ForkJoinDeskModel", name := "passes", desc := "(II)Z" } : Jvm.MethodName)) ∈ lw_tbl := lw_at lw_m8 37 rfl
theorem q1786 : (Jvm.Cond.instanceMethod ({ cls := "ForkJoinDeskModel", name := "passes", desc := "(II)Z" } : Jvm.MethodName)) ∈ lw_all := lw_g (lw_at lw_m8 38 rfl) rfl
theorem q1787 : (Jvm.Cond.code ({ cls := "ForkJoinDeskModel", name := "passes", desc := "(II)Z" } : Jvm.MethodName) prog_13_method_47_code (4 : Nat) (Option.some Jvm.ClassFile.FieldType.boolean)) ∈ lw_all := lw_g (lw_at lw_m8 39 rfl) rfl
theorem q1788 : (Jvm.Cond.methodLink "ForkJoinDeskModel" (359 : Nat) ({ cls := "ForkJoinDeskModel", name := "join", desc := "(I)V" } : Jvm.MethodName)) ∈ lw_all := lw_g (lw_at lw_m8 40 rfl) rfl
theorem q1789 : (Jvm.Cond.privateMethod ({ cls := "ForkJoinDeskModel", name := "join", desc := "(I)V" } : Jvm.MethodName)) ∈ lw_tbl := lw_at lw_m8 41 rfl
theorem q1790 : (Jvm.Cond.instanceMethod ({ cls := "ForkJoinDeskModel", name := "join", desc := "(I)V" } : Jvm.MethodName)) ∈ lw_all := lw_g (lw_at lw_m8 42 rfl) rfl
theorem q1791 : (Jvm.Cond.code ({ cls := "ForkJoinDeskModel", name := "join", desc := "(I)V" } : Jvm.MethodName) prog_13_method_45_code (3 : Nat) (Option.none : Option Jvm.ClassFile.FieldType)) ∈ lw_all := lw_g (lw_at lw_m8 43 rfl) rfl
theorem q1792 : (Jvm.Cond.methodLink "ForkJoinDeskModel" (362 : Nat) ({ cls := "ForkJoinDeskModel", name := "plain", desc := "(III)Z" } : Jvm.MethodName)) ∈ lw_all := lw_g (lw_at lw_m8 44 rfl) rfl
theorem q1793 : (Jvm.Cond.privateMethod ({ cls := "ForkJoinDeskModel", name := "plain", desc := "(III)Z" } : Jvm.MethodName)) ∈ lw_tbl := lw_at lw_m8 45 rfl
theorem q1794 : (Jvm.Cond.instanceMethod ({ cls := "ForkJoinDeskModel", name := "plain", desc := "(III)Z" } : Jvm.MethodName)) ∈ lw_all := lw_g (lw_at lw_m8 46 rfl) rfl
theorem q1795 : (Jvm.Cond.code ({ cls := "ForkJoinDeskModel", name := "plain", desc := "(III)Z" } : Jvm.MethodName) prog_13_method_37_code (11 : Nat) (Option.some Jvm.ClassFile.FieldType.boolean)) ∈ lw_all := lw_g (lw_at lw_m8 47 rfl) rfl
theorem q1796 : (Jvm.Cond.methodLink "ForkJoinDeskModel" (299 : Nat) ({ cls := "ForkJoinDeskModel", name := "side", desc := "(I)I" } : Jvm.MethodName)) ∈ lw_all := lw_g (lw_at lw_m8 48 rfl) rfl
theorem q1797 : (Jvm.Cond.static ({ cls := "ForkJoinDeskModel", name := "side", desc := "(I)I" } : Jvm.MethodName)) ∈ lw_all := lw_g (lw_at lw_m8 49 rfl) rfl
theorem q1798 : (Jvm.Cond.code ({ cls := "ForkJoinDeskModel", name := "side", desc := "(I)I" } : Jvm.MethodName) prog_13_method_36_code (1 : Nat) (Option.some Jvm.ClassFile.FieldType.int)) ∈ lw_all := lw_g (lw_at lw_m8 50 rfl) rfl
theorem q1799 : (Jvm.Cond.methodLink "ForkJoinDeskModel" (302 : Nat) ({ cls := "ForkJoinDeskModel", name := "give", desc := "(II)V" } : Jvm.MethodName)) ∈ lw_all := lw_g (lw_at lw_m8 51 rfl) rfl
theorem q1800 : (Jvm.Cond.privateMethod ({ cls := "ForkJoinDeskModel", name := "give", desc := "(II)V" } : Jvm.MethodName)) ∈ lw_tbl := lw_at lw_m8 52 rfl
theorem q1801 : (Jvm.Cond.instanceMethod ({ cls := "ForkJoinDeskModel", name := "give", desc := "(II)V" } : Jvm.MethodName)) ∈ lw_all := lw_g (lw_at lw_m8 53 rfl) rfl
theorem q1802 : (Jvm.Cond.code ({ cls := "ForkJoinDeskModel", name := "give", desc := "(II)V" } : Jvm.MethodName) prog_13_method_34_code (3 : Nat) (Option.none : Option Jvm.ClassFile.FieldType)) ∈ lw_all := lw_g (lw_at lw_m8 54 rfl) rfl
theorem q1803 : (Jvm.Cond.methodLink "ForkJoinDeskModel" (305 : Nat) ({ cls := "ForkJoinDeskModel", name := "pop", desc := "(I)I" } : Jvm.MethodName)) ∈ lw_all := lw_g (lw_at lw_m8 55 rfl) rfl
theorem q1804 : (Jvm.Cond.privateMethod ({ cls := "ForkJoinDeskModel", name := "pop", desc := "(I)I" } : Jvm.MethodName)) ∈ lw_tbl := lw_at lw_m8 56 rfl
theorem q1805 : (Jvm.Cond.instanceMethod ({ cls := "ForkJoinDeskModel", name := "pop", desc := "(I)I" } : Jvm.MethodName)) ∈ lw_all := lw_g (lw_at lw_m8 57 rfl) rfl
theorem q1806 : (Jvm.Cond.code ({ cls := "ForkJoinDeskModel", name := "pop", desc := "(I)I" } : Jvm.MethodName) prog_13_method_33_code (2 : Nat) (Option.some Jvm.ClassFile.FieldType.int)) ∈ lw_all := lw_g (lw_at lw_m8 58 rfl) rfl
theorem q1807 : (Jvm.Cond.methodLink "ForkJoinDeskModel" (308 : Nat) ({ cls := "ForkJoinDeskModel", name := "sign", desc := "(III)I" } : Jvm.MethodName)) ∈ lw_all := lw_g (lw_at lw_m8 59 rfl) rfl
theorem q1808 : (Jvm.Cond.static ({ cls := "ForkJoinDeskModel", name := "sign", desc := "(III)I" } : Jvm.MethodName)) ∈ lw_all := lw_g (lw_at lw_m8 60 rfl) rfl
theorem q1809 : (Jvm.Cond.code ({ cls := "ForkJoinDeskModel", name := "sign", desc := "(III)I" } : Jvm.MethodName) prog_13_method_35_code (3 : Nat) (Option.some Jvm.ClassFile.FieldType.int)) ∈ lw_all := lw_g (lw_at lw_m8 61 rfl) rfl
theorem q1810 : (Jvm.Cond.methodLink "ForkJoinDeskModel" (312 : Nat) ({ cls := "ForkJoinDeskModel", name := "touch", desc := "(IZI)V" } : Jvm.MethodName)) ∈ lw_all := lw_g (lw_at lw_m8 62 rfl) rfl
theorem q1811 : (Jvm.Cond.privateMethod ({ cls := "ForkJoinDeskModel", name := "touch", desc := "(IZI)V" } : Jvm.MethodName)) ∈ lw_tbl := lw_at lw_m8 63 rfl
theorem q1812 : (Jvm.Cond.instanceMethod ({ cls := "ForkJoinDeskModel", name := "touch", desc := "(IZI)V" } : Jvm.MethodName)) ∈ lw_all := lw_g (lw_at lw_m8 64 rfl) rfl
theorem q1813 : (Jvm.Cond.code ({ cls := "ForkJoinDeskModel", name := "touch", desc := "(IZI)V" } : Jvm.MethodName) prog_13_method_42_code (7 : Nat) (Option.none : Option Jvm.ClassFile.FieldType)) ∈ lw_all := lw_g (lw_at lw_m8 65 rfl) rfl
theorem q1814 : (Jvm.Cond.methodLink "ForkJoinDeskModel" (366 : Nat) ({ cls := "ForkJoinDeskModel", name := "goBack", desc := "(I)V" } : Jvm.MethodName)) ∈ lw_all := lw_g (lw_at lw_m8 66 rfl) rfl
theorem q1815 : (Jvm.Cond.privateMethod ({ cls := "ForkJoinDeskModel", name := "goBack", desc := "(I)V" } : Jvm.MethodName)) ∈ lw_tbl := lw_at lw_m8 67 rfl
theorem q1816 : (Jvm.Cond.instanceMethod ({ cls := "ForkJoinDeskModel", name := "goBack", desc := "(I)V" } : Jvm.MethodName)) ∈ lw_all := lw_g (lw_at lw_m8 68 rfl) rfl
theorem q1817 : (Jvm.Cond.code ({ cls := "ForkJoinDeskModel", name := "goBack", desc := "(I)V" } : Jvm.MethodName) prog_13_method_46_code (4 : Nat) (Option.none : Option Jvm.ClassFile.FieldType)) ∈ lw_all := lw_g (lw_at lw_m8 69 rfl) rfl
theorem q1819 : (Jvm.Cond.instanceMethod ({ cls := "ForkJoinDeskModel", name := "races", desc := "()I" } : Jvm.MethodName)) ∈ lw_all := lw_g (lw_at lw_m8 71 rfl) rfl
theorem q1820 : (Jvm.Cond.selects "ForkJoinDeskModel" ({ cls := "ForkJoinDeskModel", name := "races", desc := "()I" } : Jvm.MethodName) ({ cls := "ForkJoinDeskModel", name := "races", desc := "()I" } : Jvm.MethodName)) ∈ lw_all := lw_g (lw_at lw_m8 72 rfl) rfl
theorem q1821 : (Jvm.Cond.code ({ cls := "ForkJoinDeskModel", name := "races", desc := "()I" } : Jvm.MethodName) prog_13_method_50_code (1 : Nat) (Option.some Jvm.ClassFile.FieldType.int)) ∈ lw_all := lw_g (lw_at lw_m8 73 rfl) rfl
theorem q1823 : (Jvm.Cond.instanceMethod ({ cls := "ForkJoinDeskModel", name := "race", desc := "(II)I" } : Jvm.MethodName)) ∈ lw_all := lw_g (lw_at lw_m8 75 rfl) rfl
theorem q1824 : (Jvm.Cond.selects "ForkJoinDeskModel" ({ cls := "ForkJoinDeskModel", name := "race", desc := "(II)I" } : Jvm.MethodName) ({ cls := "ForkJoinDeskModel", name := "race", desc := "(II)I" } : Jvm.MethodName)) ∈ lw_all := lw_g (lw_at lw_m8 76 rfl) rfl
theorem q1825 : (Jvm.Cond.code ({ cls := "ForkJoinDeskModel", name := "race", desc := "(II)I" } : Jvm.MethodName) prog_13_method_51_code (4 : Nat) (Option.some Jvm.ClassFile.FieldType.int)) ∈ lw_all := lw_g (lw_at lw_m8 77 rfl) rfl
theorem q1827 : (Jvm.Cond.instanceMethod ({ cls := "ForkJoinDeskModel", name := "beside", desc := "(II)Z" } : Jvm.MethodName)) ∈ lw_all := lw_g (lw_at lw_m8 79 rfl) rfl
theorem q1828 : (Jvm.Cond.selects "ForkJoinDeskModel" ({ cls := "ForkJoinDeskModel", name := "beside", desc := "(II)Z" } : Jvm.MethodName) ({ cls := "ForkJoinDeskModel", name := "beside", desc := "(II)Z" } : Jvm.MethodName)) ∈ lw_all := lw_g (lw_at lw_m8 80 rfl) rfl
theorem q1829 : (Jvm.Cond.code ({ cls := "ForkJoinDeskModel", name := "beside", desc := "(II)Z" } : Jvm.MethodName) prog_13_method_52_code (4 : Nat) (Option.some Jvm.ClassFile.FieldType.boolean)) ∈ lw_all := lw_g (lw_at lw_m8 81 rfl) rfl
theorem q1830 : (Jvm.Cond.methodLink "ForkJoinDeskModel" (372 : Nat) ({ cls := "ForkJoinDeskModel", name := "isBeside", desc := "(II)Z" } : Jvm.MethodName)) ∈ lw_all := lw_g (lw_at lw_m8 82 rfl) rfl
theorem q1831 : (Jvm.Cond.privateMethod ({ cls := "ForkJoinDeskModel", name := "isBeside", desc := "(II)Z" } : Jvm.MethodName)) ∈ lw_tbl := lw_at lw_m8 83 rfl
theorem q1832 : (Jvm.Cond.instanceMethod ({ cls := "ForkJoinDeskModel", name := "isBeside", desc := "(II)Z" } : Jvm.MethodName)) ∈ lw_all := lw_g (lw_at lw_m8 84 rfl) rfl
theorem q1833 : (Jvm.Cond.code ({ cls := "ForkJoinDeskModel", name := "isBeside", desc := "(II)Z" } : Jvm.MethodName) prog_13_method_41_code (5 : Nat) (Option.some Jvm.ClassFile.FieldType.boolean)) ∈ lw_all := lw_g (lw_at lw_m8 85 rfl) rfl
theorem q1834 : (Jvm.Cond.methodLink "ForkJoinDeskModel" (323 : Nat) ({ cls := "ForkJoinDeskModel", name := "has", desc := "([III)Z" } : Jvm.MethodName)) ∈ lw_all := lw_g (lw_at lw_m8 86 rfl) rfl
theorem q1835 : (Jvm.Cond.static ({ cls := "ForkJoinDeskModel", name := "has", desc := "([III)Z" } : Jvm.MethodName)) ∈ lw_all := lw_g (lw_at lw_m8 87 rfl) rfl
theorem q1836 : (Jvm.Cond.code ({ cls := "ForkJoinDeskModel", name := "has", desc := "([III)Z" } : Jvm.MethodName) prog_13_method_38_code (3 : Nat) (Option.some Jvm.ClassFile.FieldType.boolean)) ∈ lw_all := lw_g (lw_at lw_m8 88 rfl) rfl
theorem q1838 : (Jvm.Cond.instanceMethod ({ cls := "ForkJoinDeskModel", name := "serial", desc := "(I)I" } : Jvm.MethodName)) ∈ lw_all := lw_g (lw_at lw_m8 90 rfl) rfl
theorem q1839 : (Jvm.Cond.selects "ForkJoinDeskModel" ({ cls := "ForkJoinDeskModel", name := "serial", desc := "(I)I" } : Jvm.MethodName) ({ cls := "ForkJoinDeskModel", name := "serial", desc := "(I)I" } : Jvm.MethodName)) ∈ lw_all := lw_g (lw_at lw_m8 91 rfl) rfl
theorem q1840 : (Jvm.Cond.code ({ cls := "ForkJoinDeskModel", name := "serial", desc := "(I)I" } : Jvm.MethodName) prog_13_method_53_code (2 : Nat) (Option.some Jvm.ClassFile.FieldType.int)) ∈ lw_all := lw_g (lw_at lw_m8 92 rfl) rfl
theorem q1842 : (Jvm.Cond.instanceMethod ({ cls := "ForkJoinDeskModel", name := "cell", desc := "(IZ)I" } : Jvm.MethodName)) ∈ lw_all := lw_g (lw_at lw_m8 94 rfl) rfl
theorem q1843 : (Jvm.Cond.selects "ForkJoinDeskModel" ({ cls := "ForkJoinDeskModel", name := "cell", desc := "(IZ)I" } : Jvm.MethodName) ({ cls := "ForkJoinDeskModel", name := "cell", desc := "(IZ)I" } : Jvm.MethodName)) ∈ lw_all := lw_g (lw_at lw_m8 95 rfl) rfl
theorem q1844 : (Jvm.Cond.code ({ cls := "ForkJoinDeskModel", name := "cell", desc := "(IZ)I" } : Jvm.MethodName) prog_13_method_54_code (3 : Nat) (Option.some Jvm.ClassFile.FieldType.int)) ∈ lw_all := lw_g (lw_at lw_m8 96 rfl) rfl
theorem q1846 : (Jvm.Cond.instanceMethod ({ cls := "ForkJoinDeskModel", name := "printed", desc := "(IZ)I" } : Jvm.MethodName)) ∈ lw_all := lw_g (lw_at lw_m8 98 rfl) rfl
theorem q1847 : (Jvm.Cond.selects "ForkJoinDeskModel" ({ cls := "ForkJoinDeskModel", name := "printed", desc := "(IZ)I" } : Jvm.MethodName) ({ cls := "ForkJoinDeskModel", name := "printed", desc := "(IZ)I" } : Jvm.MethodName)) ∈ lw_all := lw_g (lw_at lw_m8 99 rfl) rfl
theorem q1848 : (Jvm.Cond.code ({ cls := "ForkJoinDeskModel", name := "printed", desc := "(IZ)I" } : Jvm.MethodName) prog_13_method_55_code (6 : Nat) (Option.some Jvm.ClassFile.FieldType.int)) ∈ lw_all := lw_g (lw_at lw_m8 100 rfl) rfl
theorem q1850 : (Jvm.Cond.instanceMethod ({ cls := "ForkJoinDeskModel", name := "loosen", desc := "()Z" } : Jvm.MethodName)) ∈ lw_all := lw_g (lw_at lw_m8 102 rfl) rfl
theorem q1851 : (Jvm.Cond.selects "ForkJoinDeskModel" ({ cls := "ForkJoinDeskModel", name := "loosen", desc := "()Z" } : Jvm.MethodName) ({ cls := "ForkJoinDeskModel", name := "loosen", desc := "()Z" } : Jvm.MethodName)) ∈ lw_all := lw_g (lw_at lw_m8 103 rfl) rfl
theorem q1852 : (Jvm.Cond.code ({ cls := "ForkJoinDeskModel", name := "loosen", desc := "()Z" } : Jvm.MethodName) prog_13_method_57_code (2 : Nat) (Option.some Jvm.ClassFile.FieldType.boolean)) ∈ lw_all := lw_g (lw_at lw_m8 104 rfl) rfl
theorem q1853 : (Jvm.Cond.methodLink "ForkJoinDeskModel" (387 : Nat) ({ cls := "ForkJoinDeskModel", name := "knot", desc := "(IZI)I" } : Jvm.MethodName)) ∈ lw_all := lw_g (lw_at lw_m8 105 rfl) rfl
theorem q1854 : (Jvm.Cond.privateMethod ({ cls := "ForkJoinDeskModel", name := "knot", desc := "(IZI)I" } : Jvm.MethodName)) ∈ lw_tbl := lw_at lw_m8 106 rfl
theorem q1855 : (Jvm.Cond.instanceMethod ({ cls := "ForkJoinDeskModel", name := "knot", desc := "(IZI)I" } : Jvm.MethodName)) ∈ lw_all := lw_g (lw_at lw_m8 107 rfl) rfl
theorem q1856 : (Jvm.Cond.code ({ cls := "ForkJoinDeskModel", name := "knot", desc := "(IZI)I" } : Jvm.MethodName) prog_13_method_56_code (5 : Nat) (Option.some Jvm.ClassFile.FieldType.int)) ∈ lw_all := lw_g (lw_at lw_m8 108 rfl) rfl
theorem q1858 : (Jvm.Cond.instanceMethod ({ cls := "ForkJoinDeskModel", name := "move", desc := "(II)I" } : Jvm.MethodName)) ∈ lw_all := lw_g (lw_at lw_m8 110 rfl) rfl
theorem q1859 : (Jvm.Cond.selects "ForkJoinDeskModel" ({ cls := "ForkJoinDeskModel", name := "move", desc := "(II)I" } : Jvm.MethodName) ({ cls := "ForkJoinDeskModel", name := "move", desc := "(II)I" } : Jvm.MethodName)) ∈ lw_all := lw_g (lw_at lw_m8 111 rfl) rfl
theorem q1860 : (Jvm.Cond.code ({ cls := "ForkJoinDeskModel", name := "move", desc := "(II)I" } : Jvm.MethodName) prog_13_method_60_code (4 : Nat) (Option.some Jvm.ClassFile.FieldType.int)) ∈ lw_all := lw_g (lw_at lw_m8 112 rfl) rfl
theorem q1861 : (Jvm.Cond.methodLink "ForkJoinDeskModel" (394 : Nat) ({ cls := "ForkJoinDeskModel", name := "stepLoose", desc := "(I)Z" } : Jvm.MethodName)) ∈ lw_all := lw_g (lw_at lw_m8 113 rfl) rfl
theorem q1862 : (Jvm.Cond.privateMethod ({ cls := "ForkJoinDeskModel", name := "stepLoose", desc := "(I)Z" } : Jvm.MethodName)) ∈ lw_tbl := lw_at lw_m8 114 rfl
theorem q1863 : (Jvm.Cond.instanceMethod ({ cls := "ForkJoinDeskModel", name := "stepLoose", desc := "(I)Z" } : Jvm.MethodName)) ∈ lw_all := lw_g (lw_at lw_m8 115 rfl) rfl
theorem q1864 : (Jvm.Cond.code ({ cls := "ForkJoinDeskModel", name := "stepLoose", desc := "(I)Z" } : Jvm.MethodName) prog_13_method_59_code (5 : Nat) (Option.some Jvm.ClassFile.FieldType.boolean)) ∈ lw_all := lw_g (lw_at lw_m8 116 rfl) rfl
theorem q1865 : (Jvm.Cond.methodLink "ForkJoinDeskModel" (391 : Nat) ({ cls := "ForkJoinDeskModel", name := "fork", desc := "(III)V" } : Jvm.MethodName)) ∈ lw_all := lw_g (lw_at lw_m8 117 rfl) rfl
theorem q1866 : (Jvm.Cond.privateMethod ({ cls := "ForkJoinDeskModel", name := "fork", desc := "(III)V" } : Jvm.MethodName)) ∈ lw_tbl := lw_at lw_m8 118 rfl
theorem q1867 : (Jvm.Cond.instanceMethod ({ cls := "ForkJoinDeskModel", name := "fork", desc := "(III)V" } : Jvm.MethodName)) ∈ lw_all := lw_g (lw_at lw_m8 119 rfl) rfl
theorem q1868 : (Jvm.Cond.code ({ cls := "ForkJoinDeskModel", name := "fork", desc := "(III)V" } : Jvm.MethodName) prog_13_method_58_code (5 : Nat) (Option.none : Option Jvm.ClassFile.FieldType)) ∈ lw_all := lw_g (lw_at lw_m8 120 rfl) rfl
theorem q1870 : (Jvm.Cond.instanceMethod ({ cls := "ForkJoinDeskModel", name := "loose", desc := "(I)I" } : Jvm.MethodName)) ∈ lw_all := lw_g (lw_at lw_m8 122 rfl) rfl
theorem q1871 : (Jvm.Cond.selects "ForkJoinDeskModel" ({ cls := "ForkJoinDeskModel", name := "loose", desc := "(I)I" } : Jvm.MethodName) ({ cls := "ForkJoinDeskModel", name := "loose", desc := "(I)I" } : Jvm.MethodName)) ∈ lw_all := lw_g (lw_at lw_m8 123 rfl) rfl
theorem q1872 : (Jvm.Cond.code ({ cls := "ForkJoinDeskModel", name := "loose", desc := "(I)I" } : Jvm.MethodName) prog_13_method_61_code (2 : Nat) (Option.some Jvm.ClassFile.FieldType.int)) ∈ lw_all := lw_g (lw_at lw_m8 124 rfl) rfl
theorem q1906 : (Jvm.Cond.castable "ForkJoinDeskModel" "java/lang/Object") ∈ lw_tbl := lw_at lw_m8 158 rfl
theorem in_X7 : ∀ w ∈ wsX70, w ∈ lw_all := lw_in wsX70 [1486, 1488, 1490, 1492, 1494, 1496, 1498, 1500, 1502, 1504, 1506, 1508, 1510, 1512, 1514, 1516, 1518, 1520, 1522, 1524, 1526, 1528, 1530, 1532, 1534, 1536, 1538, 1540, 1542, 1544, 1546, 1548, 1550, 1552, 1554, 1556, 1558, 1560, 1562, 1564, 1566, 1568, 1570, 1572, 1574, 1576, 1578, 1580, 1582, 1584, 1586, 1588, 1590, 1592, 1594, 1596, 1598, 1600, 1602, 1604, 1606, 1608, 1610, 1612, 1614, 1616, 1618, 1620, 1622, 1624, 1626, 1628, 1630, 1632, 1634, 1636, 1638] (by decide +kernel) (by decide +kernel)
def RX8 : String := "ForkJoinDesk$Program"
def TX8 : u_T := fun k => match k with
  | 0 => ("ForkJoinDesk$Program", "code", "Ljava/util/ArrayList;", true)
  | 1 => ("ForkJoinDesk$Program", "begin", "[I", true)
  | 2 => ("ForkJoinDesk$Program", "many", "[I", true)
  | 3 => ("ForkJoinDesk$Program", "parameters", "[I", true)
  | 4 => ("ForkJoinDesk$Program", "names", "[I", true)
  | _ => ("ForkJoinDesk$Program", "procedures", "I", false)
def tyX8 : Nat → FieldType := fun k => match k with
  | 0 => .object "java/util/ArrayList"
  | 1 => .array .int
  | 2 => .array .int
  | 3 => .array .int
  | 4 => .array .int
  | _ => .int
abbrev wsX80 : List Cond := u_ws RX8 TX8 6
theorem nmX8 : ∀ a, a < 6 → ∀ b, b < 6 → a ≠ b → (TX8 a).2.1 ≠ (TX8 b).2.1 := by decide +kernel
theorem tyX8_ok : ∀ k, k < 6 → parseFieldDescriptor (TX8 k).2.2.1 = some (tyX8 k) := by decide +kernel
abbrev cX8_init : ByteArray := prog_9_method_1_code
def yX8_init : MethodName := ⟨RX8, "<init>", "()V"⟩
abbrev cX8_find : ByteArray := prog_9_method_2_code
def yX8_find : MethodName := ⟨RX8, "find", "(I)I"⟩
theorem q94 : (Jvm.Cond.initialized "ForkJoinDesk$Program") ∈ lw_all := lw_g (lw_at lw_m1 26 rfl) rfl
theorem q814 : (Jvm.Cond.selects "ForkJoinDesk$Program" ({ cls := "java/lang/Object", name := "getClass", desc := "()Ljava/lang/Class;" } : Jvm.MethodName) ({ cls := "java/lang/Object", name := "getClass", desc := "()Ljava/lang/Class;" } : Jvm.MethodName)) ∈ lw_all := lw_g (lw_at lw_m4 26 rfl) rfl
theorem q914 : (Jvm.Cond.instantiable "ForkJoinDesk$Program" (6 : Nat)) ∈ lw_all := lw_g (lw_at lw_m4 126 rfl) rfl
theorem q916 : (Jvm.Cond.instanceMethod ({ cls := "ForkJoinDesk$Program", name := "<init>", desc := "()V" } : Jvm.MethodName)) ∈ lw_all := lw_g (lw_at lw_m4 128 rfl) rfl
theorem q917 : (Jvm.Cond.code ({ cls := "ForkJoinDesk$Program", name := "<init>", desc := "()V" } : Jvm.MethodName) prog_9_method_1_code (1 : Nat) (Option.none : Option Jvm.ClassFile.FieldType)) ∈ lw_all := lw_g (lw_at lw_m4 129 rfl) rfl
theorem q918 : (Jvm.Cond.methodLink "ForkJoinDesk$Program" (3 : Nat) ({ cls := "java/lang/Object", name := "<init>", desc := "()V" } : Jvm.MethodName)) ∈ lw_all := lw_g (lw_at lw_m4 130 rfl) rfl
theorem q919 : (Jvm.Cond.classLink "ForkJoinDesk$Program" (9 : Nat) "java/util/ArrayList") ∈ lw_all := lw_g (lw_at lw_m4 131 rfl) rfl
theorem q920 : (Jvm.Cond.methodLink "ForkJoinDesk$Program" (11 : Nat) ({ cls := "java/util/ArrayList", name := "<init>", desc := "(I)V" } : Jvm.MethodName)) ∈ lw_all := lw_g (lw_at lw_m4 132 rfl) rfl
theorem q921 : (Jvm.Cond.fieldLink "ForkJoinDesk$Program" (14 : Nat) "ForkJoinDesk$Program" "code" "Ljava/util/ArrayList;") ∈ lw_all := lw_g (lw_at lw_m4 133 rfl) rfl
theorem q925 : (Jvm.Cond.fieldLink "ForkJoinDesk$Program" (20 : Nat) "ForkJoinDesk$Program" "begin" "[I") ∈ lw_all := lw_g (lw_at lw_m4 137 rfl) rfl
theorem q930 : (Jvm.Cond.fieldLink "ForkJoinDesk$Program" (24 : Nat) "ForkJoinDesk$Program" "many" "[I") ∈ lw_all := lw_g (lw_at lw_m4 142 rfl) rfl
theorem q933 : (Jvm.Cond.fieldLink "ForkJoinDesk$Program" (27 : Nat) "ForkJoinDesk$Program" "parameters" "[I") ∈ lw_all := lw_g (lw_at lw_m4 145 rfl) rfl
theorem q936 : (Jvm.Cond.fieldLink "ForkJoinDesk$Program" (30 : Nat) "ForkJoinDesk$Program" "names" "[I") ∈ lw_all := lw_g (lw_at lw_m4 148 rfl) rfl
theorem q938 : (Jvm.Cond.fieldLink "ForkJoinDesk$Program" (33 : Nat) "ForkJoinDesk$Program" "procedures" "I") ∈ lw_all := lw_g (lw_at lw_m4 150 rfl) rfl
theorem q940 : (Jvm.Cond.laysFinal "ForkJoinDesk$Program" "ForkJoinDesk$Program" "code" "Ljava/util/ArrayList;") ∈ lw_all := lw_g (lw_at lw_m4 152 rfl) rfl
theorem q941 : (Jvm.Cond.soleField "ForkJoinDesk$Program" "code") ∈ lw_all := lw_g (lw_at lw_m4 153 rfl) rfl
theorem q942 : (Jvm.Cond.laysFinal "ForkJoinDesk$Program" "ForkJoinDesk$Program" "begin" "[I") ∈ lw_all := lw_g (lw_at lw_m4 154 rfl) rfl
theorem q943 : (Jvm.Cond.soleField "ForkJoinDesk$Program" "begin") ∈ lw_all := lw_g (lw_at lw_m4 155 rfl) rfl
theorem q944 : (Jvm.Cond.laysFinal "ForkJoinDesk$Program" "ForkJoinDesk$Program" "many" "[I") ∈ lw_all := lw_g (lw_at lw_m4 156 rfl) rfl
theorem q945 : (Jvm.Cond.soleField "ForkJoinDesk$Program" "many") ∈ lw_all := lw_g (lw_at lw_m4 157 rfl) rfl
theorem q946 : (Jvm.Cond.laysFinal "ForkJoinDesk$Program" "ForkJoinDesk$Program" "parameters" "[I") ∈ lw_all := lw_g (lw_at lw_m4 158 rfl) rfl
theorem q947 : (Jvm.Cond.soleField "ForkJoinDesk$Program" "parameters") ∈ lw_all := lw_g (lw_at lw_m4 159 rfl) rfl
theorem q948 : (Jvm.Cond.laysFinal "ForkJoinDesk$Program" "ForkJoinDesk$Program" "names" "[I") ∈ lw_all := lw_g (lw_at lw_m4 160 rfl) rfl
theorem q949 : (Jvm.Cond.soleField "ForkJoinDesk$Program" "names") ∈ lw_all := lw_g (lw_at lw_m4 161 rfl) rfl
theorem q950 : (Jvm.Cond.lays "ForkJoinDesk$Program" "ForkJoinDesk$Program" "procedures" "I") ∈ lw_all := lw_g (lw_at lw_m4 162 rfl) rfl
theorem q951 : (Jvm.Cond.soleField "ForkJoinDesk$Program" "procedures") ∈ lw_all := lw_g (lw_at lw_m4 163 rfl) rfl
theorem q952 : (Jvm.Cond.superclass "ForkJoinDesk$Program" "java/lang/Object") ∈ lw_all := lw_g (lw_at lw_m4 164 rfl) rfl
theorem q966 : (Jvm.Cond.instanceMethod ({ cls := "ForkJoinDesk$Program", name := "find", desc := "(I)I" } : Jvm.MethodName)) ∈ lw_all := lw_g (lw_at lw_m4 178 rfl) rfl
theorem q967 : (Jvm.Cond.selects "ForkJoinDesk$Program" ({ cls := "ForkJoinDesk$Program", name := "find", desc := "(I)I" } : Jvm.MethodName) ({ cls := "ForkJoinDesk$Program", name := "find", desc := "(I)I" } : Jvm.MethodName)) ∈ lw_all := lw_g (lw_at lw_m4 179 rfl) rfl
theorem q968 : (Jvm.Cond.code ({ cls := "ForkJoinDesk$Program", name := "find", desc := "(I)I" } : Jvm.MethodName) prog_9_method_2_code (3 : Nat) (Option.some Jvm.ClassFile.FieldType.int)) ∈ lw_all := lw_g (lw_at lw_m4 180 rfl) rfl
theorem q1907 : (Jvm.Cond.castable "ForkJoinDesk$Program" "java/lang/Object") ∈ lw_tbl := lw_at lw_m8 159 rfl
theorem in_X8 : ∀ w ∈ wsX80, w ∈ lw_all := lw_in wsX80 [940, 942, 944, 946, 948, 950] (by decide +kernel) (by decide +kernel)
def RX9 : String := "ForkJoinDesk$Instruction"
def TX9 : u_T := fun k => match k with
  | 0 => ("ForkJoinDesk$Instruction", "op", "LForkJoinDesk$Op;", true)
  | 1 => ("ForkJoinDesk$Instruction", "value", "I", true)
  | _ => ("ForkJoinDesk$Instruction", "place", "I", true)
def tyX9 : Nat → FieldType := fun k => match k with
  | 0 => .object "ForkJoinDesk$Op"
  | 1 => .int
  | _ => .int
abbrev wsX90 : List Cond := u_ws RX9 TX9 3
theorem nmX9 : ∀ a, a < 3 → ∀ b, b < 3 → a ≠ b → (TX9 a).2.1 ≠ (TX9 b).2.1 := by decide +kernel
theorem tyX9_ok : ∀ k, k < 3 → parseFieldDescriptor (TX9 k).2.2.1 = some (tyX9 k) := by decide +kernel
abbrev cX9_init : ByteArray := prog_5_method_1_code
def yX9_init : MethodName := ⟨RX9, "<init>", "(LForkJoinDesk$Op;II)V"⟩
theorem q98 : (Jvm.Cond.initialized "ForkJoinDesk$Instruction") ∈ lw_all := lw_g (lw_at lw_m1 30 rfl) rfl
theorem q811 : (Jvm.Cond.selects "ForkJoinDesk$Instruction" ({ cls := "java/lang/Object", name := "getClass", desc := "()Ljava/lang/Class;" } : Jvm.MethodName) ({ cls := "java/lang/Object", name := "getClass", desc := "()Ljava/lang/Class;" } : Jvm.MethodName)) ∈ lw_all := lw_g (lw_at lw_m4 23 rfl) rfl
theorem q1047 : (Jvm.Cond.instantiable "ForkJoinDesk$Instruction" (3 : Nat)) ∈ lw_all := lw_g (lw_at lw_m5 19 rfl) rfl
theorem q1049 : (Jvm.Cond.instanceMethod ({ cls := "ForkJoinDesk$Instruction", name := "<init>", desc := "(LForkJoinDesk$Op;II)V" } : Jvm.MethodName)) ∈ lw_all := lw_g (lw_at lw_m5 21 rfl) rfl
theorem q1050 : (Jvm.Cond.code ({ cls := "ForkJoinDesk$Instruction", name := "<init>", desc := "(LForkJoinDesk$Op;II)V" } : Jvm.MethodName) prog_5_method_1_code (4 : Nat) (Option.none : Option Jvm.ClassFile.FieldType)) ∈ lw_all := lw_g (lw_at lw_m5 22 rfl) rfl
theorem q1051 : (Jvm.Cond.methodLink "ForkJoinDesk$Instruction" (1 : Nat) ({ cls := "java/lang/Record", name := "<init>", desc := "()V" } : Jvm.MethodName)) ∈ lw_all := lw_g (lw_at lw_m5 23 rfl) rfl
theorem q1055 : (Jvm.Cond.fieldLink "ForkJoinDesk$Instruction" (7 : Nat) "ForkJoinDesk$Instruction" "op" "LForkJoinDesk$Op;") ∈ lw_all := lw_g (lw_at lw_m5 27 rfl) rfl
theorem q1058 : (Jvm.Cond.fieldLink "ForkJoinDesk$Instruction" (13 : Nat) "ForkJoinDesk$Instruction" "value" "I") ∈ lw_all := lw_g (lw_at lw_m5 30 rfl) rfl
theorem q1061 : (Jvm.Cond.fieldLink "ForkJoinDesk$Instruction" (17 : Nat) "ForkJoinDesk$Instruction" "place" "I") ∈ lw_all := lw_g (lw_at lw_m5 33 rfl) rfl
theorem q1064 : (Jvm.Cond.laysFinal "ForkJoinDesk$Instruction" "ForkJoinDesk$Instruction" "op" "LForkJoinDesk$Op;") ∈ lw_all := lw_g (lw_at lw_m5 36 rfl) rfl
theorem q1065 : (Jvm.Cond.soleField "ForkJoinDesk$Instruction" "op") ∈ lw_all := lw_g (lw_at lw_m5 37 rfl) rfl
theorem q1066 : (Jvm.Cond.laysFinal "ForkJoinDesk$Instruction" "ForkJoinDesk$Instruction" "value" "I") ∈ lw_all := lw_g (lw_at lw_m5 38 rfl) rfl
theorem q1067 : (Jvm.Cond.soleField "ForkJoinDesk$Instruction" "value") ∈ lw_all := lw_g (lw_at lw_m5 39 rfl) rfl
theorem q1068 : (Jvm.Cond.laysFinal "ForkJoinDesk$Instruction" "ForkJoinDesk$Instruction" "place" "I") ∈ lw_all := lw_g (lw_at lw_m5 40 rfl) rfl
theorem q1069 : (Jvm.Cond.soleField "ForkJoinDesk$Instruction" "place") ∈ lw_all := lw_g (lw_at lw_m5 41 rfl) rfl
theorem q1070 : (Jvm.Cond.superclass "ForkJoinDesk$Instruction" "java/lang/Record") ∈ lw_all := lw_g (lw_at lw_m5 42 rfl) rfl
theorem q1908 : (Jvm.Cond.castable "ForkJoinDesk$Instruction" "java/lang/Object") ∈ lw_tbl := lw_at lw_m8 160 rfl
theorem in_X9 : ∀ w ∈ wsX90, w ∈ lw_all := lw_in wsX90 [1064, 1066, 1068] (by decide +kernel) (by decide +kernel)
theorem q96 : (Jvm.Cond.initialized "ForkJoinDesk$Op") ∈ lw_all := lw_g (lw_at lw_m1 28 rfl) rfl
theorem q813 : (Jvm.Cond.selects "ForkJoinDesk$Op" ({ cls := "java/lang/Object", name := "getClass", desc := "()Ljava/lang/Class;" } : Jvm.MethodName) ({ cls := "java/lang/Object", name := "getClass", desc := "()Ljava/lang/Class;" } : Jvm.MethodName)) ∈ lw_all := lw_g (lw_at lw_m4 25 rfl) rfl
theorem q1041 : (Jvm.Cond.laysStatic "ForkJoinDesk$Op" "NEGATE" "LForkJoinDesk$Op;") ∈ lw_tbl := lw_at lw_m5 13 rfl
theorem q1073 : (Jvm.Cond.laysStatic "ForkJoinDesk$Op" "READ" "LForkJoinDesk$Op;") ∈ lw_tbl := lw_at lw_m5 45 rfl
theorem q1075 : (Jvm.Cond.laysStatic "ForkJoinDesk$Op" "VARIABLE" "LForkJoinDesk$Op;") ∈ lw_tbl := lw_at lw_m5 47 rfl
theorem q1081 : (Jvm.Cond.laysStatic "ForkJoinDesk$Op" "NUMBER" "LForkJoinDesk$Op;") ∈ lw_tbl := lw_at lw_m5 53 rfl
theorem q1083 : (Jvm.Cond.laysStatic "ForkJoinDesk$Op" "TIMES" "LForkJoinDesk$Op;") ∈ lw_tbl := lw_at lw_m5 55 rfl
theorem q1085 : (Jvm.Cond.laysStatic "ForkJoinDesk$Op" "PLUS" "LForkJoinDesk$Op;") ∈ lw_tbl := lw_at lw_m5 57 rfl
theorem q1087 : (Jvm.Cond.laysStatic "ForkJoinDesk$Op" "MINUS" "LForkJoinDesk$Op;") ∈ lw_tbl := lw_at lw_m5 59 rfl
theorem q1089 : (Jvm.Cond.laysStatic "ForkJoinDesk$Op" "LESS" "LForkJoinDesk$Op;") ∈ lw_tbl := lw_at lw_m5 61 rfl
theorem q1091 : (Jvm.Cond.laysStatic "ForkJoinDesk$Op" "EQUAL" "LForkJoinDesk$Op;") ∈ lw_tbl := lw_at lw_m5 63 rfl
theorem q1093 : (Jvm.Cond.laysStatic "ForkJoinDesk$Op" "TEST" "LForkJoinDesk$Op;") ∈ lw_tbl := lw_at lw_m5 65 rfl
theorem q1095 : (Jvm.Cond.laysStatic "ForkJoinDesk$Op" "GO" "LForkJoinDesk$Op;") ∈ lw_tbl := lw_at lw_m5 67 rfl
theorem q1106 : (Jvm.Cond.laysStatic "ForkJoinDesk$Op" "SET" "LForkJoinDesk$Op;") ∈ lw_tbl := lw_at lw_m5 78 rfl
theorem q1108 : (Jvm.Cond.laysStatic "ForkJoinDesk$Op" "WRITE" "LForkJoinDesk$Op;") ∈ lw_tbl := lw_at lw_m5 80 rfl
theorem q1110 : (Jvm.Cond.laysStatic "ForkJoinDesk$Op" "ADD" "LForkJoinDesk$Op;") ∈ lw_tbl := lw_at lw_m5 82 rfl
theorem q1112 : (Jvm.Cond.laysStatic "ForkJoinDesk$Op" "PRINT" "LForkJoinDesk$Op;") ∈ lw_tbl := lw_at lw_m5 84 rfl
theorem q1114 : (Jvm.Cond.laysStatic "ForkJoinDesk$Op" "JOIN" "LForkJoinDesk$Op;") ∈ lw_tbl := lw_at lw_m5 86 rfl
theorem q1120 : (Jvm.Cond.laysStatic "ForkJoinDesk$Op" "FORK" "LForkJoinDesk$Op;") ∈ lw_tbl := lw_at lw_m5 92 rfl
theorem q1122 : (Jvm.Cond.laysStatic "ForkJoinDesk$Op" "CALL" "LForkJoinDesk$Op;") ∈ lw_tbl := lw_at lw_m5 94 rfl
theorem q1124 : (Jvm.Cond.laysStatic "ForkJoinDesk$Op" "END" "LForkJoinDesk$Op;") ∈ lw_tbl := lw_at lw_m5 96 rfl
theorem q1167 : (Jvm.Cond.sameMethod "ForkJoinDesk$Op" "java/lang/Enum" "ordinal" "()I") ∈ lw_all := lw_g (lw_at lw_m5 139 rfl) rfl
theorem q1169 : (Jvm.Cond.selects "ForkJoinDesk$Op" ({ cls := "ForkJoinDesk$Op", name := "ordinal", desc := "()I" } : Jvm.MethodName) ({ cls := "java/lang/Enum", name := "ordinal", desc := "()I" } : Jvm.MethodName)) ∈ lw_all := lw_g (lw_at lw_m5 141 rfl) rfl
theorem q1915 : (Jvm.Cond.castable "ForkJoinDesk$Op" "java/lang/Object") ∈ lw_tbl := lw_at lw_m8 167 rfl
theorem q244 : (Jvm.Cond.sameMethod "[B" "java/lang/Object" "clone" "()Ljava/lang/Object;") ∈ lw_all := lw_g (lw_at lw_m1 176 rfl) rfl
theorem q247 : (Jvm.Cond.selects "[B" ({ cls := "[B", name := "clone", desc := "()Ljava/lang/Object;" } : Jvm.MethodName) ({ cls := "java/lang/Object", name := "clone", desc := "()Ljava/lang/Object;" } : Jvm.MethodName)) ∈ lw_all := lw_g (lw_at lw_m1 179 rfl) rfl
theorem q248 : (Jvm.Cond.castable "[B" "java/lang/Cloneable") ∈ lw_tbl := lw_at lw_m1 180 rfl
theorem q1917 : (Jvm.Cond.castable "[B" "java/lang/Object") ∈ lw_tbl := lw_at lw_m8 169 rfl
theorem q1918 : (Jvm.Cond.castable "[I" "java/lang/Object") ∈ lw_tbl := lw_at lw_m8 170 rfl
theorem q1920 : (Jvm.Cond.castable "[J" "java/lang/Object") ∈ lw_tbl := lw_at lw_m8 172 rfl
theorem q1894 : (Jvm.Cond.sameMethod "[Ljava/lang/Object;" "java/lang/Object" "getClass" "()Ljava/lang/Class;") ∈ lw_all := lw_g (lw_at lw_m8 146 rfl) rfl
theorem q1895 : (Jvm.Cond.selects "[Ljava/lang/Object;" ({ cls := "java/lang/Object", name := "getClass", desc := "()Ljava/lang/Class;" } : Jvm.MethodName) ({ cls := "java/lang/Object", name := "getClass", desc := "()Ljava/lang/Class;" } : Jvm.MethodName)) ∈ lw_all := lw_g (lw_at lw_m8 147 rfl) rfl
theorem q1916 : (Jvm.Cond.castable "[Ljava/lang/Object;" "java/lang/Object") ∈ lw_tbl := lw_at lw_m8 168 rfl
theorem q1919 : (Jvm.Cond.castable "[Z" "java/lang/Object") ∈ lw_tbl := lw_at lw_m8 171 rfl
theorem q85 : (Jvm.Cond.initialized "java/lang/System") ∈ lw_all := lw_g (lw_at lw_m1 17 rfl) rfl
theorem q254 : (Jvm.Cond.static ({ cls := "java/lang/System", name := "arraycopy", desc := "(Ljava/lang/Object;ILjava/lang/Object;II)V" } : Jvm.MethodName)) ∈ lw_all := lw_g (lw_at lw_m1 186 rfl) rfl
theorem q255 : (Jvm.Cond.native ({ cls := "java/lang/System", name := "arraycopy", desc := "(Ljava/lang/Object;ILjava/lang/Object;II)V" } : Jvm.MethodName)) ∈ lw_all := lw_g (lw_at lw_m1 187 rfl) rfl
theorem q132 : (Jvm.Cond.arrayOver (Jvm.ClassFile.FieldType.object "java/lang/Object")) ∈ lw_tbl := lw_at lw_m1 64 rfl
theorem q208 : (Jvm.Cond.arrayClass Jvm.ClassFile.FieldType.byte) ∈ lw_all := lw_g (lw_at lw_m1 140 rfl) rfl
theorem q483 : (Jvm.Cond.arrayClass Jvm.ClassFile.FieldType.int) ∈ lw_all := lw_g (lw_at lw_m2 175 rfl) rfl
theorem q621 : (Jvm.Cond.arrayClass Jvm.ClassFile.FieldType.boolean) ∈ lw_all := lw_g (lw_at lw_m3 73 rfl) rfl
theorem q1874 : (Jvm.Cond.arrayClass Jvm.ClassFile.FieldType.long) ∈ lw_all := lw_g (lw_at lw_m8 126 rfl) rfl
