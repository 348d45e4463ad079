/-! java/util/AbstractCollection -/
set_option maxRecDepth 100000
def RJ0 : String := "java/util/AbstractCollection"
abbrev cJ0_init : ByteArray := prog_41_method_1_code
def yJ0_init : MethodName := ⟨RJ0, "<init>", "()V"⟩
theorem q85 : (Jvm.Cond.initialized "java/util/AbstractCollection") ∈ lw_all := lw_g (lw_at lw_m1 4 rfl) rfl
theorem q147 : (Jvm.Cond.instanceMethod ({ cls := "java/util/AbstractCollection", name := "<init>", desc := "()V" } : Jvm.MethodName)) ∈ lw_all := lw_g (lw_at lw_m1 66 rfl) rfl
theorem q148 : (Jvm.Cond.code ({ cls := "java/util/AbstractCollection", name := "<init>", desc := "()V" } : Jvm.MethodName) prog_41_method_1_code (1 : Nat) (Option.none : Option Jvm.ClassFile.FieldType)) ∈ lw_all := lw_g (lw_at lw_m1 67 rfl) rfl
theorem q149 : (Jvm.Cond.methodLink "java/util/AbstractCollection" (1 : Nat) ({ cls := "java/lang/Object", name := "<init>", desc := "()V" } : Jvm.MethodName)) ∈ lw_all := lw_g (lw_at lw_m1 68 rfl) rfl
/-! java/util/AbstractList -/
set_option maxRecDepth 100000
def RJ1 : String := "java/util/AbstractList"
abbrev cJ1_init : ByteArray := prog_42_method_1_code
def yJ1_init : MethodName := ⟨RJ1, "<init>", "()V"⟩
theorem q86 : (Jvm.Cond.initialized "java/util/AbstractList") ∈ lw_all := lw_g (lw_at lw_m1 5 rfl) rfl
theorem q144 : (Jvm.Cond.instanceMethod ({ cls := "java/util/AbstractList", name := "<init>", desc := "()V" } : Jvm.MethodName)) ∈ lw_all := lw_g (lw_at lw_m1 63 rfl) rfl
theorem q145 : (Jvm.Cond.code ({ cls := "java/util/AbstractList", name := "<init>", desc := "()V" } : Jvm.MethodName) prog_42_method_1_code (1 : Nat) (Option.none : Option Jvm.ClassFile.FieldType)) ∈ lw_all := lw_g (lw_at lw_m1 64 rfl) rfl
theorem q146 : (Jvm.Cond.methodLink "java/util/AbstractList" (1 : Nat) ({ cls := "java/util/AbstractCollection", name := "<init>", desc := "()V" } : Jvm.MethodName)) ∈ lw_all := lw_g (lw_at lw_m1 65 rfl) rfl
theorem q477 : (Jvm.Cond.fieldLink "java/util/AbstractList" (7 : Nat) "java/util/AbstractList" "modCount" "I") ∈ lw_all := lw_g (lw_at lw_m2 156 rfl) rfl
theorem q486 : (Jvm.Cond.soleField "java/util/AbstractList" "modCount") ∈ lw_all := lw_g (lw_at lw_m2 165 rfl) rfl
/-! java/lang/StringUTF16 -/
set_option maxRecDepth 100000
def RJ10 : String := "java/lang/StringUTF16"
abbrev cJ10_newBytesFor : ByteArray := prog_35_method_2_code
def yJ10_newBytesFor : MethodName := ⟨RJ10, "newBytesFor", "(I)[B"⟩
abbrev cJ10_newBytesLength : ByteArray := prog_35_method_3_code
def yJ10_newBytesLength : MethodName := ⟨RJ10, "newBytesLength", "(I)I"⟩
abbrev cJ10_putCharsAt : ByteArray := prog_35_method_81_code
def yJ10_putCharsAt : MethodName := ⟨RJ10, "putCharsAt", "([BICCCC)I"⟩
abbrev cJ10_checkBoundsBeginEnd : ByteArray := prog_35_method_93_code
def yJ10_checkBoundsBeginEnd : MethodName := ⟨RJ10, "checkBoundsBeginEnd", "(II[B)V"⟩
abbrev cJ10_length : ByteArray := prog_35_method_6_code
def yJ10_length : MethodName := ⟨RJ10, "length", "([B)I"⟩
abbrev cJ10_putChar : ByteArray := prog_35_method_4_code
def yJ10_putChar : MethodName := ⟨RJ10, "putChar", "([BII)V"⟩
abbrev cJ10_inflate : ByteArray := prog_35_method_86_code
def yJ10_inflate : MethodName := ⟨RJ10, "inflate", "([BI[BII)V"⟩
abbrev cJ10_checkBoundsOffCount : ByteArray := prog_35_method_94_code
def yJ10_checkBoundsOffCount : MethodName := ⟨RJ10, "checkBoundsOffCount", "(II[B)V"⟩
abbrev cJ10_getChars : ByteArray := prog_35_method_77_code
def yJ10_getChars : MethodName := ⟨RJ10, "getChars", "(III[B)I"⟩
abbrev cJ10_getChars_2 : ByteArray := prog_35_method_89_code
def yJ10_getChars_2 : MethodName := ⟨RJ10, "getChars", "(II[B)I"⟩
abbrev cJ10_compress : ByteArray := prog_35_method_17_code
def yJ10_compress : MethodName := ⟨RJ10, "compress", "([BII)[B"⟩
abbrev cJ10_compress_2 : ByteArray := prog_35_method_22_code
def yJ10_compress_2 : MethodName := ⟨RJ10, "compress", "([BI[BII)I"⟩
abbrev cJ10_getChar : ByteArray := prog_35_method_5_code
def yJ10_getChar : MethodName := ⟨RJ10, "getChar", "([BI)C"⟩
abbrev cJ10_coderFromArrayLen : ByteArray := prog_35_method_15_code
def yJ10_coderFromArrayLen : MethodName := ⟨RJ10, "coderFromArrayLen", "([BI)B"⟩
abbrev cJ10_putCharSB : ByteArray := prog_35_method_71_code
def yJ10_putCharSB : MethodName := ⟨RJ10, "putCharSB", "([BII)V"⟩
abbrev cJ10_checkIndex : ByteArray := prog_35_method_91_code
def yJ10_checkIndex : MethodName := ⟨RJ10, "checkIndex", "(I[B)V"⟩
abbrev cJ10_hashCode : ByteArray := prog_35_method_39_code
def yJ10_hashCode : MethodName := ⟨RJ10, "hashCode", "([B)I"⟩
abbrev cJ10_charAt : ByteArray := prog_35_method_83_code
def yJ10_charAt : MethodName := ⟨RJ10, "charAt", "([BI)C"⟩
theorem q95 : (Jvm.Cond.initialized "java/lang/StringUTF16") ∈ lw_all := lw_g (lw_at lw_m1 14 rfl) rfl
theorem q212 : (Jvm.Cond.static ({ cls := "java/lang/StringUTF16", name := "newBytesFor", desc := "(I)[B" } : Jvm.MethodName)) ∈ lw_all := lw_g (lw_at lw_m1 131 rfl) rfl
theorem q213 : (Jvm.Cond.code ({ cls := "java/lang/StringUTF16", name := "newBytesFor", desc := "(I)[B" } : Jvm.MethodName) prog_35_method_2_code (1 : Nat) (Option.some (Jvm.ClassFile.FieldType.array Jvm.ClassFile.FieldType.byte))) ∈ lw_all := lw_g (lw_at lw_m1 132 rfl) rfl
theorem q214 : (Jvm.Cond.methodLink "java/lang/StringUTF16" (11 : Nat) ({ cls := "java/lang/StringUTF16", name := "newBytesLength", desc := "(I)I" } : Jvm.MethodName)) ∈ lw_all := lw_g (lw_at lw_m1 133 rfl) rfl
theorem q215 : (Jvm.Cond.static ({ cls := "java/lang/StringUTF16", name := "newBytesLength", desc := "(I)I" } : Jvm.MethodName)) ∈ lw_all := lw_g (lw_at lw_m1 134 rfl) rfl
theorem q216 : (Jvm.Cond.code ({ cls := "java/lang/StringUTF16", name := "newBytesLength", desc := "(I)I" } : Jvm.MethodName) prog_35_method_3_code (1 : Nat) (Option.some Jvm.ClassFile.FieldType.int)) ∈ lw_all := lw_g (lw_at lw_m1 135 rfl) rfl
theorem q217 : (Jvm.Cond.constant "java/lang/StringUTF16" (20 : Nat) (1073741823 : Int32)) ∈ lw_all := lw_g (lw_at lw_m1 136 rfl) rfl
theorem q285 : (Jvm.Cond.static ({ cls := "java/lang/StringUTF16", name := "putCharsAt", desc := "([BICCCC)I" } : Jvm.MethodName)) ∈ lw_all := lw_g (lw_at lw_m1 204 rfl) rfl
theorem q286 : (Jvm.Cond.code ({ cls := "java/lang/StringUTF16", name := "putCharsAt", desc := "([BICCCC)I" } : Jvm.MethodName) prog_35_method_81_code (7 : Nat) (Option.some Jvm.ClassFile.FieldType.int)) ∈ lw_all := lw_g (lw_at lw_m1 205 rfl) rfl
theorem q287 : (Jvm.Cond.methodLink "java/lang/StringUTF16" (96 : Nat) ({ cls := "java/lang/StringUTF16", name := "checkBoundsBeginEnd", desc := "(II[B)V" } : Jvm.MethodName)) ∈ lw_all := lw_g (lw_at lw_m1 206 rfl) rfl
theorem q288 : (Jvm.Cond.static ({ cls := "java/lang/StringUTF16", name := "checkBoundsBeginEnd", desc := "(II[B)V" } : Jvm.MethodName)) ∈ lw_all := lw_g (lw_at lw_m1 207 rfl) rfl
theorem q289 : (Jvm.Cond.code ({ cls := "java/lang/StringUTF16", name := "checkBoundsBeginEnd", desc := "(II[B)V" } : Jvm.MethodName) prog_35_method_93_code (3 : Nat) (Option.none : Option Jvm.ClassFile.FieldType)) ∈ lw_all := lw_g (lw_at lw_m1 208 rfl) rfl
theorem q290 : (Jvm.Cond.methodLink "java/lang/StringUTF16" (48 : Nat) ({ cls := "java/lang/StringUTF16", name := "length", desc := "([B)I" } : Jvm.MethodName)) ∈ lw_all := lw_g (lw_at lw_m1 209 rfl) rfl
theorem q291 : (Jvm.Cond.static ({ cls := "java/lang/StringUTF16", name := "length", desc := "([B)I" } : Jvm.MethodName)) ∈ lw_all := lw_g (lw_at lw_m1 210 rfl) rfl
theorem q292 : (Jvm.Cond.code ({ cls := "java/lang/StringUTF16", name := "length", desc := "([B)I" } : Jvm.MethodName) prog_35_method_6_code (1 : Nat) (Option.some Jvm.ClassFile.FieldType.int)) ∈ lw_all := lw_g (lw_at lw_m1 211 rfl) rfl
theorem q293 : (Jvm.Cond.methodLink "java/lang/StringUTF16" (241 : Nat) ({ cls := "java/lang/String", name := "checkBoundsBeginEnd", desc := "(III)V" } : Jvm.MethodName)) ∈ lw_all := lw_g (lw_at lw_m1 212 rfl) rfl
theorem q301 : (Jvm.Cond.methodLink "java/lang/StringUTF16" (111 : Nat) ({ cls := "java/lang/StringUTF16", name := "putChar", desc := "([BII)V" } : Jvm.MethodName)) ∈ lw_all := lw_g (lw_at lw_m1 220 rfl) rfl
theorem q302 : (Jvm.Cond.static ({ cls := "java/lang/StringUTF16", name := "putChar", desc := "([BII)V" } : Jvm.MethodName)) ∈ lw_all := lw_g (lw_at lw_m1 221 rfl) rfl
theorem q303 : (Jvm.Cond.code ({ cls := "java/lang/StringUTF16", name := "putChar", desc := "([BII)V" } : Jvm.MethodName) prog_35_method_4_code (3 : Nat) (Option.none : Option Jvm.ClassFile.FieldType)) ∈ lw_all := lw_g (lw_at lw_m1 222 rfl) rfl
theorem q304 : (Jvm.Cond.fieldLink "java/lang/StringUTF16" (44 : Nat) "java/lang/StringUTF16" "$assertionsDisabled" "Z") ∈ lw_all := lw_g (lw_at lw_m1 223 rfl) rfl
theorem q305 : (Jvm.Cond.laysStatic "java/lang/StringUTF16" "$assertionsDisabled" "Z") ∈ lw_tbl := lw_at lw_m1 224 rfl
theorem q306 : (Jvm.Cond.fieldLink "java/lang/StringUTF16" (59 : Nat) "java/lang/StringUTF16" "HI_BYTE_SHIFT" "I") ∈ lw_all := lw_g (lw_at lw_m1 225 rfl) rfl
theorem q307 : (Jvm.Cond.laysStatic "java/lang/StringUTF16" "HI_BYTE_SHIFT" "I") ∈ lw_tbl := lw_at lw_m1 226 rfl
theorem q308 : (Jvm.Cond.fieldLink "java/lang/StringUTF16" (63 : Nat) "java/lang/StringUTF16" "LO_BYTE_SHIFT" "I") ∈ lw_all := lw_g (lw_at lw_m1 227 rfl) rfl
theorem q309 : (Jvm.Cond.laysStatic "java/lang/StringUTF16" "LO_BYTE_SHIFT" "I") ∈ lw_tbl := lw_at lw_m1 228 rfl
theorem q336 : (Jvm.Cond.static ({ cls := "java/lang/StringUTF16", name := "inflate", desc := "([BI[BII)V" } : Jvm.MethodName)) ∈ lw_all := lw_g (lw_at lw_m2 15 rfl) rfl
theorem q337 : (Jvm.Cond.code ({ cls := "java/lang/StringUTF16", name := "inflate", desc := "([BI[BII)V" } : Jvm.MethodName) prog_35_method_86_code (6 : Nat) (Option.none : Option Jvm.ClassFile.FieldType)) ∈ lw_all := lw_g (lw_at lw_m2 16 rfl) rfl
theorem q338 : (Jvm.Cond.methodLink "java/lang/StringUTF16" (173 : Nat) ({ cls := "java/lang/StringUTF16", name := "checkBoundsOffCount", desc := "(II[B)V" } : Jvm.MethodName)) ∈ lw_all := lw_g (lw_at lw_m2 17 rfl) rfl
theorem q339 : (Jvm.Cond.static ({ cls := "java/lang/StringUTF16", name := "checkBoundsOffCount", desc := "(II[B)V" } : Jvm.MethodName)) ∈ lw_all := lw_g (lw_at lw_m2 18 rfl) rfl
theorem q340 : (Jvm.Cond.code ({ cls := "java/lang/StringUTF16", name := "checkBoundsOffCount", desc := "(II[B)V" } : Jvm.MethodName) prog_35_method_94_code (3 : Nat) (Option.none : Option Jvm.ClassFile.FieldType)) ∈ lw_all := lw_g (lw_at lw_m2 19 rfl) rfl
theorem q341 : (Jvm.Cond.methodLink "java/lang/StringUTF16" (419 : Nat) ({ cls := "java/lang/String", name := "checkBoundsOffCount", desc := "(III)I" } : Jvm.MethodName)) ∈ lw_all := lw_g (lw_at lw_m2 20 rfl) rfl
theorem q371 : (Jvm.Cond.static ({ cls := "java/lang/StringUTF16", name := "getChars", desc := "(III[B)I" } : Jvm.MethodName)) ∈ lw_all := lw_g (lw_at lw_m2 50 rfl) rfl
theorem q372 : (Jvm.Cond.code ({ cls := "java/lang/StringUTF16", name := "getChars", desc := "(III[B)I" } : Jvm.MethodName) prog_35_method_77_code (5 : Nat) (Option.some Jvm.ClassFile.FieldType.int)) ∈ lw_all := lw_g (lw_at lw_m2 51 rfl) rfl
theorem q373 : (Jvm.Cond.methodLink "java/lang/StringUTF16" (393 : Nat) ({ cls := "java/lang/StringUTF16", name := "getChars", desc := "(II[B)I" } : Jvm.MethodName)) ∈ lw_all := lw_g (lw_at lw_m2 52 rfl) rfl
theorem q374 : (Jvm.Cond.static ({ cls := "java/lang/StringUTF16", name := "getChars", desc := "(II[B)I" } : Jvm.MethodName)) ∈ lw_all := lw_g (lw_at lw_m2 53 rfl) rfl
theorem q375 : (Jvm.Cond.code ({ cls := "java/lang/StringUTF16", name := "getChars", desc := "(II[B)I" } : Jvm.MethodName) prog_35_method_89_code (7 : Nat) (Option.some Jvm.ClassFile.FieldType.int)) ∈ lw_all := lw_g (lw_at lw_m2 54 rfl) rfl
theorem q376 : (Jvm.Cond.fieldLink "java/lang/StringUTF16" (403 : Nat) "java/lang/Integer" "DigitOnes" "[B") ∈ lw_all := lw_g (lw_at lw_m2 55 rfl) rfl
theorem q377 : (Jvm.Cond.fieldLink "java/lang/StringUTF16" (407 : Nat) "java/lang/Integer" "DigitTens" "[B") ∈ lw_all := lw_g (lw_at lw_m2 56 rfl) rfl
theorem q447 : (Jvm.Cond.static ({ cls := "java/lang/StringUTF16", name := "compress", desc := "([BII)[B" } : Jvm.MethodName)) ∈ lw_all := lw_g (lw_at lw_m2 126 rfl) rfl
theorem q448 : (Jvm.Cond.code ({ cls := "java/lang/StringUTF16", name := "compress", desc := "([BII)[B" } : Jvm.MethodName) prog_35_method_17_code (6 : Nat) (Option.some (Jvm.ClassFile.FieldType.array Jvm.ClassFile.FieldType.byte))) ∈ lw_all := lw_g (lw_at lw_m2 127 rfl) rfl
theorem q449 : (Jvm.Cond.methodLink "java/lang/StringUTF16" (123 : Nat) ({ cls := "java/lang/StringUTF16", name := "compress", desc := "([BI[BII)I" } : Jvm.MethodName)) ∈ lw_all := lw_g (lw_at lw_m2 128 rfl) rfl
theorem q450 : (Jvm.Cond.static ({ cls := "java/lang/StringUTF16", name := "compress", desc := "([BI[BII)I" } : Jvm.MethodName)) ∈ lw_all := lw_g (lw_at lw_m2 129 rfl) rfl
theorem q451 : (Jvm.Cond.code ({ cls := "java/lang/StringUTF16", name := "compress", desc := "([BI[BII)I" } : Jvm.MethodName) prog_35_method_22_code (7 : Nat) (Option.some Jvm.ClassFile.FieldType.int)) ∈ lw_all := lw_g (lw_at lw_m2 130 rfl) rfl
theorem q452 : (Jvm.Cond.methodLink "java/lang/StringUTF16" (71 : Nat) ({ cls := "java/lang/StringUTF16", name := "getChar", desc := "([BI)C" } : Jvm.MethodName)) ∈ lw_all := lw_g (lw_at lw_m2 131 rfl) rfl
theorem q453 : (Jvm.Cond.static ({ cls := "java/lang/StringUTF16", name := "getChar", desc := "([BI)C" } : Jvm.MethodName)) ∈ lw_all := lw_g (lw_at lw_m2 132 rfl) rfl
theorem q454 : (Jvm.Cond.code ({ cls := "java/lang/StringUTF16", name := "getChar", desc := "([BI)C" } : Jvm.MethodName) prog_35_method_5_code (2 : Nat) (Option.some Jvm.ClassFile.FieldType.char)) ∈ lw_all := lw_g (lw_at lw_m2 133 rfl) rfl
theorem q455 : (Jvm.Cond.methodLink "java/lang/StringUTF16" (126 : Nat) ({ cls := "java/util/Arrays", name := "copyOfRange", desc := "([BII)[B" } : Jvm.MethodName)) ∈ lw_all := lw_g (lw_at lw_m2 134 rfl) rfl
theorem q457 : (Jvm.Cond.static ({ cls := "java/lang/StringUTF16", name := "coderFromArrayLen", desc := "([BI)B" } : Jvm.MethodName)) ∈ lw_all := lw_g (lw_at lw_m2 136 rfl) rfl
theorem q458 : (Jvm.Cond.code ({ cls := "java/lang/StringUTF16", name := "coderFromArrayLen", desc := "([BI)B" } : Jvm.MethodName) prog_35_method_15_code (2 : Nat) (Option.some Jvm.ClassFile.FieldType.byte)) ∈ lw_all := lw_g (lw_at lw_m2 137 rfl) rfl
theorem q1130 : (Jvm.Cond.static ({ cls := "java/lang/StringUTF16", name := "putCharSB", desc := "([BII)V" } : Jvm.MethodName)) ∈ lw_all := lw_g (lw_at lw_m5 89 rfl) rfl
theorem q1131 : (Jvm.Cond.code ({ cls := "java/lang/StringUTF16", name := "putCharSB", desc := "([BII)V" } : Jvm.MethodName) prog_35_method_71_code (3 : Nat) (Option.none : Option Jvm.ClassFile.FieldType)) ∈ lw_all := lw_g (lw_at lw_m5 90 rfl) rfl
theorem q1132 : (Jvm.Cond.methodLink "java/lang/StringUTF16" (67 : Nat) ({ cls := "java/lang/StringUTF16", name := "checkIndex", desc := "(I[B)V" } : Jvm.MethodName)) ∈ lw_all := lw_g (lw_at lw_m5 91 rfl) rfl
theorem q1133 : (Jvm.Cond.static ({ cls := "java/lang/StringUTF16", name := "checkIndex", desc := "(I[B)V" } : Jvm.MethodName)) ∈ lw_all := lw_g (lw_at lw_m5 92 rfl) rfl
theorem q1134 : (Jvm.Cond.code ({ cls := "java/lang/StringUTF16", name := "checkIndex", desc := "(I[B)V" } : Jvm.MethodName) prog_35_method_91_code (2 : Nat) (Option.none : Option Jvm.ClassFile.FieldType)) ∈ lw_all := lw_g (lw_at lw_m5 93 rfl) rfl
theorem q1135 : (Jvm.Cond.methodLink "java/lang/StringUTF16" (414 : Nat) ({ cls := "java/lang/String", name := "checkIndex", desc := "(II)V" } : Jvm.MethodName)) ∈ lw_all := lw_g (lw_at lw_m5 94 rfl) rfl
theorem q1371 : (Jvm.Cond.static ({ cls := "java/lang/StringUTF16", name := "hashCode", desc := "([B)I" } : Jvm.MethodName)) ∈ lw_all := lw_g (lw_at lw_m6 90 rfl) rfl
theorem q1372 : (Jvm.Cond.code ({ cls := "java/lang/StringUTF16", name := "hashCode", desc := "([B)I" } : Jvm.MethodName) prog_35_method_39_code (1 : Nat) (Option.some Jvm.ClassFile.FieldType.int)) ∈ lw_all := lw_g (lw_at lw_m6 91 rfl) rfl
theorem q1373 : (Jvm.Cond.methodLink "java/lang/StringUTF16" (220 : Nat) ({ cls := "jdk/internal/util/ArraysSupport", name := "vectorizedHashCode", desc := "(Ljava/lang/Object;IIII)I" } : Jvm.MethodName)) ∈ lw_all := lw_g (lw_at lw_m6 92 rfl) rfl
theorem q1996 : (Jvm.Cond.static ({ cls := "java/lang/StringUTF16", name := "charAt", desc := "([BI)C" } : Jvm.MethodName)) ∈ lw_all := lw_g (lw_at lw_m8 235 rfl) rfl
theorem q1997 : (Jvm.Cond.code ({ cls := "java/lang/StringUTF16", name := "charAt", desc := "([BI)C" } : Jvm.MethodName) prog_35_method_83_code (2 : Nat) (Option.some Jvm.ClassFile.FieldType.char)) ∈ lw_all := lw_g (lw_at lw_m8 236 rfl) rfl
/-! jdk/internal/util/ArraysSupport -/
set_option maxRecDepth 100000
def RJ11 : String := "jdk/internal/util/ArraysSupport"
abbrev cJ11_newLength : ByteArray := prog_57_method_27_code
def yJ11_newLength : MethodName := ⟨RJ11, "newLength", "(III)I"⟩
abbrev cJ11_hugeLength : ByteArray := prog_57_method_28_code
def yJ11_hugeLength : MethodName := ⟨RJ11, "hugeLength", "(II)I"⟩
abbrev cJ11_vectorizedHashCode : ByteArray := prog_57_method_4_code
def yJ11_vectorizedHashCode : MethodName := ⟨RJ11, "vectorizedHashCode", "(Ljava/lang/Object;IIII)I"⟩
abbrev cJ11_signedHashCode : ByteArray := prog_57_method_5_code
def yJ11_signedHashCode : MethodName := ⟨RJ11, "signedHashCode", "(I[BII)I"⟩
abbrev cJ11_utf16hashCode : ByteArray := prog_57_method_10_code
def yJ11_utf16hashCode : MethodName := ⟨RJ11, "utf16hashCode", "(I[BII)I"⟩
abbrev cJ11_hashCode : ByteArray := prog_57_method_7_code
def yJ11_hashCode : MethodName := ⟨RJ11, "hashCode", "(I[CII)I"⟩
abbrev cJ11_hashCode_2 : ByteArray := prog_57_method_6_code
def yJ11_hashCode_2 : MethodName := ⟨RJ11, "hashCode", "(I[BII)I"⟩
abbrev cJ11_hashCode_3 : ByteArray := prog_57_method_8_code
def yJ11_hashCode_3 : MethodName := ⟨RJ11, "hashCode", "(I[SII)I"⟩
abbrev cJ11_hashCode_4 : ByteArray := prog_57_method_9_code
def yJ11_hashCode_4 : MethodName := ⟨RJ11, "hashCode", "(I[III)I"⟩
theorem q96 : (Jvm.Cond.initialized "jdk/internal/util/ArraysSupport") ∈ lw_all := lw_g (lw_at lw_m1 15 rfl) rfl
theorem q253 : (Jvm.Cond.static ({ cls := "jdk/internal/util/ArraysSupport", name := "newLength", desc := "(III)I" } : Jvm.MethodName)) ∈ lw_all := lw_g (lw_at lw_m1 172 rfl) rfl
theorem q254 : (Jvm.Cond.code ({ cls := "jdk/internal/util/ArraysSupport", name := "newLength", desc := "(III)I" } : Jvm.MethodName) prog_57_method_27_code (4 : Nat) (Option.some Jvm.ClassFile.FieldType.int)) ∈ lw_all := lw_g (lw_at lw_m1 173 rfl) rfl
theorem q255 : (Jvm.Cond.methodLink "jdk/internal/util/ArraysSupport" (194 : Nat) ({ cls := "java/lang/Math", name := "max", desc := "(II)I" } : Jvm.MethodName)) ∈ lw_all := lw_g (lw_at lw_m1 174 rfl) rfl
theorem q258 : (Jvm.Cond.constant "jdk/internal/util/ArraysSupport" (200 : Nat) (2147483639 : Int32)) ∈ lw_all := lw_g (lw_at lw_m1 177 rfl) rfl
theorem q259 : (Jvm.Cond.methodLink "jdk/internal/util/ArraysSupport" (201 : Nat) ({ cls := "jdk/internal/util/ArraysSupport", name := "hugeLength", desc := "(II)I" } : Jvm.MethodName)) ∈ lw_all := lw_g (lw_at lw_m1 178 rfl) rfl
theorem q260 : (Jvm.Cond.static ({ cls := "jdk/internal/util/ArraysSupport", name := "hugeLength", desc := "(II)I" } : Jvm.MethodName)) ∈ lw_all := lw_g (lw_at lw_m1 179 rfl) rfl
theorem q261 : (Jvm.Cond.code ({ cls := "jdk/internal/util/ArraysSupport", name := "hugeLength", desc := "(II)I" } : Jvm.MethodName) prog_57_method_28_code (3 : Nat) (Option.some Jvm.ClassFile.FieldType.int)) ∈ lw_all := lw_g (lw_at lw_m1 180 rfl) rfl
theorem q1325 : (Jvm.Cond.static ({ cls := "jdk/internal/util/ArraysSupport", name := "vectorizedHashCode", desc := "(Ljava/lang/Object;IIII)I" } : Jvm.MethodName)) ∈ lw_all := lw_g (lw_at lw_m6 44 rfl) rfl
theorem q1326 : (Jvm.Cond.code ({ cls := "jdk/internal/util/ArraysSupport", name := "vectorizedHashCode", desc := "(Ljava/lang/Object;IIII)I" } : Jvm.MethodName) prog_57_method_4_code (5 : Nat) (Option.some Jvm.ClassFile.FieldType.int)) ∈ lw_all := lw_g (lw_at lw_m6 45 rfl) rfl
theorem q1327 : (Jvm.Cond.classLink "jdk/internal/util/ArraysSupport" (60 : Nat) "[B") ∈ lw_all := lw_g (lw_at lw_m6 46 rfl) rfl
theorem q1328 : (Jvm.Cond.methodLink "jdk/internal/util/ArraysSupport" (62 : Nat) ({ cls := "jdk/internal/util/ArraysSupport", name := "signedHashCode", desc := "(I[BII)I" } : Jvm.MethodName)) ∈ lw_all := lw_g (lw_at lw_m6 47 rfl) rfl
theorem q1329 : (Jvm.Cond.static ({ cls := "jdk/internal/util/ArraysSupport", name := "signedHashCode", desc := "(I[BII)I" } : Jvm.MethodName)) ∈ lw_all := lw_g (lw_at lw_m6 48 rfl) rfl
theorem q1330 : (Jvm.Cond.code ({ cls := "jdk/internal/util/ArraysSupport", name := "signedHashCode", desc := "(I[BII)I" } : Jvm.MethodName) prog_57_method_5_code (6 : Nat) (Option.some Jvm.ClassFile.FieldType.int)) ∈ lw_all := lw_g (lw_at lw_m6 49 rfl) rfl
theorem q1331 : (Jvm.Cond.methodLink "jdk/internal/util/ArraysSupport" (66 : Nat) ({ cls := "jdk/internal/util/ArraysSupport", name := "utf16hashCode", desc := "(I[BII)I" } : Jvm.MethodName)) ∈ lw_all := lw_g (lw_at lw_m6 50 rfl) rfl
theorem q1332 : (Jvm.Cond.static ({ cls := "jdk/internal/util/ArraysSupport", name := "utf16hashCode", desc := "(I[BII)I" } : Jvm.MethodName)) ∈ lw_all := lw_g (lw_at lw_m6 51 rfl) rfl
theorem q1333 : (Jvm.Cond.code ({ cls := "jdk/internal/util/ArraysSupport", name := "utf16hashCode", desc := "(I[BII)I" } : Jvm.MethodName) prog_57_method_10_code (6 : Nat) (Option.some Jvm.ClassFile.FieldType.int)) ∈ lw_all := lw_g (lw_at lw_m6 52 rfl) rfl
theorem q1334 : (Jvm.Cond.fieldLink "jdk/internal/util/ArraysSupport" (106 : Nat) "jdk/internal/util/ArraysSupport" "JLA" "Ljdk/internal/access/JavaLangAccess;") ∈ lw_all := lw_g (lw_at lw_m6 53 rfl) rfl
theorem q1335 : (Jvm.Cond.laysStatic "jdk/internal/util/ArraysSupport" "JLA" "Ljdk/internal/access/JavaLangAccess;") ∈ lw_tbl := lw_at lw_m6 54 rfl
theorem q1336 : (Jvm.Cond.interfaceEntry "jdk/internal/util/ArraysSupport" (110 : Nat)) ∈ lw_tbl := lw_at lw_m6 55 rfl
theorem q1337 : (Jvm.Cond.methodLink "jdk/internal/util/ArraysSupport" (110 : Nat) ({ cls := "jdk/internal/access/JavaLangAccess", name := "getUTF16Char", desc := "([BI)C" } : Jvm.MethodName)) ∈ lw_all := lw_g (lw_at lw_m6 56 rfl) rfl
theorem q1347 : (Jvm.Cond.classLink "jdk/internal/util/ArraysSupport" (69 : Nat) "[C") ∈ lw_all := lw_g (lw_at lw_m6 66 rfl) rfl
theorem q1348 : (Jvm.Cond.methodLink "jdk/internal/util/ArraysSupport" (71 : Nat) ({ cls := "jdk/internal/util/ArraysSupport", name := "hashCode", desc := "(I[CII)I" } : Jvm.MethodName)) ∈ lw_all := lw_g (lw_at lw_m6 67 rfl) rfl
theorem q1349 : (Jvm.Cond.static ({ cls := "jdk/internal/util/ArraysSupport", name := "hashCode", desc := "(I[CII)I" } : Jvm.MethodName)) ∈ lw_all := lw_g (lw_at lw_m6 68 rfl) rfl
theorem q1350 : (Jvm.Cond.code ({ cls := "jdk/internal/util/ArraysSupport", name := "hashCode", desc := "(I[CII)I" } : Jvm.MethodName) prog_57_method_7_code (6 : Nat) (Option.some Jvm.ClassFile.FieldType.int)) ∈ lw_all := lw_g (lw_at lw_m6 69 rfl) rfl
theorem q1351 : (Jvm.Cond.methodLink "jdk/internal/util/ArraysSupport" (75 : Nat) ({ cls := "jdk/internal/util/ArraysSupport", name := "hashCode", desc := "(I[BII)I" } : Jvm.MethodName)) ∈ lw_all := lw_g (lw_at lw_m6 70 rfl) rfl
theorem q1352 : (Jvm.Cond.static ({ cls := "jdk/internal/util/ArraysSupport", name := "hashCode", desc := "(I[BII)I" } : Jvm.MethodName)) ∈ lw_all := lw_g (lw_at lw_m6 71 rfl) rfl
theorem q1353 : (Jvm.Cond.code ({ cls := "jdk/internal/util/ArraysSupport", name := "hashCode", desc := "(I[BII)I" } : Jvm.MethodName) prog_57_method_6_code (6 : Nat) (Option.some Jvm.ClassFile.FieldType.int)) ∈ lw_all := lw_g (lw_at lw_m6 72 rfl) rfl
theorem q1354 : (Jvm.Cond.classLink "jdk/internal/util/ArraysSupport" (77 : Nat) "[S") ∈ lw_all := lw_g (lw_at lw_m6 73 rfl) rfl
theorem q1355 : (Jvm.Cond.methodLink "jdk/internal/util/ArraysSupport" (79 : Nat) ({ cls := "jdk/internal/util/ArraysSupport", name := "hashCode", desc := "(I[SII)I" } : Jvm.MethodName)) ∈ lw_all := lw_g (lw_at lw_m6 74 rfl) rfl
theorem q1356 : (Jvm.Cond.static ({ cls := "jdk/internal/util/ArraysSupport", name := "hashCode", desc := "(I[SII)I" } : Jvm.MethodName)) ∈ lw_all := lw_g (lw_at lw_m6 75 rfl) rfl
theorem q1357 : (Jvm.Cond.code ({ cls := "jdk/internal/util/ArraysSupport", name := "hashCode", desc := "(I[SII)I" } : Jvm.MethodName) prog_57_method_8_code (6 : Nat) (Option.some Jvm.ClassFile.FieldType.int)) ∈ lw_all := lw_g (lw_at lw_m6 76 rfl) rfl
theorem q1358 : (Jvm.Cond.classLink "jdk/internal/util/ArraysSupport" (82 : Nat) "[I") ∈ lw_all := lw_g (lw_at lw_m6 77 rfl) rfl
theorem q1359 : (Jvm.Cond.methodLink "jdk/internal/util/ArraysSupport" (84 : Nat) ({ cls := "jdk/internal/util/ArraysSupport", name := "hashCode", desc := "(I[III)I" } : Jvm.MethodName)) ∈ lw_all := lw_g (lw_at lw_m6 78 rfl) rfl
theorem q1360 : (Jvm.Cond.static ({ cls := "jdk/internal/util/ArraysSupport", name := "hashCode", desc := "(I[III)I" } : Jvm.MethodName)) ∈ lw_all := lw_g (lw_at lw_m6 79 rfl) rfl
theorem q1361 : (Jvm.Cond.code ({ cls := "jdk/internal/util/ArraysSupport", name := "hashCode", desc := "(I[III)I" } : Jvm.MethodName) prog_57_method_9_code (6 : Nat) (Option.some Jvm.ClassFile.FieldType.int)) ∈ lw_all := lw_g (lw_at lw_m6 80 rfl) rfl
theorem q1362 : (Jvm.Cond.classLink "jdk/internal/util/ArraysSupport" (87 : Nat) "java/lang/IllegalArgumentException") ∈ lw_all := lw_g (lw_at lw_m6 81 rfl) rfl
theorem q1363 : (Jvm.Cond.classLink "jdk/internal/util/ArraysSupport" (89 : Nat) "java/lang/StringBuilder") ∈ lw_all := lw_g (lw_at lw_m6 82 rfl) rfl
theorem q1364 : (Jvm.Cond.methodLink "jdk/internal/util/ArraysSupport" (91 : Nat) ({ cls := "java/lang/StringBuilder", name := "<init>", desc := "()V" } : Jvm.MethodName)) ∈ lw_all := lw_g (lw_at lw_m6 83 rfl) rfl
theorem q1365 : (Jvm.Cond.stringRef "jdk/internal/util/ArraysSupport" (92 : Nat) "unrecognized basic type: ") ∈ lw_tbl := lw_at lw_m6 84 rfl
theorem q1366 : (Jvm.Cond.methodLink "jdk/internal/util/ArraysSupport" (94 : Nat) ({ cls := "java/lang/StringBuilder", name := "append", desc := "(Ljava/lang/String;)Ljava/lang/StringBuilder;" } : Jvm.MethodName)) ∈ lw_all := lw_g (lw_at lw_m6 85 rfl) rfl
theorem q1367 : (Jvm.Cond.methodLink "jdk/internal/util/ArraysSupport" (98 : Nat) ({ cls := "java/lang/StringBuilder", name := "append", desc := "(I)Ljava/lang/StringBuilder;" } : Jvm.MethodName)) ∈ lw_all := lw_g (lw_at lw_m6 86 rfl) rfl
theorem q1368 : (Jvm.Cond.methodLink "jdk/internal/util/ArraysSupport" (101 : Nat) ({ cls := "java/lang/StringBuilder", name := "toString", desc := "()Ljava/lang/String;" } : Jvm.MethodName)) ∈ lw_all := lw_g (lw_at lw_m6 87 rfl) rfl
theorem q1369 : (Jvm.Cond.methodLink "jdk/internal/util/ArraysSupport" (105 : Nat) ({ cls := "java/lang/IllegalArgumentException", name := "<init>", desc := "(Ljava/lang/String;)V" } : Jvm.MethodName)) ∈ lw_all := lw_g (lw_at lw_m6 88 rfl) rfl
/-! java/lang/Math -/
set_option maxRecDepth 100000
def RJ12 : String := "java/lang/Math"
abbrev cJ12_max : ByteArray := prog_28_method_65_code
def yJ12_max : MethodName := ⟨RJ12, "max", "(II)I"⟩
abbrev cJ12_min : ByteArray := prog_28_method_69_code
def yJ12_min : MethodName := ⟨RJ12, "min", "(II)I"⟩
theorem q97 : (Jvm.Cond.initialized "java/lang/Math") ∈ lw_all := lw_g (lw_at lw_m1 16 rfl) rfl
theorem q256 : (Jvm.Cond.static ({ cls := "java/lang/Math", name := "max", desc := "(II)I" } : Jvm.MethodName)) ∈ lw_all := lw_g (lw_at lw_m1 175 rfl) rfl
theorem q257 : (Jvm.Cond.code ({ cls := "java/lang/Math", name := "max", desc := "(II)I" } : Jvm.MethodName) prog_28_method_65_code (2 : Nat) (Option.some Jvm.ClassFile.FieldType.int)) ∈ lw_all := lw_g (lw_at lw_m1 176 rfl) rfl
theorem q274 : (Jvm.Cond.static ({ cls := "java/lang/Math", name := "min", desc := "(II)I" } : Jvm.MethodName)) ∈ lw_all := lw_g (lw_at lw_m1 193 rfl) rfl
theorem q275 : (Jvm.Cond.code ({ cls := "java/lang/Math", name := "min", desc := "(II)I" } : Jvm.MethodName) prog_28_method_69_code (2 : Nat) (Option.some Jvm.ClassFile.FieldType.int)) ∈ lw_all := lw_g (lw_at lw_m1 194 rfl) rfl
/-! java/util/Arrays -/
set_option maxRecDepth 100000
def RJ13 : String := "java/util/Arrays"
abbrev cJ13_copyOf : ByteArray := prog_46_method_121_code
def yJ13_copyOf : MethodName := ⟨RJ13, "copyOf", "([BI)[B"⟩
abbrev cJ13_copyOfRange : ByteArray := prog_46_method_132_code
def yJ13_copyOfRange : MethodName := ⟨RJ13, "copyOfRange", "([BII)[B"⟩
abbrev cJ13_copyOfRangeByte : ByteArray := prog_46_method_133_code
def yJ13_copyOfRangeByte : MethodName := ⟨RJ13, "copyOfRangeByte", "([BII)[B"⟩
abbrev cJ13_checkLength : ByteArray := prog_46_method_131_code
def yJ13_checkLength : MethodName := ⟨RJ13, "checkLength", "(II)V"⟩
abbrev cJ13_copyOf_2 : ByteArray := prog_46_method_119_code
def yJ13_copyOf_2 : MethodName := ⟨RJ13, "copyOf", "([Ljava/lang/Object;I)[Ljava/lang/Object;"⟩
abbrev cJ13_copyOf_3 : ByteArray := prog_46_method_120_code
def yJ13_copyOf_3 : MethodName := ⟨RJ13, "copyOf", "([Ljava/lang/Object;ILjava/lang/Class;)[Ljava/lang/Object;"⟩
theorem q98 : (Jvm.Cond.initialized "java/util/Arrays") ∈ lw_all := lw_g (lw_at lw_m1 17 rfl) rfl
theorem q264 : (Jvm.Cond.static ({ cls := "java/util/Arrays", name := "copyOf", desc := "([BI)[B" } : Jvm.MethodName)) ∈ lw_all := lw_g (lw_at lw_m1 183 rfl) rfl
theorem q265 : (Jvm.Cond.code ({ cls := "java/util/Arrays", name := "copyOf", desc := "([BI)[B" } : Jvm.MethodName) prog_46_method_121_code (3 : Nat) (Option.some (Jvm.ClassFile.FieldType.array Jvm.ClassFile.FieldType.byte))) ∈ lw_all := lw_g (lw_at lw_m1 184 rfl) rfl
theorem q266 : (Jvm.Cond.methodLink "java/util/Arrays" (310 : Nat) ({ cls := "[B", name := "clone", desc := "()Ljava/lang/Object;" } : Jvm.MethodName)) ∈ lw_all := lw_g (lw_at lw_m1 185 rfl) rfl
theorem q272 : (Jvm.Cond.classLink "java/util/Arrays" (311 : Nat) "[B") ∈ lw_all := lw_g (lw_at lw_m1 191 rfl) rfl
theorem q273 : (Jvm.Cond.methodLink "java/util/Arrays" (304 : Nat) ({ cls := "java/lang/Math", name := "min", desc := "(II)I" } : Jvm.MethodName)) ∈ lw_all := lw_g (lw_at lw_m1 192 rfl) rfl
theorem q276 : (Jvm.Cond.methodLink "java/util/Arrays" (150 : Nat) ({ cls := "java/lang/System", name := "arraycopy", desc := "(Ljava/lang/Object;ILjava/lang/Object;II)V" } : Jvm.MethodName)) ∈ lw_all := lw_g (lw_at lw_m1 195 rfl) rfl
theorem q406 : (Jvm.Cond.static ({ cls := "java/util/Arrays", name := "copyOfRange", desc := "([BII)[B" } : Jvm.MethodName)) ∈ lw_all := lw_g (lw_at lw_m2 85 rfl) rfl
theorem q407 : (Jvm.Cond.code ({ cls := "java/util/Arrays", name := "copyOfRange", desc := "([BII)[B" } : Jvm.MethodName) prog_46_method_132_code (3 : Nat) (Option.some (Jvm.ClassFile.FieldType.array Jvm.ClassFile.FieldType.byte))) ∈ lw_all := lw_g (lw_at lw_m2 86 rfl) rfl
theorem q408 : (Jvm.Cond.methodLink "java/util/Arrays" (339 : Nat) ({ cls := "java/util/Arrays", name := "copyOfRangeByte", desc := "([BII)[B" } : Jvm.MethodName)) ∈ lw_all := lw_g (lw_at lw_m2 87 rfl) rfl
theorem q409 : (Jvm.Cond.static ({ cls := "java/util/Arrays", name := "copyOfRangeByte", desc := "([BII)[B" } : Jvm.MethodName)) ∈ lw_all := lw_g (lw_at lw_m2 88 rfl) rfl
theorem q410 : (Jvm.Cond.code ({ cls := "java/util/Arrays", name := "copyOfRangeByte", desc := "([BII)[B" } : Jvm.MethodName) prog_46_method_133_code (5 : Nat) (Option.some (Jvm.ClassFile.FieldType.array Jvm.ClassFile.FieldType.byte))) ∈ lw_all := lw_g (lw_at lw_m2 89 rfl) rfl
theorem q411 : (Jvm.Cond.methodLink "java/util/Arrays" (343 : Nat) ({ cls := "java/util/Arrays", name := "checkLength", desc := "(II)V" } : Jvm.MethodName)) ∈ lw_all := lw_g (lw_at lw_m2 90 rfl) rfl
theorem q412 : (Jvm.Cond.static ({ cls := "java/util/Arrays", name := "checkLength", desc := "(II)V" } : Jvm.MethodName)) ∈ lw_all := lw_g (lw_at lw_m2 91 rfl) rfl
theorem q413 : (Jvm.Cond.code ({ cls := "java/util/Arrays", name := "checkLength", desc := "(II)V" } : Jvm.MethodName) prog_46_method_131_code (2 : Nat) (Option.none : Option Jvm.ClassFile.FieldType)) ∈ lw_all := lw_g (lw_at lw_m2 92 rfl) rfl
theorem q414 : (Jvm.Cond.classLink "java/util/Arrays" (43 : Nat) "java/lang/IllegalArgumentException") ∈ lw_all := lw_g (lw_at lw_m2 93 rfl) rfl
theorem q415 : (Jvm.Cond.classLink "java/util/Arrays" (45 : Nat) "java/lang/StringBuilder") ∈ lw_all := lw_g (lw_at lw_m2 94 rfl) rfl
theorem q416 : (Jvm.Cond.methodLink "java/util/Arrays" (47 : Nat) ({ cls := "java/lang/StringBuilder", name := "<init>", desc := "()V" } : Jvm.MethodName)) ∈ lw_all := lw_g (lw_at lw_m2 95 rfl) rfl
theorem q417 : (Jvm.Cond.methodLink "java/util/Arrays" (54 : Nat) ({ cls := "java/lang/StringBuilder", name := "append", desc := "(I)Ljava/lang/StringBuilder;" } : Jvm.MethodName)) ∈ lw_all := lw_g (lw_at lw_m2 96 rfl) rfl
theorem q418 : (Jvm.Cond.stringRef "java/util/Arrays" (337 : Nat) " > ") ∈ lw_tbl := lw_at lw_m2 97 rfl
theorem q419 : (Jvm.Cond.methodLink "java/util/Arrays" (50 : Nat) ({ cls := "java/lang/StringBuilder", name := "append", desc := "(Ljava/lang/String;)Ljava/lang/StringBuilder;" } : Jvm.MethodName)) ∈ lw_all := lw_g (lw_at lw_m2 98 rfl) rfl
theorem q420 : (Jvm.Cond.methodLink "java/util/Arrays" (61 : Nat) ({ cls := "java/lang/StringBuilder", name := "toString", desc := "()Ljava/lang/String;" } : Jvm.MethodName)) ∈ lw_all := lw_g (lw_at lw_m2 99 rfl) rfl
theorem q421 : (Jvm.Cond.methodLink "java/util/Arrays" (65 : Nat) ({ cls := "java/lang/IllegalArgumentException", name := "<init>", desc := "(Ljava/lang/String;)V" } : Jvm.MethodName)) ∈ lw_all := lw_g (lw_at lw_m2 100 rfl) rfl
theorem q918 : (Jvm.Cond.static ({ cls := "java/util/Arrays", name := "copyOf", desc := "([Ljava/lang/Object;I)[Ljava/lang/Object;" } : Jvm.MethodName)) ∈ lw_all := lw_g (lw_at lw_m4 117 rfl) rfl
theorem q919 : (Jvm.Cond.code ({ cls := "java/util/Arrays", name := "copyOf", desc := "([Ljava/lang/Object;I)[Ljava/lang/Object;" } : Jvm.MethodName) prog_46_method_119_code (2 : Nat) (Option.some (Jvm.ClassFile.FieldType.array (Jvm.ClassFile.FieldType.object "java/lang/Object")))) ∈ lw_all := lw_g (lw_at lw_m4 118 rfl) rfl
theorem q920 : (Jvm.Cond.methodLink "java/util/Arrays" (86 : Nat) ({ cls := "java/lang/Object", name := "getClass", desc := "()Ljava/lang/Class;" } : Jvm.MethodName)) ∈ lw_all := lw_g (lw_at lw_m4 119 rfl) rfl
theorem q947 : (Jvm.Cond.methodLink "java/util/Arrays" (300 : Nat) ({ cls := "java/util/Arrays", name := "copyOf", desc := "([Ljava/lang/Object;ILjava/lang/Class;)[Ljava/lang/Object;" } : Jvm.MethodName)) ∈ lw_all := lw_g (lw_at lw_m4 146 rfl) rfl
theorem q948 : (Jvm.Cond.static ({ cls := "java/util/Arrays", name := "copyOf", desc := "([Ljava/lang/Object;ILjava/lang/Class;)[Ljava/lang/Object;" } : Jvm.MethodName)) ∈ lw_all := lw_g (lw_at lw_m4 147 rfl) rfl
theorem q949 : (Jvm.Cond.code ({ cls := "java/util/Arrays", name := "copyOf", desc := "([Ljava/lang/Object;ILjava/lang/Class;)[Ljava/lang/Object;" } : Jvm.MethodName) prog_46_method_120_code (4 : Nat) (Option.some (Jvm.ClassFile.FieldType.array (Jvm.ClassFile.FieldType.object "java/lang/Object")))) ∈ lw_all := lw_g (lw_at lw_m4 148 rfl) rfl
theorem q950 : (Jvm.Cond.classLink "java/util/Arrays" (110 : Nat) "[Ljava/lang/Object;") ∈ lw_all := lw_g (lw_at lw_m4 149 rfl) rfl
theorem q951 : (Jvm.Cond.classLink "java/util/Arrays" (2 : Nat) "java/lang/Object") ∈ lw_all := lw_g (lw_at lw_m4 150 rfl) rfl
/-! jdk/internal/util/Preconditions -/
set_option maxRecDepth 100000
def RJ14 : String := "jdk/internal/util/Preconditions"
abbrev cJ14_checkFromToIndex : ByteArray := prog_58_method_12_code
def yJ14_checkFromToIndex : MethodName := ⟨RJ14, "checkFromToIndex", "(IIILjava/util/function/BiFunction;)I"⟩
abbrev cJ14_checkFromIndexSize : ByteArray := prog_58_method_13_code
def yJ14_checkFromIndexSize : MethodName := ⟨RJ14, "checkFromIndexSize", "(IIILjava/util/function/BiFunction;)I"⟩
abbrev cJ14_checkIndex : ByteArray := prog_58_method_11_code
def yJ14_checkIndex : MethodName := ⟨RJ14, "checkIndex", "(IILjava/util/function/BiFunction;)I"⟩
theorem q100 : (Jvm.Cond.initialized "jdk/internal/util/Preconditions") ∈ lw_all := lw_g (lw_at lw_m1 19 rfl) rfl
theorem q297 : (Jvm.Cond.laysStatic "jdk/internal/util/Preconditions" "SIOOBE_FORMATTER" "Ljava/util/function/BiFunction;") ∈ lw_tbl := lw_at lw_m1 216 rfl
theorem q299 : (Jvm.Cond.static ({ cls := "jdk/internal/util/Preconditions", name := "checkFromToIndex", desc := "(IIILjava/util/function/BiFunction;)I" } : Jvm.MethodName)) ∈ lw_all := lw_g (lw_at lw_m1 218 rfl) rfl
theorem q300 : (Jvm.Cond.code ({ cls := "jdk/internal/util/Preconditions", name := "checkFromToIndex", desc := "(IIILjava/util/function/BiFunction;)I" } : Jvm.MethodName) prog_58_method_12_code (4 : Nat) (Option.some Jvm.ClassFile.FieldType.int)) ∈ lw_all := lw_g (lw_at lw_m1 219 rfl) rfl
theorem q345 : (Jvm.Cond.static ({ cls := "jdk/internal/util/Preconditions", name := "checkFromIndexSize", desc := "(IIILjava/util/function/BiFunction;)I" } : Jvm.MethodName)) ∈ lw_all := lw_g (lw_at lw_m2 24 rfl) rfl
theorem q346 : (Jvm.Cond.code ({ cls := "jdk/internal/util/Preconditions", name := "checkFromIndexSize", desc := "(IIILjava/util/function/BiFunction;)I" } : Jvm.MethodName) prog_58_method_13_code (4 : Nat) (Option.some Jvm.ClassFile.FieldType.int)) ∈ lw_all := lw_g (lw_at lw_m2 25 rfl) rfl
theorem q723 : (Jvm.Cond.static ({ cls := "jdk/internal/util/Preconditions", name := "checkIndex", desc := "(IILjava/util/function/BiFunction;)I" } : Jvm.MethodName)) ∈ lw_all := lw_g (lw_at lw_m3 162 rfl) rfl
theorem q724 : (Jvm.Cond.code ({ cls := "jdk/internal/util/Preconditions", name := "checkIndex", desc := "(IILjava/util/function/BiFunction;)I" } : Jvm.MethodName) prog_58_method_11_code (3 : Nat) (Option.some Jvm.ClassFile.FieldType.int)) ∈ lw_all := lw_g (lw_at lw_m3 163 rfl) rfl
/-! java/lang/StringLatin1 -/
set_option maxRecDepth 100000
def RJ15 : String := "java/lang/StringLatin1"
abbrev cJ15_inflate : ByteArray := prog_34_method_50_code
def yJ15_inflate : MethodName := ⟨RJ15, "inflate", "([BI[BII)V"⟩
abbrev cJ15_canEncode : ByteArray := prog_34_method_3_code
def yJ15_canEncode : MethodName := ⟨RJ15, "canEncode", "(C)Z"⟩
abbrev cJ15_equals : ByteArray := prog_34_method_13_code
def yJ15_equals : MethodName := ⟨RJ15, "equals", "([B[B)Z"⟩
abbrev cJ15_hashCode : ByteArray := prog_34_method_21_code
def yJ15_hashCode : MethodName := ⟨RJ15, "hashCode", "([B)I"⟩
abbrev cJ15_charAt : ByteArray := prog_34_method_2_code
def yJ15_charAt : MethodName := ⟨RJ15, "charAt", "([BI)C"⟩
theorem q101 : (Jvm.Cond.initialized "java/lang/StringLatin1") ∈ lw_all := lw_g (lw_at lw_m1 20 rfl) rfl
theorem q333 : (Jvm.Cond.static ({ cls := "java/lang/StringLatin1", name := "inflate", desc := "([BI[BII)V" } : Jvm.MethodName)) ∈ lw_all := lw_g (lw_at lw_m2 12 rfl) rfl
theorem q334 : (Jvm.Cond.code ({ cls := "java/lang/StringLatin1", name := "inflate", desc := "([BI[BII)V" } : Jvm.MethodName) prog_34_method_50_code (5 : Nat) (Option.none : Option Jvm.ClassFile.FieldType)) ∈ lw_all := lw_g (lw_at lw_m2 13 rfl) rfl
theorem q335 : (Jvm.Cond.methodLink "java/lang/StringLatin1" (240 : Nat) ({ cls := "java/lang/StringUTF16", name := "inflate", desc := "([BI[BII)V" } : Jvm.MethodName)) ∈ lw_all := lw_g (lw_at lw_m2 14 rfl) rfl
theorem q1127 : (Jvm.Cond.static ({ cls := "java/lang/StringLatin1", name := "canEncode", desc := "(C)Z" } : Jvm.MethodName)) ∈ lw_all := lw_g (lw_at lw_m5 86 rfl) rfl
theorem q1128 : (Jvm.Cond.code ({ cls := "java/lang/StringLatin1", name := "canEncode", desc := "(C)Z" } : Jvm.MethodName) prog_34_method_3_code (1 : Nat) (Option.some Jvm.ClassFile.FieldType.boolean)) ∈ lw_all := lw_g (lw_at lw_m5 87 rfl) rfl
theorem q1146 : (Jvm.Cond.static ({ cls := "java/lang/StringLatin1", name := "equals", desc := "([B[B)Z" } : Jvm.MethodName)) ∈ lw_all := lw_g (lw_at lw_m5 105 rfl) rfl
theorem q1147 : (Jvm.Cond.code ({ cls := "java/lang/StringLatin1", name := "equals", desc := "([B[B)Z" } : Jvm.MethodName) prog_34_method_13_code (3 : Nat) (Option.some Jvm.ClassFile.FieldType.boolean)) ∈ lw_all := lw_g (lw_at lw_m5 106 rfl) rfl
theorem q1322 : (Jvm.Cond.static ({ cls := "java/lang/StringLatin1", name := "hashCode", desc := "([B)I" } : Jvm.MethodName)) ∈ lw_all := lw_g (lw_at lw_m6 41 rfl) rfl
theorem q1323 : (Jvm.Cond.code ({ cls := "java/lang/StringLatin1", name := "hashCode", desc := "([B)I" } : Jvm.MethodName) prog_34_method_21_code (1 : Nat) (Option.some Jvm.ClassFile.FieldType.int)) ∈ lw_all := lw_g (lw_at lw_m6 42 rfl) rfl
theorem q1324 : (Jvm.Cond.methodLink "java/lang/StringLatin1" (84 : Nat) ({ cls := "jdk/internal/util/ArraysSupport", name := "vectorizedHashCode", desc := "(Ljava/lang/Object;IIII)I" } : Jvm.MethodName)) ∈ lw_all := lw_g (lw_at lw_m6 43 rfl) rfl
theorem q1992 : (Jvm.Cond.static ({ cls := "java/lang/StringLatin1", name := "charAt", desc := "([BI)C" } : Jvm.MethodName)) ∈ lw_all := lw_g (lw_at lw_m8 231 rfl) rfl
theorem q1993 : (Jvm.Cond.code ({ cls := "java/lang/StringLatin1", name := "charAt", desc := "([BI)C" } : Jvm.MethodName) prog_34_method_2_code (2 : Nat) (Option.some Jvm.ClassFile.FieldType.char)) ∈ lw_all := lw_g (lw_at lw_m8 232 rfl) rfl
theorem q1994 : (Jvm.Cond.methodLink "java/lang/StringLatin1" (9 : Nat) ({ cls := "java/lang/String", name := "checkIndex", desc := "(II)V" } : Jvm.MethodName)) ∈ lw_all := lw_g (lw_at lw_m8 233 rfl) rfl
/-! java/lang/Integer -/
set_option maxRecDepth 100000
def RJ16 : String := "java/lang/Integer"
abbrev cJ16_stringSize : ByteArray := prog_26_method_13_code
def yJ16_stringSize : MethodName := ⟨RJ16, "stringSize", "(I)I"⟩
abbrev cJ16_getChars : ByteArray := prog_26_method_12_code
def yJ16_getChars : MethodName := ⟨RJ16, "getChars", "(II[B)I"⟩
abbrev cJ16_bitCount : ByteArray := prog_26_method_49_code
def yJ16_bitCount : MethodName := ⟨RJ16, "bitCount", "(I)I"⟩
theorem q103 : (Jvm.Cond.initialized "java/lang/Integer") ∈ lw_all := lw_g (lw_at lw_m1 22 rfl) rfl
theorem q361 : (Jvm.Cond.static ({ cls := "java/lang/Integer", name := "stringSize", desc := "(I)I" } : Jvm.MethodName)) ∈ lw_all := lw_g (lw_at lw_m2 40 rfl) rfl
theorem q362 : (Jvm.Cond.code ({ cls := "java/lang/Integer", name := "stringSize", desc := "(I)I" } : Jvm.MethodName) prog_26_method_13_code (4 : Nat) (Option.some Jvm.ClassFile.FieldType.int)) ∈ lw_all := lw_g (lw_at lw_m2 41 rfl) rfl
theorem q364 : (Jvm.Cond.static ({ cls := "java/lang/Integer", name := "getChars", desc := "(II[B)I" } : Jvm.MethodName)) ∈ lw_all := lw_g (lw_at lw_m2 43 rfl) rfl
theorem q365 : (Jvm.Cond.code ({ cls := "java/lang/Integer", name := "getChars", desc := "(II[B)I" } : Jvm.MethodName) prog_26_method_12_code (7 : Nat) (Option.some Jvm.ClassFile.FieldType.int)) ∈ lw_all := lw_g (lw_at lw_m2 44 rfl) rfl
theorem q366 : (Jvm.Cond.fieldLink "java/lang/Integer" (83 : Nat) "java/lang/Integer" "DigitOnes" "[B") ∈ lw_all := lw_g (lw_at lw_m2 45 rfl) rfl
theorem q367 : (Jvm.Cond.laysStatic "java/lang/Integer" "DigitOnes" "[B") ∈ lw_tbl := lw_at lw_m2 46 rfl
theorem q368 : (Jvm.Cond.fieldLink "java/lang/Integer" (87 : Nat) "java/lang/Integer" "DigitTens" "[B") ∈ lw_all := lw_g (lw_at lw_m2 47 rfl) rfl
theorem q369 : (Jvm.Cond.laysStatic "java/lang/Integer" "DigitTens" "[B") ∈ lw_tbl := lw_at lw_m2 48 rfl
theorem q978 : (Jvm.Cond.static ({ cls := "java/lang/Integer", name := "bitCount", desc := "(I)I" } : Jvm.MethodName)) ∈ lw_all := lw_g (lw_at lw_m4 177 rfl) rfl
theorem q979 : (Jvm.Cond.code ({ cls := "java/lang/Integer", name := "bitCount", desc := "(I)I" } : Jvm.MethodName) prog_26_method_49_code (1 : Nat) (Option.some Jvm.ClassFile.FieldType.int)) ∈ lw_all := lw_g (lw_at lw_m4 178 rfl) rfl
theorem q980 : (Jvm.Cond.constant "java/lang/Integer" (265 : Nat) (1431655765 : Int32)) ∈ lw_all := lw_g (lw_at lw_m4 179 rfl) rfl
theorem q981 : (Jvm.Cond.constant "java/lang/Integer" (266 : Nat) (858993459 : Int32)) ∈ lw_all := lw_g (lw_at lw_m4 180 rfl) rfl
theorem q982 : (Jvm.Cond.constant "java/lang/Integer" (267 : Nat) (252645135 : Int32)) ∈ lw_all := lw_g (lw_at lw_m4 181 rfl) rfl
/-! java/util/Objects -/
set_option maxRecDepth 100000
def RJ17 : String := "java/util/Objects"
abbrev cJ17_checkIndex : ByteArray := prog_52_method_17_code
def yJ17_checkIndex : MethodName := ⟨RJ17, "checkIndex", "(II)I"⟩
theorem q106 : (Jvm.Cond.initialized "java/util/Objects") ∈ lw_all := lw_g (lw_at lw_m1 25 rfl) rfl
theorem q720 : (Jvm.Cond.static ({ cls := "java/util/Objects", name := "checkIndex", desc := "(II)I" } : Jvm.MethodName)) ∈ lw_all := lw_g (lw_at lw_m3 159 rfl) rfl
theorem q721 : (Jvm.Cond.code ({ cls := "java/util/Objects", name := "checkIndex", desc := "(II)I" } : Jvm.MethodName) prog_52_method_17_code (2 : Nat) (Option.some Jvm.ClassFile.FieldType.int)) ∈ lw_all := lw_g (lw_at lw_m3 160 rfl) rfl
theorem q722 : (Jvm.Cond.methodLink "java/util/Objects" (105 : Nat) ({ cls := "jdk/internal/util/Preconditions", name := "checkIndex", desc := "(IILjava/util/function/BiFunction;)I" } : Jvm.MethodName)) ∈ lw_all := lw_g (lw_at lw_m3 161 rfl) rfl
/-! java/util/ArrayDeque -/
set_option maxRecDepth 100000
def RJ18 : String := "java/util/ArrayDeque"
def TJ18 : u_T := fun k => match k with
  | 0 => ("java/util/ArrayDeque", "elements", "[Ljava/lang/Object;", false)
  | 1 => ("java/util/ArrayDeque", "head", "I", false)
  | _ => ("java/util/ArrayDeque", "tail", "I", false)
def tyJ18 : Nat → FieldType := fun k => match k with
  | 0 => .array (.object "java/lang/Object")
  | 1 => .int
  | _ => .int
abbrev wsJ180 : List Cond := u_ws RJ18 TJ18 3
theorem nmJ18 : ∀ a, a < 3 → ∀ b, b < 3 → a ≠ b → (TJ18 a).2.1 ≠ (TJ18 b).2.1 := by decide +kernel
theorem tyJ18_ok : ∀ k, k < 3 → parseFieldDescriptor (TJ18 k).2.2.1 = some (tyJ18 k) := by decide +kernel
abbrev cJ18_init : ByteArray := prog_43_method_3_code
def yJ18_init : MethodName := ⟨RJ18, "<init>", "()V"⟩
abbrev cJ18_size : ByteArray := prog_43_method_37_code
def yJ18_size : MethodName := ⟨RJ18, "size", "()I"⟩
abbrev cJ18_sub : ByteArray := prog_43_method_9_code
def yJ18_sub : MethodName := ⟨RJ18, "sub", "(III)I"⟩
abbrev cJ18_removeFirst : ByteArray := prog_43_method_18_code
def yJ18_removeFirst : MethodName := ⟨RJ18, "removeFirst", "()Ljava/lang/Object;"⟩
abbrev cJ18_pollFirst : ByteArray := prog_43_method_20_code
def yJ18_pollFirst : MethodName := ⟨RJ18, "pollFirst", "()Ljava/lang/Object;"⟩
abbrev cJ18_elementAt : ByteArray := prog_43_method_10_code
def yJ18_elementAt : MethodName := ⟨RJ18, "elementAt", "([Ljava/lang/Object;I)Ljava/lang/Object;"⟩
abbrev cJ18_inc : ByteArray := prog_43_method_6_code
def yJ18_inc : MethodName := ⟨RJ18, "inc", "(II)I"⟩
abbrev cJ18_addLast : ByteArray := prog_43_method_13_code
def yJ18_addLast : MethodName := ⟨RJ18, "addLast", "(Ljava/lang/Object;)V"⟩
abbrev cJ18_grow : ByteArray := prog_43_method_1_code
def yJ18_grow : MethodName := ⟨RJ18, "grow", "(I)V"⟩
abbrev cJ18_newCapacity : ByteArray := prog_43_method_2_code
def yJ18_newCapacity : MethodName := ⟨RJ18, "newCapacity", "(II)I"⟩
abbrev cJ18_clear : ByteArray := prog_43_method_53_code
def yJ18_clear : MethodName := ⟨RJ18, "clear", "()V"⟩
abbrev cJ18_circularClear : ByteArray := prog_43_method_54_code
def yJ18_circularClear : MethodName := ⟨RJ18, "circularClear", "([Ljava/lang/Object;II)V"⟩
abbrev cJ18_isEmpty : ByteArray := prog_43_method_38_code
def yJ18_isEmpty : MethodName := ⟨RJ18, "isEmpty", "()Z"⟩
abbrev cJ18_removeLast : ByteArray := prog_43_method_19_code
def yJ18_removeLast : MethodName := ⟨RJ18, "removeLast", "()Ljava/lang/Object;"⟩
abbrev cJ18_pollLast : ByteArray := prog_43_method_21_code
def yJ18_pollLast : MethodName := ⟨RJ18, "pollLast", "()Ljava/lang/Object;"⟩
abbrev cJ18_dec : ByteArray := prog_43_method_7_code
def yJ18_dec : MethodName := ⟨RJ18, "dec", "(II)I"⟩
theorem q107 : (Jvm.Cond.initialized "java/util/ArrayDeque") ∈ lw_all := lw_g (lw_at lw_m1 26 rfl) rfl
theorem q731 : (Jvm.Cond.instantiable "java/util/ArrayDeque" (3 : Nat)) ∈ lw_all := lw_g (lw_at lw_m3 170 rfl) rfl
theorem q733 : (Jvm.Cond.instanceMethod ({ cls := "java/util/ArrayDeque", name := "<init>", desc := "()V" } : Jvm.MethodName)) ∈ lw_all := lw_g (lw_at lw_m3 172 rfl) rfl
theorem q734 : (Jvm.Cond.code ({ cls := "java/util/ArrayDeque", name := "<init>", desc := "()V" } : Jvm.MethodName) prog_43_method_3_code (1 : Nat) (Option.none : Option Jvm.ClassFile.FieldType)) ∈ lw_all := lw_g (lw_at lw_m3 173 rfl) rfl
theorem q735 : (Jvm.Cond.methodLink "java/util/ArrayDeque" (42 : Nat) ({ cls := "java/util/AbstractCollection", name := "<init>", desc := "()V" } : Jvm.MethodName)) ∈ lw_all := lw_g (lw_at lw_m3 174 rfl) rfl
theorem q736 : (Jvm.Cond.classLink "java/util/ArrayDeque" (47 : Nat) "java/lang/Object") ∈ lw_all := lw_g (lw_at lw_m3 175 rfl) rfl
theorem q737 : (Jvm.Cond.fieldLink "java/util/ArrayDeque" (3 : Nat) "java/util/ArrayDeque" "elements" "[Ljava/lang/Object;") ∈ lw_all := lw_g (lw_at lw_m3 176 rfl) rfl
theorem q738 : (Jvm.Cond.fieldLink "java/util/ArrayDeque" (24 : Nat) "java/util/ArrayDeque" "head" "I") ∈ lw_all := lw_g (lw_at lw_m3 177 rfl) rfl
theorem q739 : (Jvm.Cond.fieldLink "java/util/ArrayDeque" (20 : Nat) "java/util/ArrayDeque" "tail" "I") ∈ lw_all := lw_g (lw_at lw_m3 178 rfl) rfl
theorem q740 : (Jvm.Cond.lays "java/util/ArrayDeque" "java/util/ArrayDeque" "elements" "[Ljava/lang/Object;") ∈ lw_all := lw_g (lw_at lw_m3 179 rfl) rfl
theorem q741 : (Jvm.Cond.soleField "java/util/ArrayDeque" "elements") ∈ lw_all := lw_g (lw_at lw_m3 180 rfl) rfl
theorem q742 : (Jvm.Cond.lays "java/util/ArrayDeque" "java/util/ArrayDeque" "head" "I") ∈ lw_all := lw_g (lw_at lw_m3 181 rfl) rfl
theorem q743 : (Jvm.Cond.soleField "java/util/ArrayDeque" "head") ∈ lw_all := lw_g (lw_at lw_m3 182 rfl) rfl
theorem q744 : (Jvm.Cond.lays "java/util/ArrayDeque" "java/util/ArrayDeque" "tail" "I") ∈ lw_all := lw_g (lw_at lw_m3 183 rfl) rfl
theorem q745 : (Jvm.Cond.soleField "java/util/ArrayDeque" "tail") ∈ lw_all := lw_g (lw_at lw_m3 184 rfl) rfl
theorem q746 : (Jvm.Cond.superclass "java/util/ArrayDeque" "java/util/AbstractCollection") ∈ lw_all := lw_g (lw_at lw_m3 185 rfl) rfl
theorem q846 : (Jvm.Cond.instanceMethod ({ cls := "java/util/ArrayDeque", name := "size", desc := "()I" } : Jvm.MethodName)) ∈ lw_all := lw_g (lw_at lw_m4 45 rfl) rfl
theorem q847 : (Jvm.Cond.selects "java/util/ArrayDeque" ({ cls := "java/util/ArrayDeque", name := "size", desc := "()I" } : Jvm.MethodName) ({ cls := "java/util/ArrayDeque", name := "size", desc := "()I" } : Jvm.MethodName)) ∈ lw_all := lw_g (lw_at lw_m4 46 rfl) rfl
theorem q848 : (Jvm.Cond.code ({ cls := "java/util/ArrayDeque", name := "size", desc := "()I" } : Jvm.MethodName) prog_43_method_37_code (1 : Nat) (Option.some Jvm.ClassFile.FieldType.int)) ∈ lw_all := lw_g (lw_at lw_m4 47 rfl) rfl
theorem q849 : (Jvm.Cond.methodLink "java/util/ArrayDeque" (127 : Nat) ({ cls := "java/util/ArrayDeque", name := "sub", desc := "(III)I" } : Jvm.MethodName)) ∈ lw_all := lw_g (lw_at lw_m4 48 rfl) rfl
theorem q850 : (Jvm.Cond.static ({ cls := "java/util/ArrayDeque", name := "sub", desc := "(III)I" } : Jvm.MethodName)) ∈ lw_all := lw_g (lw_at lw_m4 49 rfl) rfl
theorem q851 : (Jvm.Cond.code ({ cls := "java/util/ArrayDeque", name := "sub", desc := "(III)I" } : Jvm.MethodName) prog_43_method_9_code (3 : Nat) (Option.some Jvm.ClassFile.FieldType.int)) ∈ lw_all := lw_g (lw_at lw_m4 50 rfl) rfl
theorem q853 : (Jvm.Cond.instanceMethod ({ cls := "java/util/ArrayDeque", name := "removeFirst", desc := "()Ljava/lang/Object;" } : Jvm.MethodName)) ∈ lw_all := lw_g (lw_at lw_m4 52 rfl) rfl
theorem q854 : (Jvm.Cond.selects "java/util/ArrayDeque" ({ cls := "java/util/ArrayDeque", name := "removeFirst", desc := "()Ljava/lang/Object;" } : Jvm.MethodName) ({ cls := "java/util/ArrayDeque", name := "removeFirst", desc := "()Ljava/lang/Object;" } : Jvm.MethodName)) ∈ lw_all := lw_g (lw_at lw_m4 53 rfl) rfl
theorem q855 : (Jvm.Cond.code ({ cls := "java/util/ArrayDeque", name := "removeFirst", desc := "()Ljava/lang/Object;" } : Jvm.MethodName) prog_43_method_18_code (2 : Nat) (Option.some (Jvm.ClassFile.FieldType.object "java/lang/Object"))) ∈ lw_all := lw_g (lw_at lw_m4 54 rfl) rfl
theorem q856 : (Jvm.Cond.methodLink "java/util/ArrayDeque" (93 : Nat) ({ cls := "java/util/ArrayDeque", name := "pollFirst", desc := "()Ljava/lang/Object;" } : Jvm.MethodName)) ∈ lw_all := lw_g (lw_at lw_m4 55 rfl) rfl
theorem q857 : (Jvm.Cond.instanceMethod ({ cls := "java/util/ArrayDeque", name := "pollFirst", desc := "()Ljava/lang/Object;" } : Jvm.MethodName)) ∈ lw_all := lw_g (lw_at lw_m4 56 rfl) rfl
theorem q858 : (Jvm.Cond.selects "java/util/ArrayDeque" ({ cls := "java/util/ArrayDeque", name := "pollFirst", desc := "()Ljava/lang/Object;" } : Jvm.MethodName) ({ cls := "java/util/ArrayDeque", name := "pollFirst", desc := "()Ljava/lang/Object;" } : Jvm.MethodName)) ∈ lw_all := lw_g (lw_at lw_m4 57 rfl) rfl
theorem q859 : (Jvm.Cond.code ({ cls := "java/util/ArrayDeque", name := "pollFirst", desc := "()Ljava/lang/Object;" } : Jvm.MethodName) prog_43_method_20_code (4 : Nat) (Option.some (Jvm.ClassFile.FieldType.object "java/lang/Object"))) ∈ lw_all := lw_g (lw_at lw_m4 58 rfl) rfl
theorem q860 : (Jvm.Cond.methodLink "java/util/ArrayDeque" (103 : Nat) ({ cls := "java/util/ArrayDeque", name := "elementAt", desc := "([Ljava/lang/Object;I)Ljava/lang/Object;" } : Jvm.MethodName)) ∈ lw_all := lw_g (lw_at lw_m4 59 rfl) rfl
theorem q861 : (Jvm.Cond.static ({ cls := "java/util/ArrayDeque", name := "elementAt", desc := "([Ljava/lang/Object;I)Ljava/lang/Object;" } : Jvm.MethodName)) ∈ lw_all := lw_g (lw_at lw_m4 60 rfl) rfl
theorem q862 : (Jvm.Cond.code ({ cls := "java/util/ArrayDeque", name := "elementAt", desc := "([Ljava/lang/Object;I)Ljava/lang/Object;" } : Jvm.MethodName) prog_43_method_10_code (2 : Nat) (Option.some (Jvm.ClassFile.FieldType.object "java/lang/Object"))) ∈ lw_all := lw_g (lw_at lw_m4 61 rfl) rfl
theorem q863 : (Jvm.Cond.methodLink "java/util/ArrayDeque" (74 : Nat) ({ cls := "java/util/ArrayDeque", name := "inc", desc := "(II)I" } : Jvm.MethodName)) ∈ lw_all := lw_g (lw_at lw_m4 62 rfl) rfl
theorem q864 : (Jvm.Cond.static ({ cls := "java/util/ArrayDeque", name := "inc", desc := "(II)I" } : Jvm.MethodName)) ∈ lw_all := lw_g (lw_at lw_m4 63 rfl) rfl
theorem q865 : (Jvm.Cond.code ({ cls := "java/util/ArrayDeque", name := "inc", desc := "(II)I" } : Jvm.MethodName) prog_43_method_6_code (2 : Nat) (Option.some Jvm.ClassFile.FieldType.int)) ∈ lw_all := lw_g (lw_at lw_m4 64 rfl) rfl
theorem q866 : (Jvm.Cond.classLink "java/util/ArrayDeque" (97 : Nat) "java/util/NoSuchElementException") ∈ lw_all := lw_g (lw_at lw_m4 65 rfl) rfl
theorem q875 : (Jvm.Cond.methodLink "java/util/ArrayDeque" (99 : Nat) ({ cls := "java/util/NoSuchElementException", name := "<init>", desc := "()V" } : Jvm.MethodName)) ∈ lw_all := lw_g (lw_at lw_m4 74 rfl) rfl
theorem q888 : (Jvm.Cond.instanceMethod ({ cls := "java/util/ArrayDeque", name := "addLast", desc := "(Ljava/lang/Object;)V" } : Jvm.MethodName)) ∈ lw_all := lw_g (lw_at lw_m4 87 rfl) rfl
theorem q889 : (Jvm.Cond.selects "java/util/ArrayDeque" ({ cls := "java/util/ArrayDeque", name := "addLast", desc := "(Ljava/lang/Object;)V" } : Jvm.MethodName) ({ cls := "java/util/ArrayDeque", name := "addLast", desc := "(Ljava/lang/Object;)V" } : Jvm.MethodName)) ∈ lw_all := lw_g (lw_at lw_m4 88 rfl) rfl
theorem q890 : (Jvm.Cond.code ({ cls := "java/util/ArrayDeque", name := "addLast", desc := "(Ljava/lang/Object;)V" } : Jvm.MethodName) prog_43_method_13_code (3 : Nat) (Option.none : Option Jvm.ClassFile.FieldType)) ∈ lw_all := lw_g (lw_at lw_m4 89 rfl) rfl
theorem q891 : (Jvm.Cond.methodLink "java/util/ArrayDeque" (71 : Nat) ({ cls := "java/util/ArrayDeque", name := "grow", desc := "(I)V" } : Jvm.MethodName)) ∈ lw_all := lw_g (lw_at lw_m4 90 rfl) rfl
theorem q892 : (Jvm.Cond.privateMethod ({ cls := "java/util/ArrayDeque", name := "grow", desc := "(I)V" } : Jvm.MethodName)) ∈ lw_tbl := lw_at lw_m4 91 rfl
theorem q893 : (Jvm.Cond.instanceMethod ({ cls := "java/util/ArrayDeque", name := "grow", desc := "(I)V" } : Jvm.MethodName)) ∈ lw_all := lw_g (lw_at lw_m4 92 rfl) rfl
theorem q894 : (Jvm.Cond.code ({ cls := "java/util/ArrayDeque", name := "grow", desc := "(I)V" } : Jvm.MethodName) prog_43_method_1_code (9 : Nat) (Option.none : Option Jvm.ClassFile.FieldType)) ∈ lw_all := lw_g (lw_at lw_m4 93 rfl) rfl
theorem q895 : (Jvm.Cond.constant "java/util/ArrayDeque" (9 : Nat) (2147483639 : Int32)) ∈ lw_all := lw_g (lw_at lw_m4 94 rfl) rfl
theorem q896 : (Jvm.Cond.methodLink "java/util/ArrayDeque" (10 : Nat) ({ cls := "java/util/ArrayDeque", name := "newCapacity", desc := "(II)I" } : Jvm.MethodName)) ∈ lw_all := lw_g (lw_at lw_m4 95 rfl) rfl
theorem q897 : (Jvm.Cond.privateMethod ({ cls := "java/util/ArrayDeque", name := "newCapacity", desc := "(II)I" } : Jvm.MethodName)) ∈ lw_tbl := lw_at lw_m4 96 rfl
theorem q898 : (Jvm.Cond.instanceMethod ({ cls := "java/util/ArrayDeque", name := "newCapacity", desc := "(II)I" } : Jvm.MethodName)) ∈ lw_all := lw_g (lw_at lw_m4 97 rfl) rfl
theorem q899 : (Jvm.Cond.code ({ cls := "java/util/ArrayDeque", name := "newCapacity", desc := "(II)I" } : Jvm.MethodName) prog_43_method_2_code (5 : Nat) (Option.some Jvm.ClassFile.FieldType.int)) ∈ lw_all := lw_g (lw_at lw_m4 98 rfl) rfl
theorem q900 : (Jvm.Cond.classLink "java/util/ArrayDeque" (33 : Nat) "java/lang/IllegalStateException") ∈ lw_all := lw_g (lw_at lw_m4 99 rfl) rfl
theorem q909 : (Jvm.Cond.stringRef "java/util/ArrayDeque" (35 : Nat) "Sorry, deque too big") ∈ lw_tbl := lw_at lw_m4 108 rfl
theorem q910 : (Jvm.Cond.methodLink "java/util/ArrayDeque" (37 : Nat) ({ cls := "java/lang/IllegalStateException", name := "<init>", desc := "(Ljava/lang/String;)V" } : Jvm.MethodName)) ∈ lw_all := lw_g (lw_at lw_m4 109 rfl) rfl
theorem q916 : (Jvm.Cond.constant "java/util/ArrayDeque" (41 : Nat) (2147483647 : Int32)) ∈ lw_all := lw_g (lw_at lw_m4 115 rfl) rfl
theorem q917 : (Jvm.Cond.methodLink "java/util/ArrayDeque" (14 : Nat) ({ cls := "java/util/Arrays", name := "copyOf", desc := "([Ljava/lang/Object;I)[Ljava/lang/Object;" } : Jvm.MethodName)) ∈ lw_all := lw_g (lw_at lw_m4 116 rfl) rfl
theorem q942 : (Jvm.Cond.selects "java/util/ArrayDeque" ({ cls := "java/lang/Object", name := "getClass", desc := "()Ljava/lang/Class;" } : Jvm.MethodName) ({ cls := "java/lang/Object", name := "getClass", desc := "()Ljava/lang/Class;" } : Jvm.MethodName)) ∈ lw_all := lw_g (lw_at lw_m4 141 rfl) rfl
theorem q952 : (Jvm.Cond.methodLink "java/util/ArrayDeque" (27 : Nat) ({ cls := "java/lang/System", name := "arraycopy", desc := "(Ljava/lang/Object;ILjava/lang/Object;II)V" } : Jvm.MethodName)) ∈ lw_all := lw_g (lw_at lw_m4 151 rfl) rfl
theorem q1427 : (Jvm.Cond.instanceMethod ({ cls := "java/util/ArrayDeque", name := "clear", desc := "()V" } : Jvm.MethodName)) ∈ lw_all := lw_g (lw_at lw_m6 146 rfl) rfl
theorem q1428 : (Jvm.Cond.selects "java/util/ArrayDeque" ({ cls := "java/util/ArrayDeque", name := "clear", desc := "()V" } : Jvm.MethodName) ({ cls := "java/util/ArrayDeque", name := "clear", desc := "()V" } : Jvm.MethodName)) ∈ lw_all := lw_g (lw_at lw_m6 147 rfl) rfl
theorem q1429 : (Jvm.Cond.code ({ cls := "java/util/ArrayDeque", name := "clear", desc := "()V" } : Jvm.MethodName) prog_43_method_53_code (1 : Nat) (Option.none : Option Jvm.ClassFile.FieldType)) ∈ lw_all := lw_g (lw_at lw_m6 148 rfl) rfl
theorem q1430 : (Jvm.Cond.methodLink "java/util/ArrayDeque" (181 : Nat) ({ cls := "java/util/ArrayDeque", name := "circularClear", desc := "([Ljava/lang/Object;II)V" } : Jvm.MethodName)) ∈ lw_all := lw_g (lw_at lw_m6 149 rfl) rfl
theorem q1431 : (Jvm.Cond.static ({ cls := "java/util/ArrayDeque", name := "circularClear", desc := "([Ljava/lang/Object;II)V" } : Jvm.MethodName)) ∈ lw_all := lw_g (lw_at lw_m6 150 rfl) rfl
theorem q1432 : (Jvm.Cond.code ({ cls := "java/util/ArrayDeque", name := "circularClear", desc := "([Ljava/lang/Object;II)V" } : Jvm.MethodName) prog_43_method_54_code (4 : Nat) (Option.none : Option Jvm.ClassFile.FieldType)) ∈ lw_all := lw_g (lw_at lw_m6 151 rfl) rfl
theorem q1785 : (Jvm.Cond.instanceMethod ({ cls := "java/util/ArrayDeque", name := "isEmpty", desc := "()Z" } : Jvm.MethodName)) ∈ lw_all := lw_g (lw_at lw_m8 24 rfl) rfl
theorem q1786 : (Jvm.Cond.selects "java/util/ArrayDeque" ({ cls := "java/util/ArrayDeque", name := "isEmpty", desc := "()Z" } : Jvm.MethodName) ({ cls := "java/util/ArrayDeque", name := "isEmpty", desc := "()Z" } : Jvm.MethodName)) ∈ lw_all := lw_g (lw_at lw_m8 25 rfl) rfl
theorem q1787 : (Jvm.Cond.code ({ cls := "java/util/ArrayDeque", name := "isEmpty", desc := "()Z" } : Jvm.MethodName) prog_43_method_38_code (1 : Nat) (Option.some Jvm.ClassFile.FieldType.boolean)) ∈ lw_all := lw_g (lw_at lw_m8 26 rfl) rfl
theorem q1789 : (Jvm.Cond.instanceMethod ({ cls := "java/util/ArrayDeque", name := "removeLast", desc := "()Ljava/lang/Object;" } : Jvm.MethodName)) ∈ lw_all := lw_g (lw_at lw_m8 28 rfl) rfl
theorem q1790 : (Jvm.Cond.selects "java/util/ArrayDeque" ({ cls := "java/util/ArrayDeque", name := "removeLast", desc := "()Ljava/lang/Object;" } : Jvm.MethodName) ({ cls := "java/util/ArrayDeque", name := "removeLast", desc := "()Ljava/lang/Object;" } : Jvm.MethodName)) ∈ lw_all := lw_g (lw_at lw_m8 29 rfl) rfl
theorem q1791 : (Jvm.Cond.code ({ cls := "java/util/ArrayDeque", name := "removeLast", desc := "()Ljava/lang/Object;" } : Jvm.MethodName) prog_43_method_19_code (2 : Nat) (Option.some (Jvm.ClassFile.FieldType.object "java/lang/Object"))) ∈ lw_all := lw_g (lw_at lw_m8 30 rfl) rfl
theorem q1792 : (Jvm.Cond.methodLink "java/util/ArrayDeque" (100 : Nat) ({ cls := "java/util/ArrayDeque", name := "pollLast", desc := "()Ljava/lang/Object;" } : Jvm.MethodName)) ∈ lw_all := lw_g (lw_at lw_m8 31 rfl) rfl
theorem q1793 : (Jvm.Cond.instanceMethod ({ cls := "java/util/ArrayDeque", name := "pollLast", desc := "()Ljava/lang/Object;" } : Jvm.MethodName)) ∈ lw_all := lw_g (lw_at lw_m8 32 rfl) rfl
theorem q1794 : (Jvm.Cond.selects "java/util/ArrayDeque" ({ cls := "java/util/ArrayDeque", name := "pollLast", desc := "()Ljava/lang/Object;" } : Jvm.MethodName) ({ cls := "java/util/ArrayDeque", name := "pollLast", desc := "()Ljava/lang/Object;" } : Jvm.MethodName)) ∈ lw_all := lw_g (lw_at lw_m8 33 rfl) rfl
theorem q1795 : (Jvm.Cond.code ({ cls := "java/util/ArrayDeque", name := "pollLast", desc := "()Ljava/lang/Object;" } : Jvm.MethodName) prog_43_method_21_code (4 : Nat) (Option.some (Jvm.ClassFile.FieldType.object "java/lang/Object"))) ∈ lw_all := lw_g (lw_at lw_m8 34 rfl) rfl
theorem q1796 : (Jvm.Cond.methodLink "java/util/ArrayDeque" (68 : Nat) ({ cls := "java/util/ArrayDeque", name := "dec", desc := "(II)I" } : Jvm.MethodName)) ∈ lw_all := lw_g (lw_at lw_m8 35 rfl) rfl
theorem q1797 : (Jvm.Cond.static ({ cls := "java/util/ArrayDeque", name := "dec", desc := "(II)I" } : Jvm.MethodName)) ∈ lw_all := lw_g (lw_at lw_m8 36 rfl) rfl
theorem q1798 : (Jvm.Cond.code ({ cls := "java/util/ArrayDeque", name := "dec", desc := "(II)I" } : Jvm.MethodName) prog_43_method_7_code (2 : Nat) (Option.some Jvm.ClassFile.FieldType.int)) ∈ lw_all := lw_g (lw_at lw_m8 37 rfl) rfl
theorem q2320 : (Jvm.Cond.castable "java/util/ArrayDeque" "java/lang/Object") ∈ lw_tbl := lw_at lw_m10 79 rfl
theorem in_J18 : ∀ w ∈ wsJ180, w ∈ lw_all := lw_in wsJ180 [740, 742, 744] (by decide +kernel) (by decide +kernel)
/-! java/lang/IllegalStateException -/
set_option maxRecDepth 100000
def RJ19 : String := "java/lang/IllegalStateException"
def TJ19 : u_T := fun k => match k with
  | 0 => ("java/lang/Throwable", "cause", "Ljava/lang/Throwable;", false)
  | 1 => ("java/lang/Throwable", "stackTrace", "[Ljava/lang/StackTraceElement;", false)
  | 2 => ("java/lang/Throwable", "suppressedExceptions", "Ljava/util/List;", false)
  | 3 => ("java/lang/Throwable", "detailMessage", "Ljava/lang/String;", false)
  | 4 => ("java/lang/Throwable", "backtrace", "Ljava/lang/Object;", false)
  | _ => ("java/lang/Throwable", "depth", "I", false)
def tyJ19 : Nat → FieldType := fun k => match k with
  | 0 => .object "java/lang/Throwable"
  | 1 => .array (.object "java/lang/StackTraceElement")
  | 2 => .object "java/util/List"
  | 3 => .object "java/lang/String"
  | 4 => .object "java/lang/Object"
  | _ => .int
abbrev wsJ190 : List Cond := u_ws RJ19 TJ19 6
theorem nmJ19 : ∀ a, a < 6 → ∀ b, b < 6 → a ≠ b → (TJ19 a).2.1 ≠ (TJ19 b).2.1 := by decide +kernel
theorem tyJ19_ok : ∀ k, k < 6 → parseFieldDescriptor (TJ19 k).2.2.1 = some (tyJ19 k) := by decide +kernel
abbrev cJ19_init : ByteArray := prog_24_method_2_code
def yJ19_init : MethodName := ⟨RJ19, "<init>", "(Ljava/lang/String;)V"⟩
abbrev cJ19_init_2 : ByteArray := prog_24_method_1_code
def yJ19_init_2 : MethodName := ⟨RJ19, "<init>", "()V"⟩
theorem q109 : (Jvm.Cond.initialized "java/lang/IllegalStateException") ∈ lw_all := lw_g (lw_at lw_m1 28 rfl) rfl
theorem q191 : (Jvm.Cond.selects "java/lang/IllegalStateException" ({ cls := "java/lang/Throwable", name := "fillInStackTrace", desc := "()Ljava/lang/Throwable;" } : Jvm.MethodName) ({ cls := "java/lang/Throwable", name := "fillInStackTrace", desc := "()Ljava/lang/Throwable;" } : Jvm.MethodName)) ∈ lw_all := lw_g (lw_at lw_m1 110 rfl) rfl
theorem q901 : (Jvm.Cond.instantiable "java/lang/IllegalStateException" (6 : Nat)) ∈ lw_all := lw_g (lw_at lw_m4 100 rfl) rfl
theorem q902 : (Jvm.Cond.castable "java/lang/IllegalStateException" "java/lang/IllegalStateException") ∈ lw_tbl := lw_at lw_m4 101 rfl
theorem q903 : (Jvm.Cond.selects "java/lang/IllegalStateException" ({ cls := "java/lang/Throwable", name := "fillInStackTrace", desc := "(I)Ljava/lang/Throwable;" } : Jvm.MethodName) ({ cls := "java/lang/Throwable", name := "fillInStackTrace", desc := "(I)Ljava/lang/Throwable;" } : Jvm.MethodName)) ∈ lw_all := lw_g (lw_at lw_m4 102 rfl) rfl
theorem q904 : (Jvm.Cond.lays "java/lang/IllegalStateException" "java/lang/Throwable" "cause" "Ljava/lang/Throwable;") ∈ lw_all := lw_g (lw_at lw_m4 103 rfl) rfl
theorem q905 : (Jvm.Cond.lays "java/lang/IllegalStateException" "java/lang/Throwable" "stackTrace" "[Ljava/lang/StackTraceElement;") ∈ lw_all := lw_g (lw_at lw_m4 104 rfl) rfl
theorem q906 : (Jvm.Cond.lays "java/lang/IllegalStateException" "java/lang/Throwable" "suppressedExceptions" "Ljava/util/List;") ∈ lw_all := lw_g (lw_at lw_m4 105 rfl) rfl
theorem q907 : (Jvm.Cond.lays "java/lang/IllegalStateException" "java/lang/Throwable" "detailMessage" "Ljava/lang/String;") ∈ lw_all := lw_g (lw_at lw_m4 106 rfl) rfl
theorem q908 : (Jvm.Cond.lays "java/lang/IllegalStateException" "java/lang/Throwable" "backtrace" "Ljava/lang/Object;") ∈ lw_all := lw_g (lw_at lw_m4 107 rfl) rfl
theorem q911 : (Jvm.Cond.instanceMethod ({ cls := "java/lang/IllegalStateException", name := "<init>", desc := "(Ljava/lang/String;)V" } : Jvm.MethodName)) ∈ lw_all := lw_g (lw_at lw_m4 110 rfl) rfl
theorem q912 : (Jvm.Cond.code ({ cls := "java/lang/IllegalStateException", name := "<init>", desc := "(Ljava/lang/String;)V" } : Jvm.MethodName) prog_24_method_2_code (2 : Nat) (Option.none : Option Jvm.ClassFile.FieldType)) ∈ lw_all := lw_g (lw_at lw_m4 111 rfl) rfl
theorem q913 : (Jvm.Cond.methodLink "java/lang/IllegalStateException" (7 : Nat) ({ cls := "java/lang/RuntimeException", name := "<init>", desc := "(Ljava/lang/String;)V" } : Jvm.MethodName)) ∈ lw_all := lw_g (lw_at lw_m4 112 rfl) rfl
theorem q914 : (Jvm.Cond.lays "java/lang/IllegalStateException" "java/lang/Throwable" "depth" "I") ∈ lw_all := lw_g (lw_at lw_m4 113 rfl) rfl
theorem q915 : (Jvm.Cond.superclass "java/lang/IllegalStateException" "java/lang/RuntimeException") ∈ lw_all := lw_g (lw_at lw_m4 114 rfl) rfl
theorem q937 : (Jvm.Cond.selects "java/lang/IllegalStateException" ({ cls := "java/lang/Object", name := "getClass", desc := "()Ljava/lang/Class;" } : Jvm.MethodName) ({ cls := "java/lang/Object", name := "getClass", desc := "()Ljava/lang/Class;" } : Jvm.MethodName)) ∈ lw_all := lw_g (lw_at lw_m4 136 rfl) rfl
theorem q996 : (Jvm.Cond.instanceMethod ({ cls := "java/lang/IllegalStateException", name := "<init>", desc := "()V" } : Jvm.MethodName)) ∈ lw_all := lw_g (lw_at lw_m4 195 rfl) rfl
theorem q997 : (Jvm.Cond.code ({ cls := "java/lang/IllegalStateException", name := "<init>", desc := "()V" } : Jvm.MethodName) prog_24_method_1_code (1 : Nat) (Option.none : Option Jvm.ClassFile.FieldType)) ∈ lw_all := lw_g (lw_at lw_m4 196 rfl) rfl
theorem q998 : (Jvm.Cond.methodLink "java/lang/IllegalStateException" (1 : Nat) ({ cls := "java/lang/RuntimeException", name := "<init>", desc := "()V" } : Jvm.MethodName)) ∈ lw_all := lw_g (lw_at lw_m4 197 rfl) rfl
theorem q2322 : (Jvm.Cond.castable "java/lang/IllegalStateException" "java/lang/Object") ∈ lw_tbl := lw_at lw_m10 81 rfl
theorem in_J19 : ∀ w ∈ wsJ190, w ∈ lw_all := lw_in wsJ190 [904, 905, 906, 907, 908, 914] (by decide +kernel) (by decide +kernel)
/-! java/util/ArrayList -/
set_option maxRecDepth 100000
def RJ2 : String := "java/util/ArrayList"
def TJ2 : u_T := fun k => match k with
  | 0 => ("java/util/AbstractList", "modCount", "I", false)
  | 1 => ("java/util/ArrayList", "elementData", "[Ljava/lang/Object;", false)
  | _ => ("java/util/ArrayList", "size", "I", false)
def tyJ2 : Nat → FieldType := fun k => match k with
  | 0 => .int
  | 1 => .array (.object "java/lang/Object")
  | _ => .int
abbrev wsJ20 : List Cond := u_ws RJ2 TJ2 3
theorem nmJ2 : ∀ a, a < 3 → ∀ b, b < 3 → a ≠ b → (TJ2 a).2.1 ≠ (TJ2 b).2.1 := by decide +kernel
theorem tyJ2_ok : ∀ k, k < 3 → parseFieldDescriptor (TJ2 k).2.2.1 = some (tyJ2 k) := by decide +kernel
abbrev cJ2_init : ByteArray := prog_44_method_1_code
def yJ2_init : MethodName := ⟨RJ2, "<init>", "(I)V"⟩
abbrev cJ2_size : ByteArray := prog_44_method_8_code
def yJ2_size : MethodName := ⟨RJ2, "size", "()I"⟩
abbrev cJ2_get : ByteArray := prog_44_method_20_code
def yJ2_get : MethodName := ⟨RJ2, "get", "(I)Ljava/lang/Object;"⟩
abbrev cJ2_elementData : ByteArray := prog_44_method_18_code
def yJ2_elementData : MethodName := ⟨RJ2, "elementData", "(I)Ljava/lang/Object;"⟩
abbrev cJ2_add : ByteArray := prog_44_method_25_code
def yJ2_add : MethodName := ⟨RJ2, "add", "(Ljava/lang/Object;)Z"⟩
abbrev cJ2_add_2 : ByteArray := prog_44_method_24_code
def yJ2_add_2 : MethodName := ⟨RJ2, "add", "(Ljava/lang/Object;[Ljava/lang/Object;I)V"⟩
abbrev cJ2_grow : ByteArray := prog_44_method_7_code
def yJ2_grow : MethodName := ⟨RJ2, "grow", "()[Ljava/lang/Object;"⟩
abbrev cJ2_grow_2 : ByteArray := prog_44_method_6_code
def yJ2_grow_2 : MethodName := ⟨RJ2, "grow", "(I)[Ljava/lang/Object;"⟩
abbrev cJ2_iterator : ByteArray := prog_44_method_55_code
def yJ2_iterator : MethodName := ⟨RJ2, "iterator", "()Ljava/util/Iterator;"⟩
theorem q87 : (Jvm.Cond.initialized "java/util/ArrayList") ∈ lw_all := lw_g (lw_at lw_m1 6 rfl) rfl
theorem q139 : (Jvm.Cond.instantiable "java/util/ArrayList" (3 : Nat)) ∈ lw_all := lw_g (lw_at lw_m1 58 rfl) rfl
theorem q141 : (Jvm.Cond.instanceMethod ({ cls := "java/util/ArrayList", name := "<init>", desc := "(I)V" } : Jvm.MethodName)) ∈ lw_all := lw_g (lw_at lw_m1 60 rfl) rfl
theorem q142 : (Jvm.Cond.code ({ cls := "java/util/ArrayList", name := "<init>", desc := "(I)V" } : Jvm.MethodName) prog_44_method_1_code (2 : Nat) (Option.none : Option Jvm.ClassFile.FieldType)) ∈ lw_all := lw_g (lw_at lw_m1 61 rfl) rfl
theorem q143 : (Jvm.Cond.methodLink "java/util/ArrayList" (1 : Nat) ({ cls := "java/util/AbstractList", name := "<init>", desc := "()V" } : Jvm.MethodName)) ∈ lw_all := lw_g (lw_at lw_m1 62 rfl) rfl
theorem q150 : (Jvm.Cond.classLink "java/util/ArrayList" (7 : Nat) "java/lang/Object") ∈ lw_all := lw_g (lw_at lw_m1 69 rfl) rfl
theorem q152 : (Jvm.Cond.fieldLink "java/util/ArrayList" (15 : Nat) "java/util/ArrayList" "EMPTY_ELEMENTDATA" "[Ljava/lang/Object;") ∈ lw_all := lw_g (lw_at lw_m1 71 rfl) rfl
theorem q153 : (Jvm.Cond.laysStatic "java/util/ArrayList" "EMPTY_ELEMENTDATA" "[Ljava/lang/Object;") ∈ lw_tbl := lw_at lw_m1 72 rfl
theorem q154 : (Jvm.Cond.classLink "java/util/ArrayList" (18 : Nat) "java/lang/IllegalArgumentException") ∈ lw_all := lw_g (lw_at lw_m1 73 rfl) rfl
theorem q200 : (Jvm.Cond.classLink "java/util/ArrayList" (20 : Nat) "java/lang/StringBuilder") ∈ lw_all := lw_g (lw_at lw_m1 119 rfl) rfl
theorem q202 : (Jvm.Cond.methodLink "java/util/ArrayList" (22 : Nat) ({ cls := "java/lang/StringBuilder", name := "<init>", desc := "()V" } : Jvm.MethodName)) ∈ lw_all := lw_g (lw_at lw_m1 121 rfl) rfl
theorem q232 : (Jvm.Cond.stringRef "java/util/ArrayList" (23 : Nat) "Illegal Capacity: ") ∈ lw_tbl := lw_at lw_m1 151 rfl
theorem q233 : (Jvm.Cond.methodLink "java/util/ArrayList" (25 : Nat) ({ cls := "java/lang/StringBuilder", name := "append", desc := "(Ljava/lang/String;)Ljava/lang/StringBuilder;" } : Jvm.MethodName)) ∈ lw_all := lw_g (lw_at lw_m1 152 rfl) rfl
theorem q353 : (Jvm.Cond.methodLink "java/util/ArrayList" (29 : Nat) ({ cls := "java/lang/StringBuilder", name := "append", desc := "(I)Ljava/lang/StringBuilder;" } : Jvm.MethodName)) ∈ lw_all := lw_g (lw_at lw_m2 32 rfl) rfl
theorem q378 : (Jvm.Cond.methodLink "java/util/ArrayList" (32 : Nat) ({ cls := "java/lang/StringBuilder", name := "toString", desc := "()Ljava/lang/String;" } : Jvm.MethodName)) ∈ lw_all := lw_g (lw_at lw_m2 57 rfl) rfl
theorem q472 : (Jvm.Cond.methodLink "java/util/ArrayList" (36 : Nat) ({ cls := "java/lang/IllegalArgumentException", name := "<init>", desc := "(Ljava/lang/String;)V" } : Jvm.MethodName)) ∈ lw_all := lw_g (lw_at lw_m2 151 rfl) rfl
theorem q473 : (Jvm.Cond.fieldLink "java/util/ArrayList" (9 : Nat) "java/util/ArrayList" "elementData" "[Ljava/lang/Object;") ∈ lw_all := lw_g (lw_at lw_m2 152 rfl) rfl
theorem q476 : (Jvm.Cond.fieldLink "java/util/ArrayList" (48 : Nat) "java/util/ArrayList" "size" "I") ∈ lw_all := lw_g (lw_at lw_m2 155 rfl) rfl
theorem q479 : (Jvm.Cond.sameField "java/util/ArrayList" "java/util/AbstractList" "modCount" "I") ∈ lw_all := lw_g (lw_at lw_m2 158 rfl) rfl
theorem q480 : (Jvm.Cond.fieldLink "java/util/ArrayList" (63 : Nat) "java/util/ArrayList" "modCount" "I") ∈ lw_all := lw_g (lw_at lw_m2 159 rfl) rfl
theorem q481 : (Jvm.Cond.lays "java/util/ArrayList" "java/util/ArrayList" "elementData" "[Ljava/lang/Object;") ∈ lw_all := lw_g (lw_at lw_m2 160 rfl) rfl
theorem q482 : (Jvm.Cond.soleField "java/util/ArrayList" "elementData") ∈ lw_all := lw_g (lw_at lw_m2 161 rfl) rfl
theorem q483 : (Jvm.Cond.lays "java/util/ArrayList" "java/util/ArrayList" "size" "I") ∈ lw_all := lw_g (lw_at lw_m2 162 rfl) rfl
theorem q484 : (Jvm.Cond.soleField "java/util/ArrayList" "size") ∈ lw_all := lw_g (lw_at lw_m2 163 rfl) rfl
theorem q485 : (Jvm.Cond.lays "java/util/ArrayList" "java/util/AbstractList" "modCount" "I") ∈ lw_all := lw_g (lw_at lw_m2 164 rfl) rfl
theorem q487 : (Jvm.Cond.superclass "java/util/ArrayList" "java/util/AbstractList") ∈ lw_all := lw_g (lw_at lw_m2 166 rfl) rfl
theorem q701 : (Jvm.Cond.castable "java/util/ArrayList" "java/util/List") ∈ lw_tbl := lw_at lw_m3 140 rfl
theorem q702 : (Jvm.Cond.selects "java/util/ArrayList" ({ cls := "java/util/List", name := "size", desc := "()I" } : Jvm.MethodName) ({ cls := "java/util/ArrayList", name := "size", desc := "()I" } : Jvm.MethodName)) ∈ lw_all := lw_g (lw_at lw_m3 141 rfl) rfl
theorem q703 : (Jvm.Cond.unhidden "java/util/ArrayList" "size" "()I") ∈ lw_tbl := lw_at lw_m3 142 rfl
theorem q704 : (Jvm.Cond.instanceMethod ({ cls := "java/util/ArrayList", name := "size", desc := "()I" } : Jvm.MethodName)) ∈ lw_all := lw_g (lw_at lw_m3 143 rfl) rfl
theorem q705 : (Jvm.Cond.publicMethod ({ cls := "java/util/ArrayList", name := "size", desc := "()I" } : Jvm.MethodName)) ∈ lw_tbl := lw_at lw_m3 144 rfl
theorem q706 : (Jvm.Cond.code ({ cls := "java/util/ArrayList", name := "size", desc := "()I" } : Jvm.MethodName) prog_44_method_8_code (1 : Nat) (Option.some Jvm.ClassFile.FieldType.int)) ∈ lw_all := lw_g (lw_at lw_m3 145 rfl) rfl
theorem q714 : (Jvm.Cond.selects "java/util/ArrayList" ({ cls := "java/util/List", name := "get", desc := "(I)Ljava/lang/Object;" } : Jvm.MethodName) ({ cls := "java/util/ArrayList", name := "get", desc := "(I)Ljava/lang/Object;" } : Jvm.MethodName)) ∈ lw_all := lw_g (lw_at lw_m3 153 rfl) rfl
theorem q715 : (Jvm.Cond.unhidden "java/util/ArrayList" "get" "(I)Ljava/lang/Object;") ∈ lw_tbl := lw_at lw_m3 154 rfl
theorem q716 : (Jvm.Cond.instanceMethod ({ cls := "java/util/ArrayList", name := "get", desc := "(I)Ljava/lang/Object;" } : Jvm.MethodName)) ∈ lw_all := lw_g (lw_at lw_m3 155 rfl) rfl
theorem q717 : (Jvm.Cond.publicMethod ({ cls := "java/util/ArrayList", name := "get", desc := "(I)Ljava/lang/Object;" } : Jvm.MethodName)) ∈ lw_tbl := lw_at lw_m3 156 rfl
theorem q718 : (Jvm.Cond.code ({ cls := "java/util/ArrayList", name := "get", desc := "(I)Ljava/lang/Object;" } : Jvm.MethodName) prog_44_method_20_code (2 : Nat) (Option.some (Jvm.ClassFile.FieldType.object "java/lang/Object"))) ∈ lw_all := lw_g (lw_at lw_m3 157 rfl) rfl
theorem q719 : (Jvm.Cond.methodLink "java/util/ArrayList" (118 : Nat) ({ cls := "java/util/Objects", name := "checkIndex", desc := "(II)I" } : Jvm.MethodName)) ∈ lw_all := lw_g (lw_at lw_m3 158 rfl) rfl
theorem q725 : (Jvm.Cond.methodLink "java/util/ArrayList" (123 : Nat) ({ cls := "java/util/ArrayList", name := "elementData", desc := "(I)Ljava/lang/Object;" } : Jvm.MethodName)) ∈ lw_all := lw_g (lw_at lw_m3 164 rfl) rfl
theorem q726 : (Jvm.Cond.instanceMethod ({ cls := "java/util/ArrayList", name := "elementData", desc := "(I)Ljava/lang/Object;" } : Jvm.MethodName)) ∈ lw_all := lw_g (lw_at lw_m3 165 rfl) rfl
theorem q727 : (Jvm.Cond.selects "java/util/ArrayList" ({ cls := "java/util/ArrayList", name := "elementData", desc := "(I)Ljava/lang/Object;" } : Jvm.MethodName) ({ cls := "java/util/ArrayList", name := "elementData", desc := "(I)Ljava/lang/Object;" } : Jvm.MethodName)) ∈ lw_all := lw_g (lw_at lw_m3 166 rfl) rfl
theorem q728 : (Jvm.Cond.code ({ cls := "java/util/ArrayList", name := "elementData", desc := "(I)Ljava/lang/Object;" } : Jvm.MethodName) prog_44_method_18_code (2 : Nat) (Option.some (Jvm.ClassFile.FieldType.object "java/lang/Object"))) ∈ lw_all := lw_g (lw_at lw_m3 167 rfl) rfl
theorem q943 : (Jvm.Cond.selects "java/util/ArrayList" ({ cls := "java/lang/Object", name := "getClass", desc := "()Ljava/lang/Class;" } : Jvm.MethodName) ({ cls := "java/lang/Object", name := "getClass", desc := "()Ljava/lang/Class;" } : Jvm.MethodName)) ∈ lw_all := lw_g (lw_at lw_m4 142 rfl) rfl
theorem q1271 : (Jvm.Cond.selects "java/util/ArrayList" ({ cls := "java/util/List", name := "add", desc := "(Ljava/lang/Object;)Z" } : Jvm.MethodName) ({ cls := "java/util/ArrayList", name := "add", desc := "(Ljava/lang/Object;)Z" } : Jvm.MethodName)) ∈ lw_all := lw_g (lw_at lw_m5 230 rfl) rfl
theorem q1272 : (Jvm.Cond.unhidden "java/util/ArrayList" "add" "(Ljava/lang/Object;)Z") ∈ lw_tbl := lw_at lw_m5 231 rfl
theorem q1273 : (Jvm.Cond.instanceMethod ({ cls := "java/util/ArrayList", name := "add", desc := "(Ljava/lang/Object;)Z" } : Jvm.MethodName)) ∈ lw_all := lw_g (lw_at lw_m5 232 rfl) rfl
theorem q1274 : (Jvm.Cond.publicMethod ({ cls := "java/util/ArrayList", name := "add", desc := "(Ljava/lang/Object;)Z" } : Jvm.MethodName)) ∈ lw_tbl := lw_at lw_m5 233 rfl
theorem q1275 : (Jvm.Cond.code ({ cls := "java/util/ArrayList", name := "add", desc := "(Ljava/lang/Object;)Z" } : Jvm.MethodName) prog_44_method_25_code (2 : Nat) (Option.some Jvm.ClassFile.FieldType.boolean)) ∈ lw_all := lw_g (lw_at lw_m5 234 rfl) rfl
theorem q1276 : (Jvm.Cond.methodLink "java/util/ArrayList" (131 : Nat) ({ cls := "java/util/ArrayList", name := "add", desc := "(Ljava/lang/Object;[Ljava/lang/Object;I)V" } : Jvm.MethodName)) ∈ lw_all := lw_g (lw_at lw_m5 235 rfl) rfl
theorem q1277 : (Jvm.Cond.privateMethod ({ cls := "java/util/ArrayList", name := "add", desc := "(Ljava/lang/Object;[Ljava/lang/Object;I)V" } : Jvm.MethodName)) ∈ lw_tbl := lw_at lw_m5 236 rfl
theorem q1278 : (Jvm.Cond.instanceMethod ({ cls := "java/util/ArrayList", name := "add", desc := "(Ljava/lang/Object;[Ljava/lang/Object;I)V" } : Jvm.MethodName)) ∈ lw_all := lw_g (lw_at lw_m5 237 rfl) rfl
theorem q1279 : (Jvm.Cond.code ({ cls := "java/util/ArrayList", name := "add", desc := "(Ljava/lang/Object;[Ljava/lang/Object;I)V" } : Jvm.MethodName) prog_44_method_24_code (4 : Nat) (Option.none : Option Jvm.ClassFile.FieldType)) ∈ lw_all := lw_g (lw_at lw_m5 238 rfl) rfl
theorem q1280 : (Jvm.Cond.methodLink "java/util/ArrayList" (129 : Nat) ({ cls := "java/util/ArrayList", name := "grow", desc := "()[Ljava/lang/Object;" } : Jvm.MethodName)) ∈ lw_all := lw_g (lw_at lw_m5 239 rfl) rfl
theorem q1281 : (Jvm.Cond.privateMethod ({ cls := "java/util/ArrayList", name := "grow", desc := "()[Ljava/lang/Object;" } : Jvm.MethodName)) ∈ lw_tbl := lw_at lw_m6 0 rfl
theorem q1282 : (Jvm.Cond.instanceMethod ({ cls := "java/util/ArrayList", name := "grow", desc := "()[Ljava/lang/Object;" } : Jvm.MethodName)) ∈ lw_all := lw_g (lw_at lw_m6 1 rfl) rfl
theorem q1283 : (Jvm.Cond.code ({ cls := "java/util/ArrayList", name := "grow", desc := "()[Ljava/lang/Object;" } : Jvm.MethodName) prog_44_method_7_code (1 : Nat) (Option.some (Jvm.ClassFile.FieldType.array (Jvm.ClassFile.FieldType.object "java/lang/Object")))) ∈ lw_all := lw_g (lw_at lw_m6 2 rfl) rfl
theorem q1284 : (Jvm.Cond.methodLink "java/util/ArrayList" (69 : Nat) ({ cls := "java/util/ArrayList", name := "grow", desc := "(I)[Ljava/lang/Object;" } : Jvm.MethodName)) ∈ lw_all := lw_g (lw_at lw_m6 3 rfl) rfl
theorem q1285 : (Jvm.Cond.privateMethod ({ cls := "java/util/ArrayList", name := "grow", desc := "(I)[Ljava/lang/Object;" } : Jvm.MethodName)) ∈ lw_tbl := lw_at lw_m6 4 rfl
theorem q1286 : (Jvm.Cond.instanceMethod ({ cls := "java/util/ArrayList", name := "grow", desc := "(I)[Ljava/lang/Object;" } : Jvm.MethodName)) ∈ lw_all := lw_g (lw_at lw_m6 5 rfl) rfl
theorem q1287 : (Jvm.Cond.code ({ cls := "java/util/ArrayList", name := "grow", desc := "(I)[Ljava/lang/Object;" } : Jvm.MethodName) prog_44_method_6_code (4 : Nat) (Option.some (Jvm.ClassFile.FieldType.array (Jvm.ClassFile.FieldType.object "java/lang/Object")))) ∈ lw_all := lw_g (lw_at lw_m6 6 rfl) rfl
theorem q1288 : (Jvm.Cond.fieldLink "java/util/ArrayList" (39 : Nat) "java/util/ArrayList" "DEFAULTCAPACITY_EMPTY_ELEMENTDATA" "[Ljava/lang/Object;") ∈ lw_all := lw_g (lw_at lw_m6 7 rfl) rfl
theorem q1289 : (Jvm.Cond.laysStatic "java/util/ArrayList" "DEFAULTCAPACITY_EMPTY_ELEMENTDATA" "[Ljava/lang/Object;") ∈ lw_tbl := lw_at lw_m6 8 rfl
theorem q1290 : (Jvm.Cond.methodLink "java/util/ArrayList" (73 : Nat) ({ cls := "jdk/internal/util/ArraysSupport", name := "newLength", desc := "(III)I" } : Jvm.MethodName)) ∈ lw_all := lw_g (lw_at lw_m6 9 rfl) rfl
theorem q1291 : (Jvm.Cond.methodLink "java/util/ArrayList" (66 : Nat) ({ cls := "java/util/Arrays", name := "copyOf", desc := "([Ljava/lang/Object;I)[Ljava/lang/Object;" } : Jvm.MethodName)) ∈ lw_all := lw_g (lw_at lw_m6 10 rfl) rfl
theorem q1292 : (Jvm.Cond.methodLink "java/util/ArrayList" (79 : Nat) ({ cls := "java/lang/Math", name := "max", desc := "(II)I" } : Jvm.MethodName)) ∈ lw_all := lw_g (lw_at lw_m6 11 rfl) rfl
theorem q1600 : (Jvm.Cond.selects "java/util/ArrayList" ({ cls := "java/util/List", name := "iterator", desc := "()Ljava/util/Iterator;" } : Jvm.MethodName) ({ cls := "java/util/ArrayList", name := "iterator", desc := "()Ljava/util/Iterator;" } : Jvm.MethodName)) ∈ lw_all := lw_g (lw_at lw_m7 79 rfl) rfl
theorem q1601 : (Jvm.Cond.unhidden "java/util/ArrayList" "iterator" "()Ljava/util/Iterator;") ∈ lw_tbl := lw_at lw_m7 80 rfl
theorem q1602 : (Jvm.Cond.instanceMethod ({ cls := "java/util/ArrayList", name := "iterator", desc := "()Ljava/util/Iterator;" } : Jvm.MethodName)) ∈ lw_all := lw_g (lw_at lw_m7 81 rfl) rfl
theorem q1603 : (Jvm.Cond.publicMethod ({ cls := "java/util/ArrayList", name := "iterator", desc := "()Ljava/util/Iterator;" } : Jvm.MethodName)) ∈ lw_tbl := lw_at lw_m7 82 rfl
theorem q1604 : (Jvm.Cond.code ({ cls := "java/util/ArrayList", name := "iterator", desc := "()Ljava/util/Iterator;" } : Jvm.MethodName) prog_44_method_55_code (1 : Nat) (Option.some (Jvm.ClassFile.FieldType.object "java/util/Iterator"))) ∈ lw_all := lw_g (lw_at lw_m7 83 rfl) rfl
theorem q1605 : (Jvm.Cond.classLink "java/util/ArrayList" (267 : Nat) "java/util/ArrayList$Itr") ∈ lw_all := lw_g (lw_at lw_m7 84 rfl) rfl
theorem q1607 : (Jvm.Cond.methodLink "java/util/ArrayList" (269 : Nat) ({ cls := "java/util/ArrayList$Itr", name := "<init>", desc := "(Ljava/util/ArrayList;)V" } : Jvm.MethodName)) ∈ lw_all := lw_g (lw_at lw_m7 86 rfl) rfl
theorem q2314 : (Jvm.Cond.castable "java/util/ArrayList" "java/lang/Object") ∈ lw_tbl := lw_at lw_m10 73 rfl
theorem in_J2 : ∀ w ∈ wsJ20, w ∈ lw_all := lw_in wsJ20 [485, 481, 483] (by decide +kernel) (by decide +kernel)
/-! java/lang/IndexOutOfBoundsException -/
set_option maxRecDepth 100000
def RJ20 : String := "java/lang/IndexOutOfBoundsException"
def TJ20 : u_T := fun k => match k with
  | 0 => ("java/lang/Throwable", "cause", "Ljava/lang/Throwable;", false)
  | 1 => ("java/lang/Throwable", "stackTrace", "[Ljava/lang/StackTraceElement;", false)
  | 2 => ("java/lang/Throwable", "suppressedExceptions", "Ljava/util/List;", false)
  | 3 => ("java/lang/Throwable", "detailMessage", "Ljava/lang/String;", false)
  | 4 => ("java/lang/Throwable", "backtrace", "Ljava/lang/Object;", false)
  | _ => ("java/lang/Throwable", "depth", "I", false)
def tyJ20 : Nat → FieldType := fun k => match k with
  | 0 => .object "java/lang/Throwable"
  | 1 => .array (.object "java/lang/StackTraceElement")
  | 2 => .object "java/util/List"
  | 3 => .object "java/lang/String"
  | 4 => .object "java/lang/Object"
  | _ => .int
abbrev wsJ200 : List Cond := u_ws RJ20 TJ20 6
theorem nmJ20 : ∀ a, a < 6 → ∀ b, b < 6 → a ≠ b → (TJ20 a).2.1 ≠ (TJ20 b).2.1 := by decide +kernel
theorem tyJ20_ok : ∀ k, k < 6 → parseFieldDescriptor (TJ20 k).2.2.1 = some (tyJ20 k) := by decide +kernel
abbrev cJ20_init : ByteArray := prog_25_method_2_code
def yJ20_init : MethodName := ⟨RJ20, "<init>", "(Ljava/lang/String;)V"⟩
abbrev cJ20_init_2 : ByteArray := prog_25_method_1_code
def yJ20_init_2 : MethodName := ⟨RJ20, "<init>", "()V"⟩
theorem q110 : (Jvm.Cond.initialized "java/lang/IndexOutOfBoundsException") ∈ lw_all := lw_g (lw_at lw_m1 29 rfl) rfl
theorem q192 : (Jvm.Cond.selects "java/lang/IndexOutOfBoundsException" ({ cls := "java/lang/Throwable", name := "fillInStackTrace", desc := "()Ljava/lang/Throwable;" } : Jvm.MethodName) ({ cls := "java/lang/Throwable", name := "fillInStackTrace", desc := "()Ljava/lang/Throwable;" } : Jvm.MethodName)) ∈ lw_all := lw_g (lw_at lw_m1 111 rfl) rfl
theorem q938 : (Jvm.Cond.selects "java/lang/IndexOutOfBoundsException" ({ cls := "java/lang/Object", name := "getClass", desc := "()Ljava/lang/Class;" } : Jvm.MethodName) ({ cls := "java/lang/Object", name := "getClass", desc := "()Ljava/lang/Class;" } : Jvm.MethodName)) ∈ lw_all := lw_g (lw_at lw_m4 137 rfl) rfl
theorem q1011 : (Jvm.Cond.instanceMethod ({ cls := "java/lang/IndexOutOfBoundsException", name := "<init>", desc := "(Ljava/lang/String;)V" } : Jvm.MethodName)) ∈ lw_all := lw_g (lw_at lw_m4 210 rfl) rfl
theorem q1012 : (Jvm.Cond.code ({ cls := "java/lang/IndexOutOfBoundsException", name := "<init>", desc := "(Ljava/lang/String;)V" } : Jvm.MethodName) prog_25_method_2_code (2 : Nat) (Option.none : Option Jvm.ClassFile.FieldType)) ∈ lw_all := lw_g (lw_at lw_m4 211 rfl) rfl
theorem q1013 : (Jvm.Cond.methodLink "java/lang/IndexOutOfBoundsException" (7 : Nat) ({ cls := "java/lang/RuntimeException", name := "<init>", desc := "(Ljava/lang/String;)V" } : Jvm.MethodName)) ∈ lw_all := lw_g (lw_at lw_m4 212 rfl) rfl
theorem q1022 : (Jvm.Cond.declares ({ cls := "java/lang/IndexOutOfBoundsException", name := "<init>", desc := "()V" } : Jvm.MethodName)) ∈ lw_tbl := lw_at lw_m4 221 rfl
theorem q1023 : (Jvm.Cond.declares ({ cls := "java/lang/IndexOutOfBoundsException", name := "<init>", desc := "(Ljava/lang/String;)V" } : Jvm.MethodName)) ∈ lw_tbl := lw_at lw_m4 222 rfl
theorem q1036 : (Jvm.Cond.instantiable "java/lang/IndexOutOfBoundsException" (6 : Nat)) ∈ lw_all := lw_g (lw_at lw_m4 235 rfl) rfl
theorem q1037 : (Jvm.Cond.castable "java/lang/IndexOutOfBoundsException" "java/lang/IndexOutOfBoundsException") ∈ lw_tbl := lw_at lw_m4 236 rfl
theorem q1038 : (Jvm.Cond.selects "java/lang/IndexOutOfBoundsException" ({ cls := "java/lang/Throwable", name := "fillInStackTrace", desc := "(I)Ljava/lang/Throwable;" } : Jvm.MethodName) ({ cls := "java/lang/Throwable", name := "fillInStackTrace", desc := "(I)Ljava/lang/Throwable;" } : Jvm.MethodName)) ∈ lw_all := lw_g (lw_at lw_m4 237 rfl) rfl
theorem q1039 : (Jvm.Cond.lays "java/lang/IndexOutOfBoundsException" "java/lang/Throwable" "cause" "Ljava/lang/Throwable;") ∈ lw_all := lw_g (lw_at lw_m4 238 rfl) rfl
theorem q1040 : (Jvm.Cond.lays "java/lang/IndexOutOfBoundsException" "java/lang/Throwable" "stackTrace" "[Ljava/lang/StackTraceElement;") ∈ lw_all := lw_g (lw_at lw_m4 239 rfl) rfl
theorem q1041 : (Jvm.Cond.lays "java/lang/IndexOutOfBoundsException" "java/lang/Throwable" "suppressedExceptions" "Ljava/util/List;") ∈ lw_all := lw_g (lw_at lw_m5 0 rfl) rfl
theorem q1042 : (Jvm.Cond.lays "java/lang/IndexOutOfBoundsException" "java/lang/Throwable" "detailMessage" "Ljava/lang/String;") ∈ lw_all := lw_g (lw_at lw_m5 1 rfl) rfl
theorem q1043 : (Jvm.Cond.lays "java/lang/IndexOutOfBoundsException" "java/lang/Throwable" "backtrace" "Ljava/lang/Object;") ∈ lw_all := lw_g (lw_at lw_m5 2 rfl) rfl
theorem q1045 : (Jvm.Cond.instanceMethod ({ cls := "java/lang/IndexOutOfBoundsException", name := "<init>", desc := "()V" } : Jvm.MethodName)) ∈ lw_all := lw_g (lw_at lw_m5 4 rfl) rfl
theorem q1046 : (Jvm.Cond.code ({ cls := "java/lang/IndexOutOfBoundsException", name := "<init>", desc := "()V" } : Jvm.MethodName) prog_25_method_1_code (1 : Nat) (Option.none : Option Jvm.ClassFile.FieldType)) ∈ lw_all := lw_g (lw_at lw_m5 5 rfl) rfl
theorem q1047 : (Jvm.Cond.methodLink "java/lang/IndexOutOfBoundsException" (1 : Nat) ({ cls := "java/lang/RuntimeException", name := "<init>", desc := "()V" } : Jvm.MethodName)) ∈ lw_all := lw_g (lw_at lw_m5 6 rfl) rfl
theorem q1048 : (Jvm.Cond.lays "java/lang/IndexOutOfBoundsException" "java/lang/Throwable" "depth" "I") ∈ lw_all := lw_g (lw_at lw_m5 7 rfl) rfl
theorem q1049 : (Jvm.Cond.superclass "java/lang/IndexOutOfBoundsException" "java/lang/RuntimeException") ∈ lw_all := lw_g (lw_at lw_m5 8 rfl) rfl
theorem q2324 : (Jvm.Cond.castable "java/lang/IndexOutOfBoundsException" "java/lang/Object") ∈ lw_tbl := lw_at lw_m10 83 rfl
theorem in_J20 : ∀ w ∈ wsJ200, w ∈ lw_all := lw_in wsJ200 [1039, 1040, 1041, 1042, 1043, 1048] (by decide +kernel) (by decide +kernel)
/-! java/lang/ArrayIndexOutOfBoundsException -/
set_option maxRecDepth 100000
def RJ21 : String := "java/lang/ArrayIndexOutOfBoundsException"
def TJ21 : u_T := fun k => match k with
  | 0 => ("java/lang/Throwable", "backtrace", "Ljava/lang/Object;", false)
  | 1 => ("java/lang/Throwable", "detailMessage", "Ljava/lang/String;", false)
  | 2 => ("java/lang/Throwable", "cause", "Ljava/lang/Throwable;", false)
  | 3 => ("java/lang/Throwable", "stackTrace", "[Ljava/lang/StackTraceElement;", false)
  | 4 => ("java/lang/Throwable", "depth", "I", false)
  | _ => ("java/lang/Throwable", "suppressedExceptions", "Ljava/util/List;", false)
def tyJ21 : Nat → FieldType := fun k => match k with
  | 0 => .object "java/lang/Object"
  | 1 => .object "java/lang/String"
  | 2 => .object "java/lang/Throwable"
  | 3 => .array (.object "java/lang/StackTraceElement")
  | 4 => .int
  | _ => .object "java/util/List"
abbrev wsJ210 : List Cond := u_ws RJ21 TJ21 6
theorem nmJ21 : ∀ a, a < 6 → ∀ b, b < 6 → a ≠ b → (TJ21 a).2.1 ≠ (TJ21 b).2.1 := by decide +kernel
theorem tyJ21_ok : ∀ k, k < 6 → parseFieldDescriptor (TJ21 k).2.2.1 = some (tyJ21 k) := by decide +kernel
abbrev cJ21_init : ByteArray := prog_18_method_2_code
def yJ21_init : MethodName := ⟨RJ21, "<init>", "(Ljava/lang/String;)V"⟩
theorem q111 : (Jvm.Cond.initialized "java/lang/ArrayIndexOutOfBoundsException") ∈ lw_all := lw_g (lw_at lw_m1 30 rfl) rfl
theorem q190 : (Jvm.Cond.selects "java/lang/ArrayIndexOutOfBoundsException" ({ cls := "java/lang/Throwable", name := "fillInStackTrace", desc := "()Ljava/lang/Throwable;" } : Jvm.MethodName) ({ cls := "java/lang/Throwable", name := "fillInStackTrace", desc := "()Ljava/lang/Throwable;" } : Jvm.MethodName)) ∈ lw_all := lw_g (lw_at lw_m1 109 rfl) rfl
theorem q935 : (Jvm.Cond.selects "java/lang/ArrayIndexOutOfBoundsException" ({ cls := "java/lang/Object", name := "getClass", desc := "()Ljava/lang/Class;" } : Jvm.MethodName) ({ cls := "java/lang/Object", name := "getClass", desc := "()Ljava/lang/Class;" } : Jvm.MethodName)) ∈ lw_all := lw_g (lw_at lw_m4 134 rfl) rfl
theorem q1007 : (Jvm.Cond.instantiable "java/lang/ArrayIndexOutOfBoundsException" (6 : Nat)) ∈ lw_all := lw_g (lw_at lw_m4 206 rfl) rfl
theorem q1008 : (Jvm.Cond.instanceMethod ({ cls := "java/lang/ArrayIndexOutOfBoundsException", name := "<init>", desc := "(Ljava/lang/String;)V" } : Jvm.MethodName)) ∈ lw_all := lw_g (lw_at lw_m4 207 rfl) rfl
theorem q1009 : (Jvm.Cond.code ({ cls := "java/lang/ArrayIndexOutOfBoundsException", name := "<init>", desc := "(Ljava/lang/String;)V" } : Jvm.MethodName) prog_18_method_2_code (2 : Nat) (Option.none : Option Jvm.ClassFile.FieldType)) ∈ lw_all := lw_g (lw_at lw_m4 208 rfl) rfl
theorem q1010 : (Jvm.Cond.methodLink "java/lang/ArrayIndexOutOfBoundsException" (7 : Nat) ({ cls := "java/lang/IndexOutOfBoundsException", name := "<init>", desc := "(Ljava/lang/String;)V" } : Jvm.MethodName)) ∈ lw_all := lw_g (lw_at lw_m4 209 rfl) rfl
theorem q1014 : (Jvm.Cond.lays "java/lang/ArrayIndexOutOfBoundsException" "java/lang/Throwable" "backtrace" "Ljava/lang/Object;") ∈ lw_all := lw_g (lw_at lw_m4 213 rfl) rfl
theorem q1015 : (Jvm.Cond.lays "java/lang/ArrayIndexOutOfBoundsException" "java/lang/Throwable" "detailMessage" "Ljava/lang/String;") ∈ lw_all := lw_g (lw_at lw_m4 214 rfl) rfl
theorem q1016 : (Jvm.Cond.lays "java/lang/ArrayIndexOutOfBoundsException" "java/lang/Throwable" "cause" "Ljava/lang/Throwable;") ∈ lw_all := lw_g (lw_at lw_m4 215 rfl) rfl
theorem q1017 : (Jvm.Cond.lays "java/lang/ArrayIndexOutOfBoundsException" "java/lang/Throwable" "stackTrace" "[Ljava/lang/StackTraceElement;") ∈ lw_all := lw_g (lw_at lw_m4 216 rfl) rfl
theorem q1018 : (Jvm.Cond.lays "java/lang/ArrayIndexOutOfBoundsException" "java/lang/Throwable" "depth" "I") ∈ lw_all := lw_g (lw_at lw_m4 217 rfl) rfl
theorem q1019 : (Jvm.Cond.lays "java/lang/ArrayIndexOutOfBoundsException" "java/lang/Throwable" "suppressedExceptions" "Ljava/util/List;") ∈ lw_all := lw_g (lw_at lw_m4 218 rfl) rfl
theorem q1020 : (Jvm.Cond.superclass "java/lang/ArrayIndexOutOfBoundsException" "java/lang/IndexOutOfBoundsException") ∈ lw_all := lw_g (lw_at lw_m4 219 rfl) rfl
theorem q1021 : (Jvm.Cond.castable "java/lang/ArrayIndexOutOfBoundsException" "java/lang/ArrayIndexOutOfBoundsException") ∈ lw_tbl := lw_at lw_m4 220 rfl
theorem q1024 : (Jvm.Cond.selects "java/lang/ArrayIndexOutOfBoundsException" ({ cls := "java/lang/Throwable", name := "fillInStackTrace", desc := "(I)Ljava/lang/Throwable;" } : Jvm.MethodName) ({ cls := "java/lang/Throwable", name := "fillInStackTrace", desc := "(I)Ljava/lang/Throwable;" } : Jvm.MethodName)) ∈ lw_all := lw_g (lw_at lw_m4 223 rfl) rfl
theorem q2308 : (Jvm.Cond.castable "java/lang/ArrayIndexOutOfBoundsException" "java/lang/IndexOutOfBoundsException") ∈ lw_tbl := lw_at lw_m10 67 rfl
theorem q2323 : (Jvm.Cond.castable "java/lang/ArrayIndexOutOfBoundsException" "java/lang/Object") ∈ lw_tbl := lw_at lw_m10 82 rfl
theorem in_J21 : ∀ w ∈ wsJ210, w ∈ lw_all := lw_in wsJ210 [1014, 1015, 1016, 1017, 1018, 1019] (by decide +kernel) (by decide +kernel)
/-! java/lang/Record -/
set_option maxRecDepth 100000
def RJ22 : String := "java/lang/Record"
abbrev cJ22_init : ByteArray := prog_30_method_1_code
def yJ22_init : MethodName := ⟨RJ22, "<init>", "()V"⟩
theorem q117 : (Jvm.Cond.initialized "java/lang/Record") ∈ lw_all := lw_g (lw_at lw_m1 36 rfl) rfl
theorem q1396 : (Jvm.Cond.instanceMethod ({ cls := "java/lang/Record", name := "<init>", desc := "()V" } : Jvm.MethodName)) ∈ lw_all := lw_g (lw_at lw_m6 115 rfl) rfl
theorem q1397 : (Jvm.Cond.code ({ cls := "java/lang/Record", name := "<init>", desc := "()V" } : Jvm.MethodName) prog_30_method_1_code (1 : Nat) (Option.none : Option Jvm.ClassFile.FieldType)) ∈ lw_all := lw_g (lw_at lw_m6 116 rfl) rfl
theorem q1398 : (Jvm.Cond.methodLink "java/lang/Record" (1 : Nat) ({ cls := "java/lang/Object", name := "<init>", desc := "()V" } : Jvm.MethodName)) ∈ lw_all := lw_g (lw_at lw_m6 117 rfl) rfl
/-! java/util/NoSuchElementException -/
set_option maxRecDepth 100000
def RJ23 : String := "java/util/NoSuchElementException"
def TJ23 : u_T := fun k => match k with
  | 0 => ("java/lang/Throwable", "cause", "Ljava/lang/Throwable;", false)
  | 1 => ("java/lang/Throwable", "stackTrace", "[Ljava/lang/StackTraceElement;", false)
  | 2 => ("java/lang/Throwable", "suppressedExceptions", "Ljava/util/List;", false)
  | 3 => ("java/lang/Throwable", "detailMessage", "Ljava/lang/String;", false)
  | 4 => ("java/lang/Throwable", "backtrace", "Ljava/lang/Object;", false)
  | _ => ("java/lang/Throwable", "depth", "I", false)
def tyJ23 : Nat → FieldType := fun k => match k with
  | 0 => .object "java/lang/Throwable"
  | 1 => .array (.object "java/lang/StackTraceElement")
  | 2 => .object "java/util/List"
  | 3 => .object "java/lang/String"
  | 4 => .object "java/lang/Object"
  | _ => .int
abbrev wsJ230 : List Cond := u_ws RJ23 TJ23 6
theorem nmJ23 : ∀ a, a < 6 → ∀ b, b < 6 → a ≠ b → (TJ23 a).2.1 ≠ (TJ23 b).2.1 := by decide +kernel
theorem tyJ23_ok : ∀ k, k < 6 → parseFieldDescriptor (TJ23 k).2.2.1 = some (tyJ23 k) := by decide +kernel
abbrev cJ23_init : ByteArray := prog_51_method_1_code
def yJ23_init : MethodName := ⟨RJ23, "<init>", "()V"⟩
theorem q120 : (Jvm.Cond.initialized "java/util/NoSuchElementException") ∈ lw_all := lw_g (lw_at lw_m1 39 rfl) rfl
theorem q193 : (Jvm.Cond.selects "java/util/NoSuchElementException" ({ cls := "java/lang/Throwable", name := "fillInStackTrace", desc := "()Ljava/lang/Throwable;" } : Jvm.MethodName) ({ cls := "java/lang/Throwable", name := "fillInStackTrace", desc := "()Ljava/lang/Throwable;" } : Jvm.MethodName)) ∈ lw_all := lw_g (lw_at lw_m1 112 rfl) rfl
theorem q867 : (Jvm.Cond.instantiable "java/util/NoSuchElementException" (6 : Nat)) ∈ lw_all := lw_g (lw_at lw_m4 66 rfl) rfl
theorem q868 : (Jvm.Cond.castable "java/util/NoSuchElementException" "java/util/NoSuchElementException") ∈ lw_tbl := lw_at lw_m4 67 rfl
theorem q869 : (Jvm.Cond.selects "java/util/NoSuchElementException" ({ cls := "java/lang/Throwable", name := "fillInStackTrace", desc := "(I)Ljava/lang/Throwable;" } : Jvm.MethodName) ({ cls := "java/lang/Throwable", name := "fillInStackTrace", desc := "(I)Ljava/lang/Throwable;" } : Jvm.MethodName)) ∈ lw_all := lw_g (lw_at lw_m4 68 rfl) rfl
theorem q870 : (Jvm.Cond.lays "java/util/NoSuchElementException" "java/lang/Throwable" "cause" "Ljava/lang/Throwable;") ∈ lw_all := lw_g (lw_at lw_m4 69 rfl) rfl
theorem q871 : (Jvm.Cond.lays "java/util/NoSuchElementException" "java/lang/Throwable" "stackTrace" "[Ljava/lang/StackTraceElement;") ∈ lw_all := lw_g (lw_at lw_m4 70 rfl) rfl
theorem q872 : (Jvm.Cond.lays "java/util/NoSuchElementException" "java/lang/Throwable" "suppressedExceptions" "Ljava/util/List;") ∈ lw_all := lw_g (lw_at lw_m4 71 rfl) rfl
theorem q873 : (Jvm.Cond.lays "java/util/NoSuchElementException" "java/lang/Throwable" "detailMessage" "Ljava/lang/String;") ∈ lw_all := lw_g (lw_at lw_m4 72 rfl) rfl
theorem q874 : (Jvm.Cond.lays "java/util/NoSuchElementException" "java/lang/Throwable" "backtrace" "Ljava/lang/Object;") ∈ lw_all := lw_g (lw_at lw_m4 73 rfl) rfl
theorem q876 : (Jvm.Cond.instanceMethod ({ cls := "java/util/NoSuchElementException", name := "<init>", desc := "()V" } : Jvm.MethodName)) ∈ lw_all := lw_g (lw_at lw_m4 75 rfl) rfl
theorem q877 : (Jvm.Cond.code ({ cls := "java/util/NoSuchElementException", name := "<init>", desc := "()V" } : Jvm.MethodName) prog_51_method_1_code (1 : Nat) (Option.none : Option Jvm.ClassFile.FieldType)) ∈ lw_all := lw_g (lw_at lw_m4 76 rfl) rfl
theorem q878 : (Jvm.Cond.methodLink "java/util/NoSuchElementException" (1 : Nat) ({ cls := "java/lang/RuntimeException", name := "<init>", desc := "()V" } : Jvm.MethodName)) ∈ lw_all := lw_g (lw_at lw_m4 77 rfl) rfl
theorem q885 : (Jvm.Cond.lays "java/util/NoSuchElementException" "java/lang/Throwable" "depth" "I") ∈ lw_all := lw_g (lw_at lw_m4 84 rfl) rfl
theorem q886 : (Jvm.Cond.superclass "java/util/NoSuchElementException" "java/lang/RuntimeException") ∈ lw_all := lw_g (lw_at lw_m4 85 rfl) rfl
theorem q945 : (Jvm.Cond.selects "java/util/NoSuchElementException" ({ cls := "java/lang/Object", name := "getClass", desc := "()Ljava/lang/Class;" } : Jvm.MethodName) ({ cls := "java/lang/Object", name := "getClass", desc := "()Ljava/lang/Class;" } : Jvm.MethodName)) ∈ lw_all := lw_g (lw_at lw_m4 144 rfl) rfl
theorem q2332 : (Jvm.Cond.castable "java/util/NoSuchElementException" "java/lang/Object") ∈ lw_tbl := lw_at lw_m10 91 rfl
theorem in_J23 : ∀ w ∈ wsJ230, w ∈ lw_all := lw_in wsJ230 [870, 871, 872, 873, 874, 885] (by decide +kernel) (by decide +kernel)
/-! java/util/ArrayList$Itr -/
set_option maxRecDepth 100000
def RJ24 : String := "java/util/ArrayList$Itr"
def TJ24 : u_T := fun k => match k with
  | 0 => ("java/util/ArrayList$Itr", "cursor", "I", false)
  | 1 => ("java/util/ArrayList$Itr", "lastRet", "I", false)
  | 2 => ("java/util/ArrayList$Itr", "expectedModCount", "I", false)
  | _ => ("java/util/ArrayList$Itr", "this$0", "Ljava/util/ArrayList;", true)
def tyJ24 : Nat → FieldType := fun k => match k with
  | 0 => .int
  | 1 => .int
  | 2 => .int
  | _ => .object "java/util/ArrayList"
abbrev wsJ240 : List Cond := u_ws RJ24 TJ24 4
theorem nmJ24 : ∀ a, a < 4 → ∀ b, b < 4 → a ≠ b → (TJ24 a).2.1 ≠ (TJ24 b).2.1 := by decide +kernel
theorem tyJ24_ok : ∀ k, k < 4 → parseFieldDescriptor (TJ24 k).2.2.1 = some (tyJ24 k) := by decide +kernel
abbrev cJ24_init : ByteArray := prog_45_method_1_code
def yJ24_init : MethodName := ⟨RJ24, "<init>", "(Ljava/util/ArrayList;)V"⟩
abbrev cJ24_hasNext : ByteArray := prog_45_method_2_code
def yJ24_hasNext : MethodName := ⟨RJ24, "hasNext", "()Z"⟩
abbrev cJ24_next : ByteArray := prog_45_method_3_code
def yJ24_next : MethodName := ⟨RJ24, "next", "()Ljava/lang/Object;"⟩
abbrev cJ24_checkForComodification : ByteArray := prog_45_method_6_code
def yJ24_checkForComodification : MethodName := ⟨RJ24, "checkForComodification", "()V"⟩
theorem q121 : (Jvm.Cond.initialized "java/util/ArrayList$Itr") ∈ lw_all := lw_g (lw_at lw_m1 40 rfl) rfl
theorem q474 : (Jvm.Cond.fieldLink "java/util/ArrayList$Itr" (37 : Nat) "java/util/ArrayList" "elementData" "[Ljava/lang/Object;") ∈ lw_all := lw_g (lw_at lw_m2 153 rfl) rfl
theorem q475 : (Jvm.Cond.fieldLinkNest "java/util/ArrayList$Itr" (28 : Nat) "java/util/ArrayList" "size" "I" "java/util/ArrayList") ∈ lw_tbl := lw_at lw_m2 154 rfl
theorem q478 : (Jvm.Cond.fieldLink "java/util/ArrayList$Itr" (17 : Nat) "java/util/ArrayList" "modCount" "I") ∈ lw_all := lw_g (lw_at lw_m2 157 rfl) rfl
theorem q944 : (Jvm.Cond.selects "java/util/ArrayList$Itr" ({ cls := "java/lang/Object", name := "getClass", desc := "()Ljava/lang/Class;" } : Jvm.MethodName) ({ cls := "java/lang/Object", name := "getClass", desc := "()Ljava/lang/Class;" } : Jvm.MethodName)) ∈ lw_all := lw_g (lw_at lw_m4 143 rfl) rfl
theorem q1606 : (Jvm.Cond.instantiable "java/util/ArrayList$Itr" (4 : Nat)) ∈ lw_all := lw_g (lw_at lw_m7 85 rfl) rfl
theorem q1608 : (Jvm.Cond.instanceMethod ({ cls := "java/util/ArrayList$Itr", name := "<init>", desc := "(Ljava/util/ArrayList;)V" } : Jvm.MethodName)) ∈ lw_all := lw_g (lw_at lw_m7 87 rfl) rfl
theorem q1609 : (Jvm.Cond.code ({ cls := "java/util/ArrayList$Itr", name := "<init>", desc := "(Ljava/util/ArrayList;)V" } : Jvm.MethodName) prog_45_method_1_code (2 : Nat) (Option.none : Option Jvm.ClassFile.FieldType)) ∈ lw_all := lw_g (lw_at lw_m7 88 rfl) rfl
theorem q1610 : (Jvm.Cond.methodLink "java/util/ArrayList$Itr" (7 : Nat) ({ cls := "java/lang/Object", name := "<init>", desc := "()V" } : Jvm.MethodName)) ∈ lw_all := lw_g (lw_at lw_m7 89 rfl) rfl
theorem q1611 : (Jvm.Cond.fieldLink "java/util/ArrayList$Itr" (25 : Nat) "java/util/ArrayList$Itr" "cursor" "I") ∈ lw_all := lw_g (lw_at lw_m7 90 rfl) rfl
theorem q1612 : (Jvm.Cond.fieldLink "java/util/ArrayList$Itr" (13 : Nat) "java/util/ArrayList$Itr" "lastRet" "I") ∈ lw_all := lw_g (lw_at lw_m7 91 rfl) rfl
theorem q1613 : (Jvm.Cond.fieldLink "java/util/ArrayList$Itr" (22 : Nat) "java/util/ArrayList$Itr" "expectedModCount" "I") ∈ lw_all := lw_g (lw_at lw_m7 92 rfl) rfl
theorem q1614 : (Jvm.Cond.fieldLink "java/util/ArrayList$Itr" (1 : Nat) "java/util/ArrayList$Itr" "this$0" "Ljava/util/ArrayList;") ∈ lw_all := lw_g (lw_at lw_m7 93 rfl) rfl
theorem q1615 : (Jvm.Cond.lays "java/util/ArrayList$Itr" "java/util/ArrayList$Itr" "cursor" "I") ∈ lw_all := lw_g (lw_at lw_m7 94 rfl) rfl
theorem q1616 : (Jvm.Cond.soleField "java/util/ArrayList$Itr" "cursor") ∈ lw_all := lw_g (lw_at lw_m7 95 rfl) rfl
theorem q1617 : (Jvm.Cond.lays "java/util/ArrayList$Itr" "java/util/ArrayList$Itr" "lastRet" "I") ∈ lw_all := lw_g (lw_at lw_m7 96 rfl) rfl
theorem q1618 : (Jvm.Cond.soleField "java/util/ArrayList$Itr" "lastRet") ∈ lw_all := lw_g (lw_at lw_m7 97 rfl) rfl
theorem q1619 : (Jvm.Cond.lays "java/util/ArrayList$Itr" "java/util/ArrayList$Itr" "expectedModCount" "I") ∈ lw_all := lw_g (lw_at lw_m7 98 rfl) rfl
theorem q1620 : (Jvm.Cond.soleField "java/util/ArrayList$Itr" "expectedModCount") ∈ lw_all := lw_g (lw_at lw_m7 99 rfl) rfl
theorem q1621 : (Jvm.Cond.laysFinal "java/util/ArrayList$Itr" "java/util/ArrayList$Itr" "this$0" "Ljava/util/ArrayList;") ∈ lw_all := lw_g (lw_at lw_m7 100 rfl) rfl
theorem q1622 : (Jvm.Cond.soleField "java/util/ArrayList$Itr" "this$0") ∈ lw_all := lw_g (lw_at lw_m7 101 rfl) rfl
theorem q1623 : (Jvm.Cond.superclass "java/util/ArrayList$Itr" "java/lang/Object") ∈ lw_all := lw_g (lw_at lw_m7 102 rfl) rfl
theorem q1628 : (Jvm.Cond.castable "java/util/ArrayList$Itr" "java/util/Iterator") ∈ lw_tbl := lw_at lw_m7 107 rfl
theorem q1629 : (Jvm.Cond.selects "java/util/ArrayList$Itr" ({ cls := "java/util/Iterator", name := "hasNext", desc := "()Z" } : Jvm.MethodName) ({ cls := "java/util/ArrayList$Itr", name := "hasNext", desc := "()Z" } : Jvm.MethodName)) ∈ lw_all := lw_g (lw_at lw_m7 108 rfl) rfl
theorem q1630 : (Jvm.Cond.unhidden "java/util/ArrayList$Itr" "hasNext" "()Z") ∈ lw_tbl := lw_at lw_m7 109 rfl
theorem q1631 : (Jvm.Cond.instanceMethod ({ cls := "java/util/ArrayList$Itr", name := "hasNext", desc := "()Z" } : Jvm.MethodName)) ∈ lw_all := lw_g (lw_at lw_m7 110 rfl) rfl
theorem q1632 : (Jvm.Cond.publicMethod ({ cls := "java/util/ArrayList$Itr", name := "hasNext", desc := "()Z" } : Jvm.MethodName)) ∈ lw_tbl := lw_at lw_m7 111 rfl
theorem q1633 : (Jvm.Cond.code ({ cls := "java/util/ArrayList$Itr", name := "hasNext", desc := "()Z" } : Jvm.MethodName) prog_45_method_2_code (1 : Nat) (Option.some Jvm.ClassFile.FieldType.boolean)) ∈ lw_all := lw_g (lw_at lw_m7 112 rfl) rfl
theorem q1638 : (Jvm.Cond.selects "java/util/ArrayList$Itr" ({ cls := "java/util/Iterator", name := "next", desc := "()Ljava/lang/Object;" } : Jvm.MethodName) ({ cls := "java/util/ArrayList$Itr", name := "next", desc := "()Ljava/lang/Object;" } : Jvm.MethodName)) ∈ lw_all := lw_g (lw_at lw_m7 117 rfl) rfl
theorem q1639 : (Jvm.Cond.unhidden "java/util/ArrayList$Itr" "next" "()Ljava/lang/Object;") ∈ lw_tbl := lw_at lw_m7 118 rfl
theorem q1640 : (Jvm.Cond.instanceMethod ({ cls := "java/util/ArrayList$Itr", name := "next", desc := "()Ljava/lang/Object;" } : Jvm.MethodName)) ∈ lw_all := lw_g (lw_at lw_m7 119 rfl) rfl
theorem q1641 : (Jvm.Cond.publicMethod ({ cls := "java/util/ArrayList$Itr", name := "next", desc := "()Ljava/lang/Object;" } : Jvm.MethodName)) ∈ lw_tbl := lw_at lw_m7 120 rfl
theorem q1642 : (Jvm.Cond.code ({ cls := "java/util/ArrayList$Itr", name := "next", desc := "()Ljava/lang/Object;" } : Jvm.MethodName) prog_45_method_3_code (3 : Nat) (Option.some (Jvm.ClassFile.FieldType.object "java/lang/Object"))) ∈ lw_all := lw_g (lw_at lw_m7 121 rfl) rfl
theorem q1643 : (Jvm.Cond.methodLink "java/util/ArrayList$Itr" (31 : Nat) ({ cls := "java/util/ArrayList$Itr", name := "checkForComodification", desc := "()V" } : Jvm.MethodName)) ∈ lw_all := lw_g (lw_at lw_m7 122 rfl) rfl
theorem q1644 : (Jvm.Cond.instanceMethod ({ cls := "java/util/ArrayList$Itr", name := "checkForComodification", desc := "()V" } : Jvm.MethodName)) ∈ lw_all := lw_g (lw_at lw_m7 123 rfl) rfl
theorem q1645 : (Jvm.Cond.selects "java/util/ArrayList$Itr" ({ cls := "java/util/ArrayList$Itr", name := "checkForComodification", desc := "()V" } : Jvm.MethodName) ({ cls := "java/util/ArrayList$Itr", name := "checkForComodification", desc := "()V" } : Jvm.MethodName)) ∈ lw_all := lw_g (lw_at lw_m7 124 rfl) rfl
theorem q1646 : (Jvm.Cond.code ({ cls := "java/util/ArrayList$Itr", name := "checkForComodification", desc := "()V" } : Jvm.MethodName) prog_45_method_6_code (1 : Nat) (Option.none : Option Jvm.ClassFile.FieldType)) ∈ lw_all := lw_g (lw_at lw_m7 125 rfl) rfl
theorem q1647 : (Jvm.Cond.classLink "java/util/ArrayList$Itr" (34 : Nat) "java/util/NoSuchElementException") ∈ lw_all := lw_g (lw_at lw_m7 126 rfl) rfl
theorem q1648 : (Jvm.Cond.methodLink "java/util/ArrayList$Itr" (36 : Nat) ({ cls := "java/util/NoSuchElementException", name := "<init>", desc := "()V" } : Jvm.MethodName)) ∈ lw_all := lw_g (lw_at lw_m7 127 rfl) rfl
theorem q2333 : (Jvm.Cond.castable "java/util/ArrayList$Itr" "java/lang/Object") ∈ lw_tbl := lw_at lw_m10 92 rfl
theorem in_J24 : ∀ w ∈ wsJ240, w ∈ lw_all := lw_in wsJ240 [1615, 1617, 1619, 1621] (by decide +kernel) (by decide +kernel)
/-! java/lang/Object -/
set_option maxRecDepth 100000
def RJ25 : String := "java/lang/Object"
abbrev cJ25_init : ByteArray := object_method_1_code
def yJ25_init : MethodName := ⟨RJ25, "<init>", "()V"⟩
theorem q128 : (Jvm.Cond.instanceMethod ({ cls := "java/lang/Object", name := "<init>", desc := "()V" } : Jvm.MethodName)) ∈ lw_all := lw_g (lw_at lw_m1 47 rfl) rfl
theorem q129 : (Jvm.Cond.code ({ cls := "java/lang/Object", name := "<init>", desc := "()V" } : Jvm.MethodName) object_method_1_code (1 : Nat) (Option.none : Option Jvm.ClassFile.FieldType)) ∈ lw_all := lw_g (lw_at lw_m1 48 rfl) rfl
theorem q268 : (Jvm.Cond.native ({ cls := "java/lang/Object", name := "clone", desc := "()Ljava/lang/Object;" } : Jvm.MethodName)) ∈ lw_all := lw_g (lw_at lw_m1 187 rfl) rfl
theorem q269 : (Jvm.Cond.instanceMethod ({ cls := "java/lang/Object", name := "clone", desc := "()Ljava/lang/Object;" } : Jvm.MethodName)) ∈ lw_all := lw_g (lw_at lw_m1 188 rfl) rfl
theorem q921 : (Jvm.Cond.instanceMethod ({ cls := "java/lang/Object", name := "getClass", desc := "()Ljava/lang/Class;" } : Jvm.MethodName)) ∈ lw_all := lw_g (lw_at lw_m4 120 rfl) rfl
theorem q922 : (Jvm.Cond.sameMethod "java/lang/Object" "java/lang/Object" "getClass" "()Ljava/lang/Class;") ∈ lw_all := lw_g (lw_at lw_m4 121 rfl) rfl
theorem q946 : (Jvm.Cond.native ({ cls := "java/lang/Object", name := "getClass", desc := "()Ljava/lang/Class;" } : Jvm.MethodName)) ∈ lw_all := lw_g (lw_at lw_m4 145 rfl) rfl
theorem q2307 : (Jvm.Cond.initialized "java/lang/Object") ∈ lw_all := lw_g (lw_at lw_m10 66 rfl) rfl
theorem q2337 : (Jvm.Cond.declares ({ cls := "java/lang/Object", name := "getClass", desc := "()Ljava/lang/Class;" } : Jvm.MethodName)) ∈ lw_tbl := lw_at lw_m10 96 rfl
/-! java/lang/System$2 -/
set_option maxRecDepth 100000
def RJ26 : String := "java/lang/System$2"
abbrev cJ26_getUTF16Char : ByteArray := prog_37_method_45_code
def yJ26_getUTF16Char : MethodName := ⟨RJ26, "getUTF16Char", "([BI)C"⟩
theorem q941 : (Jvm.Cond.selects "java/lang/System$2" ({ cls := "java/lang/Object", name := "getClass", desc := "()Ljava/lang/Class;" } : Jvm.MethodName) ({ cls := "java/lang/Object", name := "getClass", desc := "()Ljava/lang/Class;" } : Jvm.MethodName)) ∈ lw_all := lw_g (lw_at lw_m4 140 rfl) rfl
theorem q1340 : (Jvm.Cond.castable "java/lang/System$2" "jdk/internal/access/JavaLangAccess") ∈ lw_tbl := lw_at lw_m6 59 rfl
theorem q1341 : (Jvm.Cond.selects "java/lang/System$2" ({ cls := "jdk/internal/access/JavaLangAccess", name := "getUTF16Char", desc := "([BI)C" } : Jvm.MethodName) ({ cls := "java/lang/System$2", name := "getUTF16Char", desc := "([BI)C" } : Jvm.MethodName)) ∈ lw_all := lw_g (lw_at lw_m6 60 rfl) rfl
theorem q1342 : (Jvm.Cond.unhidden "java/lang/System$2" "getUTF16Char" "([BI)C") ∈ lw_tbl := lw_at lw_m6 61 rfl
theorem q1343 : (Jvm.Cond.instanceMethod ({ cls := "java/lang/System$2", name := "getUTF16Char", desc := "([BI)C" } : Jvm.MethodName)) ∈ lw_all := lw_g (lw_at lw_m6 62 rfl) rfl
theorem q1344 : (Jvm.Cond.publicMethod ({ cls := "java/lang/System$2", name := "getUTF16Char", desc := "([BI)C" } : Jvm.MethodName)) ∈ lw_tbl := lw_at lw_m6 63 rfl
theorem q1345 : (Jvm.Cond.code ({ cls := "java/lang/System$2", name := "getUTF16Char", desc := "([BI)C" } : Jvm.MethodName) prog_37_method_45_code (3 : Nat) (Option.some Jvm.ClassFile.FieldType.char)) ∈ lw_all := lw_g (lw_at lw_m6 64 rfl) rfl
theorem q1346 : (Jvm.Cond.methodLink "java/lang/System$2" (185 : Nat) ({ cls := "java/lang/StringUTF16", name := "getChar", desc := "([BI)C" } : Jvm.MethodName)) ∈ lw_all := lw_g (lw_at lw_m6 65 rfl) rfl
theorem q2329 : (Jvm.Cond.castable "java/lang/System$2" "java/lang/Object") ∈ lw_tbl := lw_at lw_m10 88 rfl
/-! java/lang/Throwable -/
set_option maxRecDepth 100000
def RJ3 : String := "java/lang/Throwable"
def TJ3 : u_T := fun k => match k with
  | 0 => ("java/lang/Throwable", "cause", "Ljava/lang/Throwable;", false)
  | 1 => ("java/lang/Throwable", "stackTrace", "[Ljava/lang/StackTraceElement;", false)
  | 2 => ("java/lang/Throwable", "suppressedExceptions", "Ljava/util/List;", false)
  | 3 => ("java/lang/Throwable", "detailMessage", "Ljava/lang/String;", false)
  | _ => ("java/lang/Throwable", "backtrace", "Ljava/lang/Object;", false)
def tyJ3 : Nat → FieldType := fun k => match k with
  | 0 => .object "java/lang/Throwable"
  | 1 => .array (.object "java/lang/StackTraceElement")
  | 2 => .object "java/util/List"
  | 3 => .object "java/lang/String"
  | _ => .object "java/lang/Object"
abbrev wsJ30 : List Cond := u_ws RJ3 TJ3 5
theorem nmJ3 : ∀ a, a < 5 → ∀ b, b < 5 → a ≠ b → (TJ3 a).2.1 ≠ (TJ3 b).2.1 := by decide +kernel
theorem tyJ3_ok : ∀ k, k < 5 → parseFieldDescriptor (TJ3 k).2.2.1 = some (tyJ3 k) := by decide +kernel
abbrev cJ3_init : ByteArray := prog_38_method_1_code
def yJ3_init : MethodName := ⟨RJ3, "<init>", "()V"⟩
abbrev cJ3_init_2 : ByteArray := prog_38_method_2_code
def yJ3_init_2 : MethodName := ⟨RJ3, "<init>", "(Ljava/lang/String;)V"⟩
abbrev cJ3_init_3 : ByteArray := prog_38_method_5_code
def yJ3_init_3 : MethodName := ⟨RJ3, "<init>", "(Ljava/lang/String;Ljava/lang/Throwable;ZZ)V"⟩
abbrev cJ3_init_4 : ByteArray := prog_38_method_3_code
def yJ3_init_4 : MethodName := ⟨RJ3, "<init>", "(Ljava/lang/String;Ljava/lang/Throwable;)V"⟩
theorem q88 : (Jvm.Cond.initialized "java/lang/Throwable") ∈ lw_all := lw_g (lw_at lw_m1 7 rfl) rfl
theorem q161 : (Jvm.Cond.declares ({ cls := "java/lang/Throwable", name := "<init>", desc := "()V" } : Jvm.MethodName)) ∈ lw_tbl := lw_at lw_m1 80 rfl
theorem q162 : (Jvm.Cond.declares ({ cls := "java/lang/Throwable", name := "<init>", desc := "(Ljava/lang/String;)V" } : Jvm.MethodName)) ∈ lw_tbl := lw_at lw_m1 81 rfl
theorem q166 : (Jvm.Cond.lays "java/lang/Throwable" "java/lang/Throwable" "cause" "Ljava/lang/Throwable;") ∈ lw_all := lw_g (lw_at lw_m1 85 rfl) rfl
theorem q168 : (Jvm.Cond.lays "java/lang/Throwable" "java/lang/Throwable" "stackTrace" "[Ljava/lang/StackTraceElement;") ∈ lw_all := lw_g (lw_at lw_m1 87 rfl) rfl
theorem q170 : (Jvm.Cond.lays "java/lang/Throwable" "java/lang/Throwable" "suppressedExceptions" "Ljava/util/List;") ∈ lw_all := lw_g (lw_at lw_m1 89 rfl) rfl
theorem q172 : (Jvm.Cond.lays "java/lang/Throwable" "java/lang/Throwable" "detailMessage" "Ljava/lang/String;") ∈ lw_all := lw_g (lw_at lw_m1 91 rfl) rfl
theorem q174 : (Jvm.Cond.lays "java/lang/Throwable" "java/lang/Throwable" "backtrace" "Ljava/lang/Object;") ∈ lw_all := lw_g (lw_at lw_m1 93 rfl) rfl
theorem q175 : (Jvm.Cond.fieldLink "java/lang/Throwable" (198 : Nat) "java/lang/Throwable" "backtrace" "Ljava/lang/Object;") ∈ lw_all := lw_g (lw_at lw_m1 94 rfl) rfl
theorem q176 : (Jvm.Cond.superclass "java/lang/Throwable" "java/lang/Object") ∈ lw_all := lw_g (lw_at lw_m1 95 rfl) rfl
theorem q177 : (Jvm.Cond.instanceMethod ({ cls := "java/lang/Throwable", name := "<init>", desc := "()V" } : Jvm.MethodName)) ∈ lw_all := lw_g (lw_at lw_m1 96 rfl) rfl
theorem q178 : (Jvm.Cond.code ({ cls := "java/lang/Throwable", name := "<init>", desc := "()V" } : Jvm.MethodName) prog_38_method_1_code (1 : Nat) (Option.none : Option Jvm.ClassFile.FieldType)) ∈ lw_all := lw_g (lw_at lw_m1 97 rfl) rfl
theorem q179 : (Jvm.Cond.methodLink "java/lang/Throwable" (1 : Nat) ({ cls := "java/lang/Object", name := "<init>", desc := "()V" } : Jvm.MethodName)) ∈ lw_all := lw_g (lw_at lw_m1 98 rfl) rfl
theorem q180 : (Jvm.Cond.fieldLink "java/lang/Throwable" (13 : Nat) "java/lang/Throwable" "UNASSIGNED_STACK" "[Ljava/lang/StackTraceElement;") ∈ lw_all := lw_g (lw_at lw_m1 99 rfl) rfl
theorem q181 : (Jvm.Cond.laysStatic "java/lang/Throwable" "UNASSIGNED_STACK" "[Ljava/lang/StackTraceElement;") ∈ lw_tbl := lw_at lw_m1 100 rfl
theorem q182 : (Jvm.Cond.fieldLink "java/lang/Throwable" (20 : Nat) "java/lang/Throwable" "SUPPRESSED_SENTINEL" "Ljava/util/List;") ∈ lw_all := lw_g (lw_at lw_m1 101 rfl) rfl
theorem q183 : (Jvm.Cond.laysStatic "java/lang/Throwable" "SUPPRESSED_SENTINEL" "Ljava/util/List;") ∈ lw_tbl := lw_at lw_m1 102 rfl
theorem q184 : (Jvm.Cond.methodLink "java/lang/Throwable" (27 : Nat) ({ cls := "java/lang/Throwable", name := "fillInStackTrace", desc := "()Ljava/lang/Throwable;" } : Jvm.MethodName)) ∈ lw_all := lw_g (lw_at lw_m1 103 rfl) rfl
theorem q185 : (Jvm.Cond.instanceMethod ({ cls := "java/lang/Throwable", name := "fillInStackTrace", desc := "()Ljava/lang/Throwable;" } : Jvm.MethodName)) ∈ lw_all := lw_g (lw_at lw_m1 104 rfl) rfl
theorem q186 : (Jvm.Cond.sameMethod "java/lang/Throwable" "java/lang/Throwable" "fillInStackTrace" "()Ljava/lang/Throwable;") ∈ lw_all := lw_g (lw_at lw_m1 105 rfl) rfl
theorem q194 : (Jvm.Cond.codeSync ({ cls := "java/lang/Throwable", name := "fillInStackTrace", desc := "()Ljava/lang/Throwable;" } : Jvm.MethodName) prog_38_method_18_code (1 : Nat) (Option.some (Jvm.ClassFile.FieldType.object "java/lang/Throwable"))) ∈ lw_all := lw_g (lw_at lw_m1 113 rfl) rfl
theorem q195 : (Jvm.Cond.methodLink "java/lang/Throwable" (202 : Nat) ({ cls := "java/lang/Throwable", name := "fillInStackTrace", desc := "(I)Ljava/lang/Throwable;" } : Jvm.MethodName)) ∈ lw_all := lw_g (lw_at lw_m1 114 rfl) rfl
theorem q196 : (Jvm.Cond.privateMethod ({ cls := "java/lang/Throwable", name := "fillInStackTrace", desc := "(I)Ljava/lang/Throwable;" } : Jvm.MethodName)) ∈ lw_tbl := lw_at lw_m1 115 rfl
theorem q197 : (Jvm.Cond.instanceMethod ({ cls := "java/lang/Throwable", name := "fillInStackTrace", desc := "(I)Ljava/lang/Throwable;" } : Jvm.MethodName)) ∈ lw_all := lw_g (lw_at lw_m1 116 rfl) rfl
theorem q198 : (Jvm.Cond.instantiable "java/lang/Throwable" (6 : Nat)) ∈ lw_all := lw_g (lw_at lw_m1 117 rfl) rfl
theorem q199 : (Jvm.Cond.native ({ cls := "java/lang/Throwable", name := "fillInStackTrace", desc := "(I)Ljava/lang/Throwable;" } : Jvm.MethodName)) ∈ lw_all := lw_g (lw_at lw_m1 118 rfl) rfl
theorem q431 : (Jvm.Cond.instanceMethod ({ cls := "java/lang/Throwable", name := "<init>", desc := "(Ljava/lang/String;)V" } : Jvm.MethodName)) ∈ lw_all := lw_g (lw_at lw_m2 110 rfl) rfl
theorem q432 : (Jvm.Cond.code ({ cls := "java/lang/Throwable", name := "<init>", desc := "(Ljava/lang/String;)V" } : Jvm.MethodName) prog_38_method_2_code (2 : Nat) (Option.none : Option Jvm.ClassFile.FieldType)) ∈ lw_all := lw_g (lw_at lw_m2 111 rfl) rfl
theorem q433 : (Jvm.Cond.fieldLink "java/lang/Throwable" (198 : Nat) "java/lang/Throwable" "backtrace" "Ljava/lang/Object;") ∈ lw_all := lw_g (lw_at lw_m2 112 rfl) rfl
theorem q434 : (Jvm.Cond.fieldLink "java/lang/Throwable" (31 : Nat) "java/lang/Throwable" "detailMessage" "Ljava/lang/String;") ∈ lw_all := lw_g (lw_at lw_m2 113 rfl) rfl
theorem q435 : (Jvm.Cond.fieldLink "java/lang/Throwable" (7 : Nat) "java/lang/Throwable" "cause" "Ljava/lang/Throwable;") ∈ lw_all := lw_g (lw_at lw_m2 114 rfl) rfl
theorem q436 : (Jvm.Cond.fieldLink "java/lang/Throwable" (17 : Nat) "java/lang/Throwable" "stackTrace" "[Ljava/lang/StackTraceElement;") ∈ lw_all := lw_g (lw_at lw_m2 115 rfl) rfl
theorem q437 : (Jvm.Cond.fieldLink "java/lang/Throwable" (24 : Nat) "java/lang/Throwable" "suppressedExceptions" "Ljava/util/List;") ∈ lw_all := lw_g (lw_at lw_m2 116 rfl) rfl
theorem q438 : (Jvm.Cond.soleField "java/lang/Throwable" "backtrace") ∈ lw_all := lw_g (lw_at lw_m2 117 rfl) rfl
theorem q439 : (Jvm.Cond.soleField "java/lang/Throwable" "detailMessage") ∈ lw_all := lw_g (lw_at lw_m2 118 rfl) rfl
theorem q440 : (Jvm.Cond.soleField "java/lang/Throwable" "cause") ∈ lw_all := lw_g (lw_at lw_m2 119 rfl) rfl
theorem q441 : (Jvm.Cond.soleField "java/lang/Throwable" "stackTrace") ∈ lw_all := lw_g (lw_at lw_m2 120 rfl) rfl
theorem q443 : (Jvm.Cond.soleField "java/lang/Throwable" "depth") ∈ lw_all := lw_g (lw_at lw_m2 122 rfl) rfl
theorem q444 : (Jvm.Cond.soleField "java/lang/Throwable" "suppressedExceptions") ∈ lw_all := lw_g (lw_at lw_m2 123 rfl) rfl
theorem q1171 : (Jvm.Cond.instanceMethod ({ cls := "java/lang/Throwable", name := "<init>", desc := "(Ljava/lang/String;Ljava/lang/Throwable;ZZ)V" } : Jvm.MethodName)) ∈ lw_all := lw_g (lw_at lw_m5 130 rfl) rfl
theorem q1172 : (Jvm.Cond.code ({ cls := "java/lang/Throwable", name := "<init>", desc := "(Ljava/lang/String;Ljava/lang/Throwable;ZZ)V" } : Jvm.MethodName) prog_38_method_5_code (5 : Nat) (Option.none : Option Jvm.ClassFile.FieldType)) ∈ lw_all := lw_g (lw_at lw_m5 131 rfl) rfl
theorem q1422 : (Jvm.Cond.instanceMethod ({ cls := "java/lang/Throwable", name := "<init>", desc := "(Ljava/lang/String;Ljava/lang/Throwable;)V" } : Jvm.MethodName)) ∈ lw_all := lw_g (lw_at lw_m6 141 rfl) rfl
theorem q1423 : (Jvm.Cond.code ({ cls := "java/lang/Throwable", name := "<init>", desc := "(Ljava/lang/String;Ljava/lang/Throwable;)V" } : Jvm.MethodName) prog_38_method_3_code (3 : Nat) (Option.none : Option Jvm.ClassFile.FieldType)) ∈ lw_all := lw_g (lw_at lw_m6 142 rfl) rfl
theorem q1435 : (Jvm.Cond.declares ({ cls := "java/lang/Throwable", name := "getCause", desc := "()Ljava/lang/Throwable;" } : Jvm.MethodName)) ∈ lw_tbl := lw_at lw_m6 154 rfl
theorem q1437 : (Jvm.Cond.instanceMethod ({ cls := "java/lang/Throwable", name := "getCause", desc := "()Ljava/lang/Throwable;" } : Jvm.MethodName)) ∈ lw_all := lw_g (lw_at lw_m6 156 rfl) rfl
theorem q1438 : (Jvm.Cond.codeSync ({ cls := "java/lang/Throwable", name := "getCause", desc := "()Ljava/lang/Throwable;" } : Jvm.MethodName) prog_38_method_8_code (1 : Nat) (Option.some (Jvm.ClassFile.FieldType.object "java/lang/Throwable"))) ∈ lw_all := lw_g (lw_at lw_m6 157 rfl) rfl
theorem q2297 : (Jvm.Cond.sameMethod "java/lang/Throwable" "java/lang/Throwable" "fillInStackTrace" "(I)Ljava/lang/Throwable;") ∈ lw_all := lw_g (lw_at lw_m10 56 rfl) rfl
theorem q2334 : (Jvm.Cond.castable "java/lang/Throwable" "java/lang/Object") ∈ lw_tbl := lw_at lw_m10 93 rfl
theorem in_J3 : ∀ w ∈ wsJ30, w ∈ lw_all := lw_in wsJ30 [166, 168, 170, 172, 174] (by decide +kernel) (by decide +kernel)
/-! java/lang/Exception -/
set_option maxRecDepth 100000
def RJ4 : String := "java/lang/Exception"
abbrev cJ4_init : ByteArray := prog_22_method_2_code
def yJ4_init : MethodName := ⟨RJ4, "<init>", "(Ljava/lang/String;)V"⟩
abbrev cJ4_init_2 : ByteArray := prog_22_method_1_code
def yJ4_init_2 : MethodName := ⟨RJ4, "<init>", "()V"⟩
abbrev cJ4_init_3 : ByteArray := prog_22_method_5_code
def yJ4_init_3 : MethodName := ⟨RJ4, "<init>", "(Ljava/lang/String;Ljava/lang/Throwable;ZZ)V"⟩
abbrev cJ4_init_4 : ByteArray := prog_22_method_3_code
def yJ4_init_4 : MethodName := ⟨RJ4, "<init>", "(Ljava/lang/String;Ljava/lang/Throwable;)V"⟩
theorem q89 : (Jvm.Cond.initialized "java/lang/Exception") ∈ lw_all := lw_g (lw_at lw_m1 8 rfl) rfl
theorem q159 : (Jvm.Cond.declares ({ cls := "java/lang/Exception", name := "<init>", desc := "()V" } : Jvm.MethodName)) ∈ lw_tbl := lw_at lw_m1 78 rfl
theorem q160 : (Jvm.Cond.declares ({ cls := "java/lang/Exception", name := "<init>", desc := "(Ljava/lang/String;)V" } : Jvm.MethodName)) ∈ lw_tbl := lw_at lw_m1 79 rfl
theorem q428 : (Jvm.Cond.instanceMethod ({ cls := "java/lang/Exception", name := "<init>", desc := "(Ljava/lang/String;)V" } : Jvm.MethodName)) ∈ lw_all := lw_g (lw_at lw_m2 107 rfl) rfl
theorem q429 : (Jvm.Cond.code ({ cls := "java/lang/Exception", name := "<init>", desc := "(Ljava/lang/String;)V" } : Jvm.MethodName) prog_22_method_2_code (2 : Nat) (Option.none : Option Jvm.ClassFile.FieldType)) ∈ lw_all := lw_g (lw_at lw_m2 108 rfl) rfl
theorem q430 : (Jvm.Cond.methodLink "java/lang/Exception" (7 : Nat) ({ cls := "java/lang/Throwable", name := "<init>", desc := "(Ljava/lang/String;)V" } : Jvm.MethodName)) ∈ lw_all := lw_g (lw_at lw_m2 109 rfl) rfl
theorem q882 : (Jvm.Cond.instanceMethod ({ cls := "java/lang/Exception", name := "<init>", desc := "()V" } : Jvm.MethodName)) ∈ lw_all := lw_g (lw_at lw_m4 81 rfl) rfl
theorem q883 : (Jvm.Cond.code ({ cls := "java/lang/Exception", name := "<init>", desc := "()V" } : Jvm.MethodName) prog_22_method_1_code (1 : Nat) (Option.none : Option Jvm.ClassFile.FieldType)) ∈ lw_all := lw_g (lw_at lw_m4 82 rfl) rfl
theorem q884 : (Jvm.Cond.methodLink "java/lang/Exception" (1 : Nat) ({ cls := "java/lang/Throwable", name := "<init>", desc := "()V" } : Jvm.MethodName)) ∈ lw_all := lw_g (lw_at lw_m4 83 rfl) rfl
theorem q1168 : (Jvm.Cond.instanceMethod ({ cls := "java/lang/Exception", name := "<init>", desc := "(Ljava/lang/String;Ljava/lang/Throwable;ZZ)V" } : Jvm.MethodName)) ∈ lw_all := lw_g (lw_at lw_m5 127 rfl) rfl
theorem q1169 : (Jvm.Cond.code ({ cls := "java/lang/Exception", name := "<init>", desc := "(Ljava/lang/String;Ljava/lang/Throwable;ZZ)V" } : Jvm.MethodName) prog_22_method_5_code (5 : Nat) (Option.none : Option Jvm.ClassFile.FieldType)) ∈ lw_all := lw_g (lw_at lw_m5 128 rfl) rfl
theorem q1170 : (Jvm.Cond.methodLink "java/lang/Exception" (16 : Nat) ({ cls := "java/lang/Throwable", name := "<init>", desc := "(Ljava/lang/String;Ljava/lang/Throwable;ZZ)V" } : Jvm.MethodName)) ∈ lw_all := lw_g (lw_at lw_m5 129 rfl) rfl
theorem q1419 : (Jvm.Cond.instanceMethod ({ cls := "java/lang/Exception", name := "<init>", desc := "(Ljava/lang/String;Ljava/lang/Throwable;)V" } : Jvm.MethodName)) ∈ lw_all := lw_g (lw_at lw_m6 138 rfl) rfl
theorem q1420 : (Jvm.Cond.code ({ cls := "java/lang/Exception", name := "<init>", desc := "(Ljava/lang/String;Ljava/lang/Throwable;)V" } : Jvm.MethodName) prog_22_method_3_code (3 : Nat) (Option.none : Option Jvm.ClassFile.FieldType)) ∈ lw_all := lw_g (lw_at lw_m6 139 rfl) rfl
theorem q1421 : (Jvm.Cond.methodLink "java/lang/Exception" (10 : Nat) ({ cls := "java/lang/Throwable", name := "<init>", desc := "(Ljava/lang/String;Ljava/lang/Throwable;)V" } : Jvm.MethodName)) ∈ lw_all := lw_g (lw_at lw_m6 140 rfl) rfl
/-! java/lang/RuntimeException -/
set_option maxRecDepth 100000
def RJ5 : String := "java/lang/RuntimeException"
abbrev cJ5_init : ByteArray := prog_31_method_2_code
def yJ5_init : MethodName := ⟨RJ5, "<init>", "(Ljava/lang/String;)V"⟩
abbrev cJ5_init_2 : ByteArray := prog_31_method_1_code
def yJ5_init_2 : MethodName := ⟨RJ5, "<init>", "()V"⟩
theorem q90 : (Jvm.Cond.initialized "java/lang/RuntimeException") ∈ lw_all := lw_g (lw_at lw_m1 9 rfl) rfl
theorem q157 : (Jvm.Cond.declares ({ cls := "java/lang/RuntimeException", name := "<init>", desc := "()V" } : Jvm.MethodName)) ∈ lw_tbl := lw_at lw_m1 76 rfl
theorem q158 : (Jvm.Cond.declares ({ cls := "java/lang/RuntimeException", name := "<init>", desc := "(Ljava/lang/String;)V" } : Jvm.MethodName)) ∈ lw_tbl := lw_at lw_m1 77 rfl
theorem q425 : (Jvm.Cond.instanceMethod ({ cls := "java/lang/RuntimeException", name := "<init>", desc := "(Ljava/lang/String;)V" } : Jvm.MethodName)) ∈ lw_all := lw_g (lw_at lw_m2 104 rfl) rfl
theorem q426 : (Jvm.Cond.code ({ cls := "java/lang/RuntimeException", name := "<init>", desc := "(Ljava/lang/String;)V" } : Jvm.MethodName) prog_31_method_2_code (2 : Nat) (Option.none : Option Jvm.ClassFile.FieldType)) ∈ lw_all := lw_g (lw_at lw_m2 105 rfl) rfl
theorem q427 : (Jvm.Cond.methodLink "java/lang/RuntimeException" (7 : Nat) ({ cls := "java/lang/Exception", name := "<init>", desc := "(Ljava/lang/String;)V" } : Jvm.MethodName)) ∈ lw_all := lw_g (lw_at lw_m2 106 rfl) rfl
theorem q879 : (Jvm.Cond.instanceMethod ({ cls := "java/lang/RuntimeException", name := "<init>", desc := "()V" } : Jvm.MethodName)) ∈ lw_all := lw_g (lw_at lw_m4 78 rfl) rfl
theorem q880 : (Jvm.Cond.code ({ cls := "java/lang/RuntimeException", name := "<init>", desc := "()V" } : Jvm.MethodName) prog_31_method_1_code (1 : Nat) (Option.none : Option Jvm.ClassFile.FieldType)) ∈ lw_all := lw_g (lw_at lw_m4 79 rfl) rfl
theorem q881 : (Jvm.Cond.methodLink "java/lang/RuntimeException" (1 : Nat) ({ cls := "java/lang/Exception", name := "<init>", desc := "()V" } : Jvm.MethodName)) ∈ lw_all := lw_g (lw_at lw_m4 80 rfl) rfl
/-! java/lang/IllegalArgumentException -/
set_option maxRecDepth 100000
def RJ6 : String := "java/lang/IllegalArgumentException"
def TJ6 : u_T := fun k => match k with
  | 0 => ("java/lang/Throwable", "cause", "Ljava/lang/Throwable;", false)
  | 1 => ("java/lang/Throwable", "stackTrace", "[Ljava/lang/StackTraceElement;", false)
  | 2 => ("java/lang/Throwable", "suppressedExceptions", "Ljava/util/List;", false)
  | 3 => ("java/lang/Throwable", "detailMessage", "Ljava/lang/String;", false)
  | 4 => ("java/lang/Throwable", "backtrace", "Ljava/lang/Object;", false)
  | _ => ("java/lang/Throwable", "depth", "I", false)
def tyJ6 : Nat → FieldType := fun k => match k with
  | 0 => .object "java/lang/Throwable"
  | 1 => .array (.object "java/lang/StackTraceElement")
  | 2 => .object "java/util/List"
  | 3 => .object "java/lang/String"
  | 4 => .object "java/lang/Object"
  | _ => .int
abbrev wsJ60 : List Cond := u_ws RJ6 TJ6 6
theorem nmJ6 : ∀ a, a < 6 → ∀ b, b < 6 → a ≠ b → (TJ6 a).2.1 ≠ (TJ6 b).2.1 := by decide +kernel
theorem tyJ6_ok : ∀ k, k < 6 → parseFieldDescriptor (TJ6 k).2.2.1 = some (tyJ6 k) := by decide +kernel
abbrev cJ6_init : ByteArray := prog_23_method_2_code
def yJ6_init : MethodName := ⟨RJ6, "<init>", "(Ljava/lang/String;)V"⟩
abbrev cJ6_init_2 : ByteArray := prog_23_method_1_code
def yJ6_init_2 : MethodName := ⟨RJ6, "<init>", "()V"⟩
theorem q91 : (Jvm.Cond.initialized "java/lang/IllegalArgumentException") ∈ lw_all := lw_g (lw_at lw_m1 10 rfl) rfl
theorem q155 : (Jvm.Cond.instantiable "java/lang/IllegalArgumentException" (6 : Nat)) ∈ lw_all := lw_g (lw_at lw_m1 74 rfl) rfl
theorem q156 : (Jvm.Cond.castable "java/lang/IllegalArgumentException" "java/lang/IllegalArgumentException") ∈ lw_tbl := lw_at lw_m1 75 rfl
theorem q163 : (Jvm.Cond.selects "java/lang/IllegalArgumentException" ({ cls := "java/lang/Throwable", name := "fillInStackTrace", desc := "(I)Ljava/lang/Throwable;" } : Jvm.MethodName) ({ cls := "java/lang/Throwable", name := "fillInStackTrace", desc := "(I)Ljava/lang/Throwable;" } : Jvm.MethodName)) ∈ lw_all := lw_g (lw_at lw_m1 82 rfl) rfl
theorem q164 : (Jvm.Cond.selects "java/lang/IllegalArgumentException" ({ cls := "java/lang/Throwable", name := "fillInStackTrace", desc := "()Ljava/lang/Throwable;" } : Jvm.MethodName) ({ cls := "java/lang/Throwable", name := "fillInStackTrace", desc := "()Ljava/lang/Throwable;" } : Jvm.MethodName)) ∈ lw_all := lw_g (lw_at lw_m1 83 rfl) rfl
theorem q165 : (Jvm.Cond.lays "java/lang/IllegalArgumentException" "java/lang/Throwable" "cause" "Ljava/lang/Throwable;") ∈ lw_all := lw_g (lw_at lw_m1 84 rfl) rfl
theorem q167 : (Jvm.Cond.lays "java/lang/IllegalArgumentException" "java/lang/Throwable" "stackTrace" "[Ljava/lang/StackTraceElement;") ∈ lw_all := lw_g (lw_at lw_m1 86 rfl) rfl
theorem q169 : (Jvm.Cond.lays "java/lang/IllegalArgumentException" "java/lang/Throwable" "suppressedExceptions" "Ljava/util/List;") ∈ lw_all := lw_g (lw_at lw_m1 88 rfl) rfl
theorem q171 : (Jvm.Cond.lays "java/lang/IllegalArgumentException" "java/lang/Throwable" "detailMessage" "Ljava/lang/String;") ∈ lw_all := lw_g (lw_at lw_m1 90 rfl) rfl
theorem q173 : (Jvm.Cond.lays "java/lang/IllegalArgumentException" "java/lang/Throwable" "backtrace" "Ljava/lang/Object;") ∈ lw_all := lw_g (lw_at lw_m1 92 rfl) rfl
theorem q422 : (Jvm.Cond.instanceMethod ({ cls := "java/lang/IllegalArgumentException", name := "<init>", desc := "(Ljava/lang/String;)V" } : Jvm.MethodName)) ∈ lw_all := lw_g (lw_at lw_m2 101 rfl) rfl
theorem q423 : (Jvm.Cond.code ({ cls := "java/lang/IllegalArgumentException", name := "<init>", desc := "(Ljava/lang/String;)V" } : Jvm.MethodName) prog_23_method_2_code (2 : Nat) (Option.none : Option Jvm.ClassFile.FieldType)) ∈ lw_all := lw_g (lw_at lw_m2 102 rfl) rfl
theorem q424 : (Jvm.Cond.methodLink "java/lang/IllegalArgumentException" (7 : Nat) ({ cls := "java/lang/RuntimeException", name := "<init>", desc := "(Ljava/lang/String;)V" } : Jvm.MethodName)) ∈ lw_all := lw_g (lw_at lw_m2 103 rfl) rfl
theorem q442 : (Jvm.Cond.lays "java/lang/IllegalArgumentException" "java/lang/Throwable" "depth" "I") ∈ lw_all := lw_g (lw_at lw_m2 121 rfl) rfl
theorem q445 : (Jvm.Cond.superclass "java/lang/IllegalArgumentException" "java/lang/RuntimeException") ∈ lw_all := lw_g (lw_at lw_m2 124 rfl) rfl
theorem q936 : (Jvm.Cond.selects "java/lang/IllegalArgumentException" ({ cls := "java/lang/Object", name := "getClass", desc := "()Ljava/lang/Class;" } : Jvm.MethodName) ({ cls := "java/lang/Object", name := "getClass", desc := "()Ljava/lang/Class;" } : Jvm.MethodName)) ∈ lw_all := lw_g (lw_at lw_m4 135 rfl) rfl
theorem q1457 : (Jvm.Cond.instanceMethod ({ cls := "java/lang/IllegalArgumentException", name := "<init>", desc := "()V" } : Jvm.MethodName)) ∈ lw_all := lw_g (lw_at lw_m6 176 rfl) rfl
theorem q1458 : (Jvm.Cond.code ({ cls := "java/lang/IllegalArgumentException", name := "<init>", desc := "()V" } : Jvm.MethodName) prog_23_method_1_code (1 : Nat) (Option.none : Option Jvm.ClassFile.FieldType)) ∈ lw_all := lw_g (lw_at lw_m6 177 rfl) rfl
theorem q1459 : (Jvm.Cond.methodLink "java/lang/IllegalArgumentException" (1 : Nat) ({ cls := "java/lang/RuntimeException", name := "<init>", desc := "()V" } : Jvm.MethodName)) ∈ lw_all := lw_g (lw_at lw_m6 178 rfl) rfl
theorem q2315 : (Jvm.Cond.castable "java/lang/IllegalArgumentException" "java/lang/Object") ∈ lw_tbl := lw_at lw_m10 74 rfl
theorem in_J6 : ∀ w ∈ wsJ60, w ∈ lw_all := lw_in wsJ60 [165, 167, 169, 171, 173, 442] (by decide +kernel) (by decide +kernel)
/-! java/lang/AbstractStringBuilder -/
set_option maxRecDepth 100000
def RJ7 : String := "java/lang/AbstractStringBuilder"
abbrev cJ7_init : ByteArray := prog_16_method_2_code
def yJ7_init : MethodName := ⟨RJ7, "<init>", "(I)V"⟩
abbrev cJ7_append : ByteArray := prog_16_method_22_code
def yJ7_append : MethodName := ⟨RJ7, "append", "(Ljava/lang/String;)Ljava/lang/AbstractStringBuilder;"⟩
abbrev cJ7_appendNull : ByteArray := prog_16_method_26_code
def yJ7_appendNull : MethodName := ⟨RJ7, "appendNull", "()Ljava/lang/AbstractStringBuilder;"⟩
abbrev cJ7_ensureCapacityInternal : ByteArray := prog_16_method_9_code
def yJ7_ensureCapacityInternal : MethodName := ⟨RJ7, "ensureCapacityInternal", "(I)V"⟩
abbrev cJ7_newCapacity : ByteArray := prog_16_method_10_code
def yJ7_newCapacity : MethodName := ⟨RJ7, "newCapacity", "(I)I"⟩
abbrev cJ7_isLatin1 : ByteArray := prog_16_method_68_code
def yJ7_isLatin1 : MethodName := ⟨RJ7, "isLatin1", "()Z"⟩
abbrev cJ7_putStringAt : ByteArray := prog_16_method_73_code
def yJ7_putStringAt : MethodName := ⟨RJ7, "putStringAt", "(ILjava/lang/String;)V"⟩
abbrev cJ7_inflateIfNeededFor : ByteArray := prog_16_method_71_code
def yJ7_inflateIfNeededFor : MethodName := ⟨RJ7, "inflateIfNeededFor", "(Ljava/lang/String;)V"⟩
abbrev cJ7_inflate : ByteArray := prog_16_method_11_code
def yJ7_inflate : MethodName := ⟨RJ7, "inflate", "()V"⟩
abbrev cJ7_append_2 : ByteArray := prog_16_method_32_code
def yJ7_append_2 : MethodName := ⟨RJ7, "append", "(I)Ljava/lang/AbstractStringBuilder;"⟩
abbrev cJ7_getValue : ByteArray := prog_16_method_64_code
def yJ7_getValue : MethodName := ⟨RJ7, "getValue", "()[B"⟩
abbrev cJ7_length : ByteArray := prog_16_method_6_code
def yJ7_length : MethodName := ⟨RJ7, "length", "()I"⟩
abbrev cJ7_append_3 : ByteArray := prog_16_method_31_code
def yJ7_append_3 : MethodName := ⟨RJ7, "append", "(C)Ljava/lang/AbstractStringBuilder;"⟩
theorem q92 : (Jvm.Cond.initialized "java/lang/AbstractStringBuilder") ∈ lw_all := lw_g (lw_at lw_m1 11 rfl) rfl
theorem q206 : (Jvm.Cond.instanceMethod ({ cls := "java/lang/AbstractStringBuilder", name := "<init>", desc := "(I)V" } : Jvm.MethodName)) ∈ lw_all := lw_g (lw_at lw_m1 125 rfl) rfl
theorem q207 : (Jvm.Cond.code ({ cls := "java/lang/AbstractStringBuilder", name := "<init>", desc := "(I)V" } : Jvm.MethodName) prog_16_method_2_code (2 : Nat) (Option.none : Option Jvm.ClassFile.FieldType)) ∈ lw_all := lw_g (lw_at lw_m1 126 rfl) rfl
theorem q208 : (Jvm.Cond.methodLink "java/lang/AbstractStringBuilder" (3 : Nat) ({ cls := "java/lang/Object", name := "<init>", desc := "()V" } : Jvm.MethodName)) ∈ lw_all := lw_g (lw_at lw_m1 127 rfl) rfl
theorem q209 : (Jvm.Cond.fieldLink "java/lang/AbstractStringBuilder" (18 : Nat) "java/lang/String" "COMPACT_STRINGS" "Z") ∈ lw_all := lw_g (lw_at lw_m1 128 rfl) rfl
theorem q211 : (Jvm.Cond.methodLink "java/lang/AbstractStringBuilder" (26 : Nat) ({ cls := "java/lang/StringUTF16", name := "newBytesFor", desc := "(I)[B" } : Jvm.MethodName)) ∈ lw_all := lw_g (lw_at lw_m1 130 rfl) rfl
theorem q218 : (Jvm.Cond.fieldLink "java/lang/AbstractStringBuilder" (15 : Nat) "java/lang/AbstractStringBuilder" "value" "[B") ∈ lw_all := lw_g (lw_at lw_m1 137 rfl) rfl
theorem q219 : (Jvm.Cond.fieldLink "java/lang/AbstractStringBuilder" (22 : Nat) "java/lang/AbstractStringBuilder" "coder" "B") ∈ lw_all := lw_g (lw_at lw_m1 138 rfl) rfl
theorem q221 : (Jvm.Cond.fieldLink "java/lang/AbstractStringBuilder" (79 : Nat) "java/lang/AbstractStringBuilder" "count" "I") ∈ lw_all := lw_g (lw_at lw_m1 140 rfl) rfl
theorem q223 : (Jvm.Cond.soleField "java/lang/AbstractStringBuilder" "value") ∈ lw_all := lw_g (lw_at lw_m1 142 rfl) rfl
theorem q225 : (Jvm.Cond.soleField "java/lang/AbstractStringBuilder" "coder") ∈ lw_all := lw_g (lw_at lw_m1 144 rfl) rfl
theorem q227 : (Jvm.Cond.soleField "java/lang/AbstractStringBuilder" "maybeLatin1") ∈ lw_all := lw_g (lw_at lw_m1 146 rfl) rfl
theorem q229 : (Jvm.Cond.soleField "java/lang/AbstractStringBuilder" "count") ∈ lw_all := lw_g (lw_at lw_m1 148 rfl) rfl
theorem q238 : (Jvm.Cond.instanceMethod ({ cls := "java/lang/AbstractStringBuilder", name := "append", desc := "(Ljava/lang/String;)Ljava/lang/AbstractStringBuilder;" } : Jvm.MethodName)) ∈ lw_all := lw_g (lw_at lw_m1 157 rfl) rfl
theorem q239 : (Jvm.Cond.code ({ cls := "java/lang/AbstractStringBuilder", name := "append", desc := "(Ljava/lang/String;)Ljava/lang/AbstractStringBuilder;" } : Jvm.MethodName) prog_16_method_22_code (3 : Nat) (Option.some (Jvm.ClassFile.FieldType.object "java/lang/AbstractStringBuilder"))) ∈ lw_all := lw_g (lw_at lw_m1 158 rfl) rfl
theorem q240 : (Jvm.Cond.methodLink "java/lang/AbstractStringBuilder" (204 : Nat) ({ cls := "java/lang/AbstractStringBuilder", name := "appendNull", desc := "()Ljava/lang/AbstractStringBuilder;" } : Jvm.MethodName)) ∈ lw_all := lw_g (lw_at lw_m1 159 rfl) rfl
theorem q241 : (Jvm.Cond.privateMethod ({ cls := "java/lang/AbstractStringBuilder", name := "appendNull", desc := "()Ljava/lang/AbstractStringBuilder;" } : Jvm.MethodName)) ∈ lw_tbl := lw_at lw_m1 160 rfl
theorem q242 : (Jvm.Cond.instanceMethod ({ cls := "java/lang/AbstractStringBuilder", name := "appendNull", desc := "()Ljava/lang/AbstractStringBuilder;" } : Jvm.MethodName)) ∈ lw_all := lw_g (lw_at lw_m1 161 rfl) rfl
theorem q243 : (Jvm.Cond.code ({ cls := "java/lang/AbstractStringBuilder", name := "appendNull", desc := "()Ljava/lang/AbstractStringBuilder;" } : Jvm.MethodName) prog_16_method_26_code (3 : Nat) (Option.some (Jvm.ClassFile.FieldType.object "java/lang/AbstractStringBuilder"))) ∈ lw_all := lw_g (lw_at lw_m1 162 rfl) rfl
theorem q244 : (Jvm.Cond.methodLink "java/lang/AbstractStringBuilder" (100 : Nat) ({ cls := "java/lang/AbstractStringBuilder", name := "ensureCapacityInternal", desc := "(I)V" } : Jvm.MethodName)) ∈ lw_all := lw_g (lw_at lw_m1 163 rfl) rfl
theorem q245 : (Jvm.Cond.privateMethod ({ cls := "java/lang/AbstractStringBuilder", name := "ensureCapacityInternal", desc := "(I)V" } : Jvm.MethodName)) ∈ lw_tbl := lw_at lw_m1 164 rfl
theorem q246 : (Jvm.Cond.instanceMethod ({ cls := "java/lang/AbstractStringBuilder", name := "ensureCapacityInternal", desc := "(I)V" } : Jvm.MethodName)) ∈ lw_all := lw_g (lw_at lw_m1 165 rfl) rfl
theorem q247 : (Jvm.Cond.code ({ cls := "java/lang/AbstractStringBuilder", name := "ensureCapacityInternal", desc := "(I)V" } : Jvm.MethodName) prog_16_method_9_code (3 : Nat) (Option.none : Option Jvm.ClassFile.FieldType)) ∈ lw_all := lw_g (lw_at lw_m1 166 rfl) rfl
theorem q248 : (Jvm.Cond.methodLink "java/lang/AbstractStringBuilder" (104 : Nat) ({ cls := "java/lang/AbstractStringBuilder", name := "newCapacity", desc := "(I)I" } : Jvm.MethodName)) ∈ lw_all := lw_g (lw_at lw_m1 167 rfl) rfl
theorem q249 : (Jvm.Cond.privateMethod ({ cls := "java/lang/AbstractStringBuilder", name := "newCapacity", desc := "(I)I" } : Jvm.MethodName)) ∈ lw_tbl := lw_at lw_m1 168 rfl
theorem q250 : (Jvm.Cond.instanceMethod ({ cls := "java/lang/AbstractStringBuilder", name := "newCapacity", desc := "(I)I" } : Jvm.MethodName)) ∈ lw_all := lw_g (lw_at lw_m1 169 rfl) rfl
theorem q251 : (Jvm.Cond.code ({ cls := "java/lang/AbstractStringBuilder", name := "newCapacity", desc := "(I)I" } : Jvm.MethodName) prog_16_method_10_code (6 : Nat) (Option.some Jvm.ClassFile.FieldType.int)) ∈ lw_all := lw_g (lw_at lw_m1 170 rfl) rfl
theorem q252 : (Jvm.Cond.methodLink "java/lang/AbstractStringBuilder" (114 : Nat) ({ cls := "jdk/internal/util/ArraysSupport", name := "newLength", desc := "(III)I" } : Jvm.MethodName)) ∈ lw_all := lw_g (lw_at lw_m1 171 rfl) rfl
theorem q262 : (Jvm.Cond.constant "java/lang/AbstractStringBuilder" (39 : Nat) (2147483647 : Int32)) ∈ lw_all := lw_g (lw_at lw_m1 181 rfl) rfl
theorem q263 : (Jvm.Cond.methodLink "java/lang/AbstractStringBuilder" (108 : Nat) ({ cls := "java/util/Arrays", name := "copyOf", desc := "([BI)[B" } : Jvm.MethodName)) ∈ lw_all := lw_g (lw_at lw_m1 182 rfl) rfl
theorem q279 : (Jvm.Cond.methodLink "java/lang/AbstractStringBuilder" (83 : Nat) ({ cls := "java/lang/AbstractStringBuilder", name := "isLatin1", desc := "()Z" } : Jvm.MethodName)) ∈ lw_all := lw_g (lw_at lw_m1 198 rfl) rfl
theorem q280 : (Jvm.Cond.instanceMethod ({ cls := "java/lang/AbstractStringBuilder", name := "isLatin1", desc := "()Z" } : Jvm.MethodName)) ∈ lw_all := lw_g (lw_at lw_m1 199 rfl) rfl
theorem q281 : (Jvm.Cond.sameMethod "java/lang/AbstractStringBuilder" "java/lang/AbstractStringBuilder" "isLatin1" "()Z") ∈ lw_all := lw_g (lw_at lw_m1 200 rfl) rfl
theorem q283 : (Jvm.Cond.code ({ cls := "java/lang/AbstractStringBuilder", name := "isLatin1", desc := "()Z" } : Jvm.MethodName) prog_16_method_68_code (1 : Nat) (Option.some Jvm.ClassFile.FieldType.boolean)) ∈ lw_all := lw_g (lw_at lw_m1 202 rfl) rfl
theorem q284 : (Jvm.Cond.methodLink "java/lang/AbstractStringBuilder" (226 : Nat) ({ cls := "java/lang/StringUTF16", name := "putCharsAt", desc := "([BICCCC)I" } : Jvm.MethodName)) ∈ lw_all := lw_g (lw_at lw_m1 203 rfl) rfl
theorem q310 : (Jvm.Cond.methodLink "java/lang/AbstractStringBuilder" (32 : Nat) ({ cls := "java/lang/String", name := "length", desc := "()I" } : Jvm.MethodName)) ∈ lw_all := lw_g (lw_at lw_m1 229 rfl) rfl
theorem q319 : (Jvm.Cond.methodLink "java/lang/AbstractStringBuilder" (208 : Nat) ({ cls := "java/lang/AbstractStringBuilder", name := "putStringAt", desc := "(ILjava/lang/String;)V" } : Jvm.MethodName)) ∈ lw_all := lw_g (lw_at lw_m1 238 rfl) rfl
theorem q320 : (Jvm.Cond.privateMethod ({ cls := "java/lang/AbstractStringBuilder", name := "putStringAt", desc := "(ILjava/lang/String;)V" } : Jvm.MethodName)) ∈ lw_tbl := lw_at lw_m1 239 rfl
theorem q321 : (Jvm.Cond.instanceMethod ({ cls := "java/lang/AbstractStringBuilder", name := "putStringAt", desc := "(ILjava/lang/String;)V" } : Jvm.MethodName)) ∈ lw_all := lw_g (lw_at lw_m2 0 rfl) rfl
theorem q322 : (Jvm.Cond.code ({ cls := "java/lang/AbstractStringBuilder", name := "putStringAt", desc := "(ILjava/lang/String;)V" } : Jvm.MethodName) prog_16_method_73_code (3 : Nat) (Option.none : Option Jvm.ClassFile.FieldType)) ∈ lw_all := lw_g (lw_at lw_m2 1 rfl) rfl
theorem q323 : (Jvm.Cond.methodLink "java/lang/AbstractStringBuilder" (397 : Nat) ({ cls := "java/lang/AbstractStringBuilder", name := "inflateIfNeededFor", desc := "(Ljava/lang/String;)V" } : Jvm.MethodName)) ∈ lw_all := lw_g (lw_at lw_m2 2 rfl) rfl
theorem q324 : (Jvm.Cond.privateMethod ({ cls := "java/lang/AbstractStringBuilder", name := "inflateIfNeededFor", desc := "(Ljava/lang/String;)V" } : Jvm.MethodName)) ∈ lw_tbl := lw_at lw_m2 3 rfl
theorem q325 : (Jvm.Cond.instanceMethod ({ cls := "java/lang/AbstractStringBuilder", name := "inflateIfNeededFor", desc := "(Ljava/lang/String;)V" } : Jvm.MethodName)) ∈ lw_all := lw_g (lw_at lw_m2 4 rfl) rfl
theorem q326 : (Jvm.Cond.code ({ cls := "java/lang/AbstractStringBuilder", name := "inflateIfNeededFor", desc := "(Ljava/lang/String;)V" } : Jvm.MethodName) prog_16_method_71_code (2 : Nat) (Option.none : Option Jvm.ClassFile.FieldType)) ∈ lw_all := lw_g (lw_at lw_m2 5 rfl) rfl
theorem q327 : (Jvm.Cond.methodLink "java/lang/AbstractStringBuilder" (40 : Nat) ({ cls := "java/lang/String", name := "coder", desc := "()B" } : Jvm.MethodName)) ∈ lw_all := lw_g (lw_at lw_m2 6 rfl) rfl
theorem q328 : (Jvm.Cond.methodLink "java/lang/AbstractStringBuilder" (195 : Nat) ({ cls := "java/lang/AbstractStringBuilder", name := "inflate", desc := "()V" } : Jvm.MethodName)) ∈ lw_all := lw_g (lw_at lw_m2 7 rfl) rfl
theorem q329 : (Jvm.Cond.privateMethod ({ cls := "java/lang/AbstractStringBuilder", name := "inflate", desc := "()V" } : Jvm.MethodName)) ∈ lw_tbl := lw_at lw_m2 8 rfl
theorem q330 : (Jvm.Cond.instanceMethod ({ cls := "java/lang/AbstractStringBuilder", name := "inflate", desc := "()V" } : Jvm.MethodName)) ∈ lw_all := lw_g (lw_at lw_m2 9 rfl) rfl
theorem q331 : (Jvm.Cond.code ({ cls := "java/lang/AbstractStringBuilder", name := "inflate", desc := "()V" } : Jvm.MethodName) prog_16_method_11_code (2 : Nat) (Option.none : Option Jvm.ClassFile.FieldType)) ∈ lw_all := lw_g (lw_at lw_m2 10 rfl) rfl
theorem q332 : (Jvm.Cond.methodLink "java/lang/AbstractStringBuilder" (125 : Nat) ({ cls := "java/lang/StringLatin1", name := "inflate", desc := "([BI[BII)V" } : Jvm.MethodName)) ∈ lw_all := lw_g (lw_at lw_m2 11 rfl) rfl
theorem q347 : (Jvm.Cond.methodLink "java/lang/AbstractStringBuilder" (399 : Nat) ({ cls := "java/lang/String", name := "getBytes", desc := "([BIB)V" } : Jvm.MethodName)) ∈ lw_all := lw_g (lw_at lw_m2 26 rfl) rfl
theorem q358 : (Jvm.Cond.instanceMethod ({ cls := "java/lang/AbstractStringBuilder", name := "append", desc := "(I)Ljava/lang/AbstractStringBuilder;" } : Jvm.MethodName)) ∈ lw_all := lw_g (lw_at lw_m2 37 rfl) rfl
theorem q359 : (Jvm.Cond.code ({ cls := "java/lang/AbstractStringBuilder", name := "append", desc := "(I)Ljava/lang/AbstractStringBuilder;" } : Jvm.MethodName) prog_16_method_32_code (4 : Nat) (Option.some (Jvm.ClassFile.FieldType.object "java/lang/AbstractStringBuilder"))) ∈ lw_all := lw_g (lw_at lw_m2 38 rfl) rfl
theorem q360 : (Jvm.Cond.methodLink "java/lang/AbstractStringBuilder" (245 : Nat) ({ cls := "java/lang/Integer", name := "stringSize", desc := "(I)I" } : Jvm.MethodName)) ∈ lw_all := lw_g (lw_at lw_m2 39 rfl) rfl
theorem q363 : (Jvm.Cond.methodLink "java/lang/AbstractStringBuilder" (248 : Nat) ({ cls := "java/lang/Integer", name := "getChars", desc := "(II[B)I" } : Jvm.MethodName)) ∈ lw_all := lw_g (lw_at lw_m2 42 rfl) rfl
theorem q370 : (Jvm.Cond.methodLink "java/lang/AbstractStringBuilder" (251 : Nat) ({ cls := "java/lang/StringUTF16", name := "getChars", desc := "(III[B)I" } : Jvm.MethodName)) ∈ lw_all := lw_g (lw_at lw_m2 49 rfl) rfl
theorem q392 : (Jvm.Cond.instanceMethod ({ cls := "java/lang/AbstractStringBuilder", name := "getValue", desc := "()[B" } : Jvm.MethodName)) ∈ lw_all := lw_g (lw_at lw_m2 71 rfl) rfl
theorem q393 : (Jvm.Cond.sameMethod "java/lang/AbstractStringBuilder" "java/lang/AbstractStringBuilder" "getValue" "()[B") ∈ lw_all := lw_g (lw_at lw_m2 72 rfl) rfl
theorem q395 : (Jvm.Cond.code ({ cls := "java/lang/AbstractStringBuilder", name := "getValue", desc := "()[B" } : Jvm.MethodName) prog_16_method_64_code (1 : Nat) (Option.some (Jvm.ClassFile.FieldType.array Jvm.ClassFile.FieldType.byte))) ∈ lw_all := lw_g (lw_at lw_m2 74 rfl) rfl
theorem q397 : (Jvm.Cond.instanceMethod ({ cls := "java/lang/AbstractStringBuilder", name := "length", desc := "()I" } : Jvm.MethodName)) ∈ lw_all := lw_g (lw_at lw_m2 76 rfl) rfl
theorem q398 : (Jvm.Cond.sameMethod "java/lang/AbstractStringBuilder" "java/lang/AbstractStringBuilder" "length" "()I") ∈ lw_all := lw_g (lw_at lw_m2 77 rfl) rfl
theorem q403 : (Jvm.Cond.code ({ cls := "java/lang/AbstractStringBuilder", name := "length", desc := "()I" } : Jvm.MethodName) prog_16_method_6_code (1 : Nat) (Option.some Jvm.ClassFile.FieldType.int)) ∈ lw_all := lw_g (lw_at lw_m2 82 rfl) rfl
theorem q1124 : (Jvm.Cond.instanceMethod ({ cls := "java/lang/AbstractStringBuilder", name := "append", desc := "(C)Ljava/lang/AbstractStringBuilder;" } : Jvm.MethodName)) ∈ lw_all := lw_g (lw_at lw_m5 83 rfl) rfl
theorem q1125 : (Jvm.Cond.code ({ cls := "java/lang/AbstractStringBuilder", name := "append", desc := "(C)Ljava/lang/AbstractStringBuilder;" } : Jvm.MethodName) prog_16_method_31_code (2 : Nat) (Option.some (Jvm.ClassFile.FieldType.object "java/lang/AbstractStringBuilder"))) ∈ lw_all := lw_g (lw_at lw_m5 84 rfl) rfl
theorem q1126 : (Jvm.Cond.methodLink "java/lang/AbstractStringBuilder" (191 : Nat) ({ cls := "java/lang/StringLatin1", name := "canEncode", desc := "(C)Z" } : Jvm.MethodName)) ∈ lw_all := lw_g (lw_at lw_m5 85 rfl) rfl
theorem q1129 : (Jvm.Cond.methodLink "java/lang/AbstractStringBuilder" (197 : Nat) ({ cls := "java/lang/StringUTF16", name := "putCharSB", desc := "([BII)V" } : Jvm.MethodName)) ∈ lw_all := lw_g (lw_at lw_m5 88 rfl) rfl
theorem q2298 : (Jvm.Cond.sameMethod "java/lang/AbstractStringBuilder" "java/lang/AbstractStringBuilder" "append" "(Ljava/lang/String;)Ljava/lang/AbstractStringBuilder;") ∈ lw_all := lw_g (lw_at lw_m10 57 rfl) rfl
theorem q2299 : (Jvm.Cond.sameMethod "java/lang/AbstractStringBuilder" "java/lang/AbstractStringBuilder" "appendNull" "()Ljava/lang/AbstractStringBuilder;") ∈ lw_all := lw_g (lw_at lw_m10 58 rfl) rfl
theorem q2300 : (Jvm.Cond.sameMethod "java/lang/AbstractStringBuilder" "java/lang/AbstractStringBuilder" "ensureCapacityInternal" "(I)V") ∈ lw_all := lw_g (lw_at lw_m10 59 rfl) rfl
theorem q2301 : (Jvm.Cond.sameMethod "java/lang/AbstractStringBuilder" "java/lang/AbstractStringBuilder" "newCapacity" "(I)I") ∈ lw_all := lw_g (lw_at lw_m10 60 rfl) rfl
theorem q2302 : (Jvm.Cond.sameMethod "java/lang/AbstractStringBuilder" "java/lang/AbstractStringBuilder" "putStringAt" "(ILjava/lang/String;)V") ∈ lw_all := lw_g (lw_at lw_m10 61 rfl) rfl
theorem q2303 : (Jvm.Cond.sameMethod "java/lang/AbstractStringBuilder" "java/lang/AbstractStringBuilder" "inflateIfNeededFor" "(Ljava/lang/String;)V") ∈ lw_all := lw_g (lw_at lw_m10 62 rfl) rfl
theorem q2304 : (Jvm.Cond.sameMethod "java/lang/AbstractStringBuilder" "java/lang/AbstractStringBuilder" "inflate" "()V") ∈ lw_all := lw_g (lw_at lw_m10 63 rfl) rfl
theorem q2305 : (Jvm.Cond.sameMethod "java/lang/AbstractStringBuilder" "java/lang/AbstractStringBuilder" "append" "(I)Ljava/lang/AbstractStringBuilder;") ∈ lw_all := lw_g (lw_at lw_m10 64 rfl) rfl
theorem q2306 : (Jvm.Cond.sameMethod "java/lang/AbstractStringBuilder" "java/lang/AbstractStringBuilder" "append" "(C)Ljava/lang/AbstractStringBuilder;") ∈ lw_all := lw_g (lw_at lw_m10 65 rfl) rfl
/-! java/lang/StringBuilder -/
set_option maxRecDepth 100000
def RJ8 : String := "java/lang/StringBuilder"
def TJ8 : u_T := fun k => match k with
  | 0 => ("java/lang/AbstractStringBuilder", "value", "[B", false)
  | 1 => ("java/lang/AbstractStringBuilder", "coder", "B", false)
  | 2 => ("java/lang/AbstractStringBuilder", "maybeLatin1", "Z", false)
  | _ => ("java/lang/AbstractStringBuilder", "count", "I", false)
def tyJ8 : Nat → FieldType := fun k => match k with
  | 0 => .array .byte
  | 1 => .byte
  | 2 => .boolean
  | _ => .int
abbrev wsJ80 : List Cond := u_ws RJ8 TJ8 4
theorem nmJ8 : ∀ a, a < 4 → ∀ b, b < 4 → a ≠ b → (TJ8 a).2.1 ≠ (TJ8 b).2.1 := by decide +kernel
theorem tyJ8_ok : ∀ k, k < 4 → parseFieldDescriptor (TJ8 k).2.2.1 = some (tyJ8 k) := by decide +kernel
abbrev cJ8_init : ByteArray := prog_33_method_1_code
def yJ8_init : MethodName := ⟨RJ8, "<init>", "()V"⟩
abbrev cJ8_append : ByteArray := prog_33_method_7_code
def yJ8_append : MethodName := ⟨RJ8, "append", "(Ljava/lang/String;)Ljava/lang/StringBuilder;"⟩
abbrev cJ8_append_2 : ByteArray := prog_33_method_15_code
def yJ8_append_2 : MethodName := ⟨RJ8, "append", "(I)Ljava/lang/StringBuilder;"⟩
abbrev cJ8_toString : ByteArray := prog_33_method_42_code
def yJ8_toString : MethodName := ⟨RJ8, "toString", "()Ljava/lang/String;"⟩
abbrev cJ8_length : ByteArray := prog_33_method_93_code
def yJ8_length : MethodName := ⟨RJ8, "length", "()I"⟩
abbrev cJ8_init_2 : ByteArray := prog_33_method_2_code
def yJ8_init_2 : MethodName := ⟨RJ8, "<init>", "(I)V"⟩
abbrev cJ8_append_3 : ByteArray := prog_33_method_14_code
def yJ8_append_3 : MethodName := ⟨RJ8, "append", "(C)Ljava/lang/StringBuilder;"⟩
theorem q93 : (Jvm.Cond.initialized "java/lang/StringBuilder") ∈ lw_all := lw_g (lw_at lw_m1 12 rfl) rfl
theorem q201 : (Jvm.Cond.instantiable "java/lang/StringBuilder" (4 : Nat)) ∈ lw_all := lw_g (lw_at lw_m1 120 rfl) rfl
theorem q203 : (Jvm.Cond.instanceMethod ({ cls := "java/lang/StringBuilder", name := "<init>", desc := "()V" } : Jvm.MethodName)) ∈ lw_all := lw_g (lw_at lw_m1 122 rfl) rfl
theorem q204 : (Jvm.Cond.code ({ cls := "java/lang/StringBuilder", name := "<init>", desc := "()V" } : Jvm.MethodName) prog_33_method_1_code (1 : Nat) (Option.none : Option Jvm.ClassFile.FieldType)) ∈ lw_all := lw_g (lw_at lw_m1 123 rfl) rfl
theorem q205 : (Jvm.Cond.methodLink "java/lang/StringBuilder" (1 : Nat) ({ cls := "java/lang/AbstractStringBuilder", name := "<init>", desc := "(I)V" } : Jvm.MethodName)) ∈ lw_all := lw_g (lw_at lw_m1 124 rfl) rfl
theorem q222 : (Jvm.Cond.lays "java/lang/StringBuilder" "java/lang/AbstractStringBuilder" "value" "[B") ∈ lw_all := lw_g (lw_at lw_m1 141 rfl) rfl
theorem q224 : (Jvm.Cond.lays "java/lang/StringBuilder" "java/lang/AbstractStringBuilder" "coder" "B") ∈ lw_all := lw_g (lw_at lw_m1 143 rfl) rfl
theorem q226 : (Jvm.Cond.lays "java/lang/StringBuilder" "java/lang/AbstractStringBuilder" "maybeLatin1" "Z") ∈ lw_all := lw_g (lw_at lw_m1 145 rfl) rfl
theorem q228 : (Jvm.Cond.lays "java/lang/StringBuilder" "java/lang/AbstractStringBuilder" "count" "I") ∈ lw_all := lw_g (lw_at lw_m1 147 rfl) rfl
theorem q230 : (Jvm.Cond.superclass "java/lang/StringBuilder" "java/lang/AbstractStringBuilder") ∈ lw_all := lw_g (lw_at lw_m1 149 rfl) rfl
theorem q234 : (Jvm.Cond.instanceMethod ({ cls := "java/lang/StringBuilder", name := "append", desc := "(Ljava/lang/String;)Ljava/lang/StringBuilder;" } : Jvm.MethodName)) ∈ lw_all := lw_g (lw_at lw_m1 153 rfl) rfl
theorem q235 : (Jvm.Cond.selects "java/lang/StringBuilder" ({ cls := "java/lang/StringBuilder", name := "append", desc := "(Ljava/lang/String;)Ljava/lang/StringBuilder;" } : Jvm.MethodName) ({ cls := "java/lang/StringBuilder", name := "append", desc := "(Ljava/lang/String;)Ljava/lang/StringBuilder;" } : Jvm.MethodName)) ∈ lw_all := lw_g (lw_at lw_m1 154 rfl) rfl
theorem q236 : (Jvm.Cond.code ({ cls := "java/lang/StringBuilder", name := "append", desc := "(Ljava/lang/String;)Ljava/lang/StringBuilder;" } : Jvm.MethodName) prog_33_method_7_code (2 : Nat) (Option.some (Jvm.ClassFile.FieldType.object "java/lang/StringBuilder"))) ∈ lw_all := lw_g (lw_at lw_m1 155 rfl) rfl
theorem q237 : (Jvm.Cond.methodLink "java/lang/StringBuilder" (29 : Nat) ({ cls := "java/lang/AbstractStringBuilder", name := "append", desc := "(Ljava/lang/String;)Ljava/lang/AbstractStringBuilder;" } : Jvm.MethodName)) ∈ lw_all := lw_g (lw_at lw_m1 156 rfl) rfl
theorem q282 : (Jvm.Cond.selects "java/lang/StringBuilder" ({ cls := "java/lang/AbstractStringBuilder", name := "isLatin1", desc := "()Z" } : Jvm.MethodName) ({ cls := "java/lang/AbstractStringBuilder", name := "isLatin1", desc := "()Z" } : Jvm.MethodName)) ∈ lw_all := lw_g (lw_at lw_m1 201 rfl) rfl
theorem q354 : (Jvm.Cond.instanceMethod ({ cls := "java/lang/StringBuilder", name := "append", desc := "(I)Ljava/lang/StringBuilder;" } : Jvm.MethodName)) ∈ lw_all := lw_g (lw_at lw_m2 33 rfl) rfl
theorem q355 : (Jvm.Cond.selects "java/lang/StringBuilder" ({ cls := "java/lang/StringBuilder", name := "append", desc := "(I)Ljava/lang/StringBuilder;" } : Jvm.MethodName) ({ cls := "java/lang/StringBuilder", name := "append", desc := "(I)Ljava/lang/StringBuilder;" } : Jvm.MethodName)) ∈ lw_all := lw_g (lw_at lw_m2 34 rfl) rfl
theorem q356 : (Jvm.Cond.code ({ cls := "java/lang/StringBuilder", name := "append", desc := "(I)Ljava/lang/StringBuilder;" } : Jvm.MethodName) prog_33_method_15_code (2 : Nat) (Option.some (Jvm.ClassFile.FieldType.object "java/lang/StringBuilder"))) ∈ lw_all := lw_g (lw_at lw_m2 35 rfl) rfl
theorem q357 : (Jvm.Cond.methodLink "java/lang/StringBuilder" (53 : Nat) ({ cls := "java/lang/AbstractStringBuilder", name := "append", desc := "(I)Ljava/lang/AbstractStringBuilder;" } : Jvm.MethodName)) ∈ lw_all := lw_g (lw_at lw_m2 36 rfl) rfl
theorem q379 : (Jvm.Cond.instanceMethod ({ cls := "java/lang/StringBuilder", name := "toString", desc := "()Ljava/lang/String;" } : Jvm.MethodName)) ∈ lw_all := lw_g (lw_at lw_m2 58 rfl) rfl
theorem q380 : (Jvm.Cond.selects "java/lang/StringBuilder" ({ cls := "java/lang/StringBuilder", name := "toString", desc := "()Ljava/lang/String;" } : Jvm.MethodName) ({ cls := "java/lang/StringBuilder", name := "toString", desc := "()Ljava/lang/String;" } : Jvm.MethodName)) ∈ lw_all := lw_g (lw_at lw_m2 59 rfl) rfl
theorem q381 : (Jvm.Cond.code ({ cls := "java/lang/StringBuilder", name := "toString", desc := "()Ljava/lang/String;" } : Jvm.MethodName) prog_33_method_42_code (1 : Nat) (Option.some (Jvm.ClassFile.FieldType.object "java/lang/String"))) ∈ lw_all := lw_g (lw_at lw_m2 60 rfl) rfl
theorem q382 : (Jvm.Cond.classLink "java/lang/StringBuilder" (18 : Nat) "java/lang/String") ∈ lw_all := lw_g (lw_at lw_m2 61 rfl) rfl
theorem q384 : (Jvm.Cond.methodLink "java/lang/StringBuilder" (137 : Nat) ({ cls := "java/lang/String", name := "<init>", desc := "(Ljava/lang/StringBuilder;)V" } : Jvm.MethodName)) ∈ lw_all := lw_g (lw_at lw_m2 63 rfl) rfl
theorem q394 : (Jvm.Cond.selects "java/lang/StringBuilder" ({ cls := "java/lang/AbstractStringBuilder", name := "getValue", desc := "()[B" } : Jvm.MethodName) ({ cls := "java/lang/AbstractStringBuilder", name := "getValue", desc := "()[B" } : Jvm.MethodName)) ∈ lw_all := lw_g (lw_at lw_m2 73 rfl) rfl
theorem q399 : (Jvm.Cond.selects "java/lang/StringBuilder" ({ cls := "java/lang/AbstractStringBuilder", name := "length", desc := "()I" } : Jvm.MethodName) ({ cls := "java/lang/StringBuilder", name := "length", desc := "()I" } : Jvm.MethodName)) ∈ lw_all := lw_g (lw_at lw_m2 78 rfl) rfl
theorem q400 : (Jvm.Cond.instanceMethod ({ cls := "java/lang/StringBuilder", name := "length", desc := "()I" } : Jvm.MethodName)) ∈ lw_all := lw_g (lw_at lw_m2 79 rfl) rfl
theorem q401 : (Jvm.Cond.code ({ cls := "java/lang/StringBuilder", name := "length", desc := "()I" } : Jvm.MethodName) prog_33_method_93_code (1 : Nat) (Option.some Jvm.ClassFile.FieldType.int)) ∈ lw_all := lw_g (lw_at lw_m2 80 rfl) rfl
theorem q402 : (Jvm.Cond.methodLink "java/lang/StringBuilder" (343 : Nat) ({ cls := "java/lang/AbstractStringBuilder", name := "length", desc := "()I" } : Jvm.MethodName)) ∈ lw_all := lw_g (lw_at lw_m2 81 rfl) rfl
theorem q940 : (Jvm.Cond.selects "java/lang/StringBuilder" ({ cls := "java/lang/Object", name := "getClass", desc := "()Ljava/lang/Class;" } : Jvm.MethodName) ({ cls := "java/lang/Object", name := "getClass", desc := "()Ljava/lang/Class;" } : Jvm.MethodName)) ∈ lw_all := lw_g (lw_at lw_m4 139 rfl) rfl
theorem q1114 : (Jvm.Cond.instanceMethod ({ cls := "java/lang/StringBuilder", name := "<init>", desc := "(I)V" } : Jvm.MethodName)) ∈ lw_all := lw_g (lw_at lw_m5 73 rfl) rfl
theorem q1115 : (Jvm.Cond.code ({ cls := "java/lang/StringBuilder", name := "<init>", desc := "(I)V" } : Jvm.MethodName) prog_33_method_2_code (2 : Nat) (Option.none : Option Jvm.ClassFile.FieldType)) ∈ lw_all := lw_g (lw_at lw_m5 74 rfl) rfl
theorem q1120 : (Jvm.Cond.instanceMethod ({ cls := "java/lang/StringBuilder", name := "append", desc := "(C)Ljava/lang/StringBuilder;" } : Jvm.MethodName)) ∈ lw_all := lw_g (lw_at lw_m5 79 rfl) rfl
theorem q1121 : (Jvm.Cond.selects "java/lang/StringBuilder" ({ cls := "java/lang/StringBuilder", name := "append", desc := "(C)Ljava/lang/StringBuilder;" } : Jvm.MethodName) ({ cls := "java/lang/StringBuilder", name := "append", desc := "(C)Ljava/lang/StringBuilder;" } : Jvm.MethodName)) ∈ lw_all := lw_g (lw_at lw_m5 80 rfl) rfl
theorem q1122 : (Jvm.Cond.code ({ cls := "java/lang/StringBuilder", name := "append", desc := "(C)Ljava/lang/StringBuilder;" } : Jvm.MethodName) prog_33_method_14_code (2 : Nat) (Option.some (Jvm.ClassFile.FieldType.object "java/lang/StringBuilder"))) ∈ lw_all := lw_g (lw_at lw_m5 81 rfl) rfl
theorem q1123 : (Jvm.Cond.methodLink "java/lang/StringBuilder" (50 : Nat) ({ cls := "java/lang/AbstractStringBuilder", name := "append", desc := "(C)Ljava/lang/AbstractStringBuilder;" } : Jvm.MethodName)) ∈ lw_all := lw_g (lw_at lw_m5 82 rfl) rfl
theorem q2316 : (Jvm.Cond.castable "java/lang/StringBuilder" "java/lang/Object") ∈ lw_tbl := lw_at lw_m10 75 rfl
theorem in_J8 : ∀ w ∈ wsJ80, w ∈ lw_all := lw_in wsJ80 [222, 224, 226, 228] (by decide +kernel) (by decide +kernel)
/-! java/lang/String -/
set_option maxRecDepth 100000
def RJ9 : String := "java/lang/String"
def TJ9 : u_T := fun k => match k with
  | 0 => ("java/lang/String", "value", "[B", true)
  | 1 => ("java/lang/String", "coder", "B", true)
  | 2 => ("java/lang/String", "hash", "I", false)
  | _ => ("java/lang/String", "hashIsZero", "Z", false)
def tyJ9 : Nat → FieldType := fun k => match k with
  | 0 => .array .byte
  | 1 => .byte
  | 2 => .int
  | _ => .boolean
abbrev wsJ90 : List Cond := u_ws RJ9 TJ9 4
theorem nmJ9 : ∀ a, a < 4 → ∀ b, b < 4 → a ≠ b → (TJ9 a).2.1 ≠ (TJ9 b).2.1 := by decide +kernel
theorem tyJ9_ok : ∀ k, k < 4 → parseFieldDescriptor (TJ9 k).2.2.1 = some (tyJ9 k) := by decide +kernel
abbrev cJ9_checkBoundsBeginEnd : ByteArray := prog_32_method_158_code
def yJ9_checkBoundsBeginEnd : MethodName := ⟨RJ9, "checkBoundsBeginEnd", "(III)V"⟩
abbrev cJ9_length : ByteArray := prog_32_method_54_code
def yJ9_length : MethodName := ⟨RJ9, "length", "()I"⟩
abbrev cJ9_coder : ByteArray := prog_32_method_152_code
def yJ9_coder : MethodName := ⟨RJ9, "coder", "()B"⟩
abbrev cJ9_checkBoundsOffCount : ByteArray := prog_32_method_157_code
def yJ9_checkBoundsOffCount : MethodName := ⟨RJ9, "checkBoundsOffCount", "(III)I"⟩
abbrev cJ9_getBytes : ByteArray := prog_32_method_147_code
def yJ9_getBytes : MethodName := ⟨RJ9, "getBytes", "([BIB)V"⟩
abbrev cJ9_init : ByteArray := prog_32_method_53_code
def yJ9_init : MethodName := ⟨RJ9, "<init>", "(Ljava/lang/StringBuilder;)V"⟩
abbrev cJ9_init_2 : ByteArray := prog_32_method_150_code
def yJ9_init_2 : MethodName := ⟨RJ9, "<init>", "(Ljava/lang/AbstractStringBuilder;Ljava/lang/Void;)V"⟩
abbrev cJ9_checkIndex : ByteArray := prog_32_method_155_code
def yJ9_checkIndex : MethodName := ⟨RJ9, "checkIndex", "(II)V"⟩
abbrev cJ9_equals : ByteArray := prog_32_method_66_code
def yJ9_equals : MethodName := ⟨RJ9, "equals", "(Ljava/lang/Object;)Z"⟩
abbrev cJ9_hashCode : ByteArray := prog_32_method_78_code
def yJ9_hashCode : MethodName := ⟨RJ9, "hashCode", "()I"⟩
abbrev cJ9_isLatin1 : ByteArray := prog_32_method_154_code
def yJ9_isLatin1 : MethodName := ⟨RJ9, "isLatin1", "()Z"⟩
abbrev cJ9_charAt : ByteArray := prog_32_method_56_code
def yJ9_charAt : MethodName := ⟨RJ9, "charAt", "(I)C"⟩
theorem q94 : (Jvm.Cond.initialized "java/lang/String") ∈ lw_all := lw_g (lw_at lw_m1 13 rfl) rfl
theorem q210 : (Jvm.Cond.laysStatic "java/lang/String" "COMPACT_STRINGS" "Z") ∈ lw_tbl := lw_at lw_m1 129 rfl
theorem q220 : (Jvm.Cond.fieldLink "java/lang/String" (1048 : Nat) "java/lang/AbstractStringBuilder" "maybeLatin1" "Z") ∈ lw_all := lw_g (lw_at lw_m1 139 rfl) rfl
theorem q294 : (Jvm.Cond.static ({ cls := "java/lang/String", name := "checkBoundsBeginEnd", desc := "(III)V" } : Jvm.MethodName)) ∈ lw_all := lw_g (lw_at lw_m1 213 rfl) rfl
theorem q295 : (Jvm.Cond.code ({ cls := "java/lang/String", name := "checkBoundsBeginEnd", desc := "(III)V" } : Jvm.MethodName) prog_32_method_158_code (3 : Nat) (Option.none : Option Jvm.ClassFile.FieldType)) ∈ lw_all := lw_g (lw_at lw_m1 214 rfl) rfl
theorem q296 : (Jvm.Cond.fieldLink "java/lang/String" (1053 : Nat) "jdk/internal/util/Preconditions" "SIOOBE_FORMATTER" "Ljava/util/function/BiFunction;") ∈ lw_all := lw_g (lw_at lw_m1 215 rfl) rfl
theorem q298 : (Jvm.Cond.methodLink "java/lang/String" (1062 : Nat) ({ cls := "jdk/internal/util/Preconditions", name := "checkFromToIndex", desc := "(IIILjava/util/function/BiFunction;)I" } : Jvm.MethodName)) ∈ lw_all := lw_g (lw_at lw_m1 217 rfl) rfl
theorem q311 : (Jvm.Cond.instanceMethod ({ cls := "java/lang/String", name := "length", desc := "()I" } : Jvm.MethodName)) ∈ lw_all := lw_g (lw_at lw_m1 230 rfl) rfl
theorem q312 : (Jvm.Cond.selects "java/lang/String" ({ cls := "java/lang/String", name := "length", desc := "()I" } : Jvm.MethodName) ({ cls := "java/lang/String", name := "length", desc := "()I" } : Jvm.MethodName)) ∈ lw_all := lw_g (lw_at lw_m1 231 rfl) rfl
theorem q313 : (Jvm.Cond.code ({ cls := "java/lang/String", name := "length", desc := "()I" } : Jvm.MethodName) prog_32_method_54_code (1 : Nat) (Option.some Jvm.ClassFile.FieldType.int)) ∈ lw_all := lw_g (lw_at lw_m1 232 rfl) rfl
theorem q314 : (Jvm.Cond.methodLink "java/lang/String" (335 : Nat) ({ cls := "java/lang/String", name := "coder", desc := "()B" } : Jvm.MethodName)) ∈ lw_all := lw_g (lw_at lw_m1 233 rfl) rfl
theorem q315 : (Jvm.Cond.instanceMethod ({ cls := "java/lang/String", name := "coder", desc := "()B" } : Jvm.MethodName)) ∈ lw_all := lw_g (lw_at lw_m1 234 rfl) rfl
theorem q316 : (Jvm.Cond.selects "java/lang/String" ({ cls := "java/lang/String", name := "coder", desc := "()B" } : Jvm.MethodName) ({ cls := "java/lang/String", name := "coder", desc := "()B" } : Jvm.MethodName)) ∈ lw_all := lw_g (lw_at lw_m1 235 rfl) rfl
theorem q317 : (Jvm.Cond.code ({ cls := "java/lang/String", name := "coder", desc := "()B" } : Jvm.MethodName) prog_32_method_152_code (1 : Nat) (Option.some Jvm.ClassFile.FieldType.byte)) ∈ lw_all := lw_g (lw_at lw_m1 236 rfl) rfl
theorem q318 : (Jvm.Cond.fieldLink "java/lang/String" (38 : Nat) "java/lang/String" "COMPACT_STRINGS" "Z") ∈ lw_all := lw_g (lw_at lw_m1 237 rfl) rfl
theorem q342 : (Jvm.Cond.static ({ cls := "java/lang/String", name := "checkBoundsOffCount", desc := "(III)I" } : Jvm.MethodName)) ∈ lw_all := lw_g (lw_at lw_m2 21 rfl) rfl
theorem q343 : (Jvm.Cond.code ({ cls := "java/lang/String", name := "checkBoundsOffCount", desc := "(III)I" } : Jvm.MethodName) prog_32_method_157_code (3 : Nat) (Option.some Jvm.ClassFile.FieldType.int)) ∈ lw_all := lw_g (lw_at lw_m2 22 rfl) rfl
theorem q344 : (Jvm.Cond.methodLink "java/lang/String" (1065 : Nat) ({ cls := "jdk/internal/util/Preconditions", name := "checkFromIndexSize", desc := "(IIILjava/util/function/BiFunction;)I" } : Jvm.MethodName)) ∈ lw_all := lw_g (lw_at lw_m2 23 rfl) rfl
theorem q348 : (Jvm.Cond.instanceMethod ({ cls := "java/lang/String", name := "getBytes", desc := "([BIB)V" } : Jvm.MethodName)) ∈ lw_all := lw_g (lw_at lw_m2 27 rfl) rfl
theorem q349 : (Jvm.Cond.selects "java/lang/String" ({ cls := "java/lang/String", name := "getBytes", desc := "([BIB)V" } : Jvm.MethodName) ({ cls := "java/lang/String", name := "getBytes", desc := "([BIB)V" } : Jvm.MethodName)) ∈ lw_all := lw_g (lw_at lw_m2 28 rfl) rfl
theorem q350 : (Jvm.Cond.code ({ cls := "java/lang/String", name := "getBytes", desc := "([BIB)V" } : Jvm.MethodName) prog_32_method_147_code (4 : Nat) (Option.none : Option Jvm.ClassFile.FieldType)) ∈ lw_all := lw_g (lw_at lw_m2 29 rfl) rfl
theorem q351 : (Jvm.Cond.methodLink "java/lang/String" (212 : Nat) ({ cls := "java/lang/System", name := "arraycopy", desc := "(Ljava/lang/Object;ILjava/lang/Object;II)V" } : Jvm.MethodName)) ∈ lw_all := lw_g (lw_at lw_m2 30 rfl) rfl
theorem q352 : (Jvm.Cond.methodLink "java/lang/String" (106 : Nat) ({ cls := "java/lang/StringLatin1", name := "inflate", desc := "([BI[BII)V" } : Jvm.MethodName)) ∈ lw_all := lw_g (lw_at lw_m2 31 rfl) rfl
theorem q383 : (Jvm.Cond.instantiable "java/lang/String" (4 : Nat)) ∈ lw_all := lw_g (lw_at lw_m2 62 rfl) rfl
theorem q385 : (Jvm.Cond.instanceMethod ({ cls := "java/lang/String", name := "<init>", desc := "(Ljava/lang/StringBuilder;)V" } : Jvm.MethodName)) ∈ lw_all := lw_g (lw_at lw_m2 64 rfl) rfl
theorem q386 : (Jvm.Cond.code ({ cls := "java/lang/String", name := "<init>", desc := "(Ljava/lang/StringBuilder;)V" } : Jvm.MethodName) prog_32_method_53_code (2 : Nat) (Option.none : Option Jvm.ClassFile.FieldType)) ∈ lw_all := lw_g (lw_at lw_m2 65 rfl) rfl
theorem q387 : (Jvm.Cond.methodLink "java/lang/String" (489 : Nat) ({ cls := "java/lang/String", name := "<init>", desc := "(Ljava/lang/AbstractStringBuilder;Ljava/lang/Void;)V" } : Jvm.MethodName)) ∈ lw_all := lw_g (lw_at lw_m2 66 rfl) rfl
theorem q388 : (Jvm.Cond.instanceMethod ({ cls := "java/lang/String", name := "<init>", desc := "(Ljava/lang/AbstractStringBuilder;Ljava/lang/Void;)V" } : Jvm.MethodName)) ∈ lw_all := lw_g (lw_at lw_m2 67 rfl) rfl
theorem q389 : (Jvm.Cond.code ({ cls := "java/lang/String", name := "<init>", desc := "(Ljava/lang/AbstractStringBuilder;Ljava/lang/Void;)V" } : Jvm.MethodName) prog_32_method_150_code (5 : Nat) (Option.none : Option Jvm.ClassFile.FieldType)) ∈ lw_all := lw_g (lw_at lw_m2 68 rfl) rfl
theorem q390 : (Jvm.Cond.methodLink "java/lang/String" (1 : Nat) ({ cls := "java/lang/Object", name := "<init>", desc := "()V" } : Jvm.MethodName)) ∈ lw_all := lw_g (lw_at lw_m2 69 rfl) rfl
theorem q391 : (Jvm.Cond.methodLink "java/lang/String" (552 : Nat) ({ cls := "java/lang/AbstractStringBuilder", name := "getValue", desc := "()[B" } : Jvm.MethodName)) ∈ lw_all := lw_g (lw_at lw_m2 70 rfl) rfl
theorem q396 : (Jvm.Cond.methodLink "java/lang/String" (549 : Nat) ({ cls := "java/lang/AbstractStringBuilder", name := "length", desc := "()I" } : Jvm.MethodName)) ∈ lw_all := lw_g (lw_at lw_m2 75 rfl) rfl
theorem q404 : (Jvm.Cond.methodLink "java/lang/String" (1047 : Nat) ({ cls := "java/lang/AbstractStringBuilder", name := "isLatin1", desc := "()Z" } : Jvm.MethodName)) ∈ lw_all := lw_g (lw_at lw_m2 83 rfl) rfl
theorem q405 : (Jvm.Cond.methodLink "java/lang/String" (54 : Nat) ({ cls := "java/util/Arrays", name := "copyOfRange", desc := "([BII)[B" } : Jvm.MethodName)) ∈ lw_all := lw_g (lw_at lw_m2 84 rfl) rfl
theorem q446 : (Jvm.Cond.methodLink "java/lang/String" (1051 : Nat) ({ cls := "java/lang/StringUTF16", name := "compress", desc := "([BII)[B" } : Jvm.MethodName)) ∈ lw_all := lw_g (lw_at lw_m2 125 rfl) rfl
theorem q456 : (Jvm.Cond.methodLink "java/lang/String" (47 : Nat) ({ cls := "java/lang/StringUTF16", name := "coderFromArrayLen", desc := "([BI)B" } : Jvm.MethodName)) ∈ lw_all := lw_g (lw_at lw_m2 135 rfl) rfl
theorem q459 : (Jvm.Cond.fieldLink "java/lang/String" (9 : Nat) "java/lang/String" "value" "[B") ∈ lw_all := lw_g (lw_at lw_m2 138 rfl) rfl
theorem q460 : (Jvm.Cond.fieldLink "java/lang/String" (15 : Nat) "java/lang/String" "coder" "B") ∈ lw_all := lw_g (lw_at lw_m2 139 rfl) rfl
theorem q461 : (Jvm.Cond.fieldLink "java/lang/String" (19 : Nat) "java/lang/String" "hash" "I") ∈ lw_all := lw_g (lw_at lw_m2 140 rfl) rfl
theorem q462 : (Jvm.Cond.fieldLink "java/lang/String" (23 : Nat) "java/lang/String" "hashIsZero" "Z") ∈ lw_all := lw_g (lw_at lw_m2 141 rfl) rfl
theorem q463 : (Jvm.Cond.laysFinal "java/lang/String" "java/lang/String" "value" "[B") ∈ lw_all := lw_g (lw_at lw_m2 142 rfl) rfl
theorem q464 : (Jvm.Cond.soleField "java/lang/String" "value") ∈ lw_all := lw_g (lw_at lw_m2 143 rfl) rfl
theorem q465 : (Jvm.Cond.laysFinal "java/lang/String" "java/lang/String" "coder" "B") ∈ lw_all := lw_g (lw_at lw_m2 144 rfl) rfl
theorem q466 : (Jvm.Cond.soleField "java/lang/String" "coder") ∈ lw_all := lw_g (lw_at lw_m2 145 rfl) rfl
theorem q467 : (Jvm.Cond.lays "java/lang/String" "java/lang/String" "hash" "I") ∈ lw_all := lw_g (lw_at lw_m2 146 rfl) rfl
theorem q468 : (Jvm.Cond.soleField "java/lang/String" "hash") ∈ lw_all := lw_g (lw_at lw_m2 147 rfl) rfl
theorem q469 : (Jvm.Cond.lays "java/lang/String" "java/lang/String" "hashIsZero" "Z") ∈ lw_all := lw_g (lw_at lw_m2 148 rfl) rfl
theorem q470 : (Jvm.Cond.soleField "java/lang/String" "hashIsZero") ∈ lw_all := lw_g (lw_at lw_m2 149 rfl) rfl
theorem q471 : (Jvm.Cond.superclass "java/lang/String" "java/lang/Object") ∈ lw_all := lw_g (lw_at lw_m2 150 rfl) rfl
theorem q939 : (Jvm.Cond.selects "java/lang/String" ({ cls := "java/lang/Object", name := "getClass", desc := "()Ljava/lang/Class;" } : Jvm.MethodName) ({ cls := "java/lang/Object", name := "getClass", desc := "()Ljava/lang/Class;" } : Jvm.MethodName)) ∈ lw_all := lw_g (lw_at lw_m4 138 rfl) rfl
theorem q1136 : (Jvm.Cond.static ({ cls := "java/lang/String", name := "checkIndex", desc := "(II)V" } : Jvm.MethodName)) ∈ lw_all := lw_g (lw_at lw_m5 95 rfl) rfl
theorem q1137 : (Jvm.Cond.code ({ cls := "java/lang/String", name := "checkIndex", desc := "(II)V" } : Jvm.MethodName) prog_32_method_155_code (2 : Nat) (Option.none : Option Jvm.ClassFile.FieldType)) ∈ lw_all := lw_g (lw_at lw_m5 96 rfl) rfl
theorem q1138 : (Jvm.Cond.methodLink "java/lang/String" (1059 : Nat) ({ cls := "jdk/internal/util/Preconditions", name := "checkIndex", desc := "(IILjava/util/function/BiFunction;)I" } : Jvm.MethodName)) ∈ lw_all := lw_g (lw_at lw_m5 97 rfl) rfl
theorem q1141 : (Jvm.Cond.instanceMethod ({ cls := "java/lang/String", name := "equals", desc := "(Ljava/lang/Object;)Z" } : Jvm.MethodName)) ∈ lw_all := lw_g (lw_at lw_m5 100 rfl) rfl
theorem q1142 : (Jvm.Cond.selects "java/lang/String" ({ cls := "java/lang/String", name := "equals", desc := "(Ljava/lang/Object;)Z" } : Jvm.MethodName) ({ cls := "java/lang/String", name := "equals", desc := "(Ljava/lang/Object;)Z" } : Jvm.MethodName)) ∈ lw_all := lw_g (lw_at lw_m5 101 rfl) rfl
theorem q1143 : (Jvm.Cond.code ({ cls := "java/lang/String", name := "equals", desc := "(Ljava/lang/Object;)Z" } : Jvm.MethodName) prog_32_method_66_code (3 : Nat) (Option.some Jvm.ClassFile.FieldType.boolean)) ∈ lw_all := lw_g (lw_at lw_m5 102 rfl) rfl
theorem q1144 : (Jvm.Cond.classLink "java/lang/String" (10 : Nat) "java/lang/String") ∈ lw_all := lw_g (lw_at lw_m5 103 rfl) rfl
theorem q1145 : (Jvm.Cond.methodLink "java/lang/String" (541 : Nat) ({ cls := "java/lang/StringLatin1", name := "equals", desc := "([B[B)Z" } : Jvm.MethodName)) ∈ lw_all := lw_g (lw_at lw_m5 104 rfl) rfl
theorem q1314 : (Jvm.Cond.instanceMethod ({ cls := "java/lang/String", name := "hashCode", desc := "()I" } : Jvm.MethodName)) ∈ lw_all := lw_g (lw_at lw_m6 33 rfl) rfl
theorem q1315 : (Jvm.Cond.selects "java/lang/String" ({ cls := "java/lang/String", name := "hashCode", desc := "()I" } : Jvm.MethodName) ({ cls := "java/lang/String", name := "hashCode", desc := "()I" } : Jvm.MethodName)) ∈ lw_all := lw_g (lw_at lw_m6 34 rfl) rfl
theorem q1316 : (Jvm.Cond.code ({ cls := "java/lang/String", name := "hashCode", desc := "()I" } : Jvm.MethodName) prog_32_method_78_code (2 : Nat) (Option.some Jvm.ClassFile.FieldType.int)) ∈ lw_all := lw_g (lw_at lw_m6 35 rfl) rfl
theorem q1317 : (Jvm.Cond.methodLink "java/lang/String" (492 : Nat) ({ cls := "java/lang/String", name := "isLatin1", desc := "()Z" } : Jvm.MethodName)) ∈ lw_all := lw_g (lw_at lw_m6 36 rfl) rfl
theorem q1318 : (Jvm.Cond.instanceMethod ({ cls := "java/lang/String", name := "isLatin1", desc := "()Z" } : Jvm.MethodName)) ∈ lw_all := lw_g (lw_at lw_m6 37 rfl) rfl
theorem q1319 : (Jvm.Cond.selects "java/lang/String" ({ cls := "java/lang/String", name := "isLatin1", desc := "()Z" } : Jvm.MethodName) ({ cls := "java/lang/String", name := "isLatin1", desc := "()Z" } : Jvm.MethodName)) ∈ lw_all := lw_g (lw_at lw_m6 38 rfl) rfl
theorem q1320 : (Jvm.Cond.code ({ cls := "java/lang/String", name := "isLatin1", desc := "()Z" } : Jvm.MethodName) prog_32_method_154_code (1 : Nat) (Option.some Jvm.ClassFile.FieldType.boolean)) ∈ lw_all := lw_g (lw_at lw_m6 39 rfl) rfl
theorem q1321 : (Jvm.Cond.methodLink "java/lang/String" (628 : Nat) ({ cls := "java/lang/StringLatin1", name := "hashCode", desc := "([B)I" } : Jvm.MethodName)) ∈ lw_all := lw_g (lw_at lw_m6 40 rfl) rfl
theorem q1370 : (Jvm.Cond.methodLink "java/lang/String" (632 : Nat) ({ cls := "java/lang/StringUTF16", name := "hashCode", desc := "([B)I" } : Jvm.MethodName)) ∈ lw_all := lw_g (lw_at lw_m6 89 rfl) rfl
theorem q1988 : (Jvm.Cond.instanceMethod ({ cls := "java/lang/String", name := "charAt", desc := "(I)C" } : Jvm.MethodName)) ∈ lw_all := lw_g (lw_at lw_m8 227 rfl) rfl
theorem q1989 : (Jvm.Cond.selects "java/lang/String" ({ cls := "java/lang/String", name := "charAt", desc := "(I)C" } : Jvm.MethodName) ({ cls := "java/lang/String", name := "charAt", desc := "(I)C" } : Jvm.MethodName)) ∈ lw_all := lw_g (lw_at lw_m8 228 rfl) rfl
theorem q1990 : (Jvm.Cond.code ({ cls := "java/lang/String", name := "charAt", desc := "(I)C" } : Jvm.MethodName) prog_32_method_56_code (2 : Nat) (Option.some Jvm.ClassFile.FieldType.char)) ∈ lw_all := lw_g (lw_at lw_m8 229 rfl) rfl
theorem q1991 : (Jvm.Cond.methodLink "java/lang/String" (495 : Nat) ({ cls := "java/lang/StringLatin1", name := "charAt", desc := "([BI)C" } : Jvm.MethodName)) ∈ lw_all := lw_g (lw_at lw_m8 230 rfl) rfl
theorem q1995 : (Jvm.Cond.methodLink "java/lang/String" (498 : Nat) ({ cls := "java/lang/StringUTF16", name := "charAt", desc := "([BI)C" } : Jvm.MethodName)) ∈ lw_all := lw_g (lw_at lw_m8 234 rfl) rfl
theorem q2317 : (Jvm.Cond.castable "java/lang/String" "java/lang/Object") ∈ lw_tbl := lw_at lw_m10 76 rfl
theorem in_J9 : ∀ w ∈ wsJ90, w ∈ lw_all := lw_in wsJ90 [463, 465, 467, 469] (by decide +kernel) (by decide +kernel)
/-! BlackoutStartLaw -/
set_option maxRecDepth 100000
def RX0 : String := "BlackoutStartLaw"
abbrev cX0_append : ByteArray := method_3_code
def yX0_append : MethodName := ⟨RX0, "append", "(LBlackoutStart;IIIII[J)I"⟩
abbrev cX0_truncate : ByteArray := method_4_code
def yX0_truncate : MethodName := ⟨RX0, "truncate", "(LBlackoutStart;I[J)I"⟩
abbrev cX0_load : ByteArray := method_5_code
def yX0_load : MethodName := ⟨RX0, "load", "(LBlackoutStart;[J)I"⟩
abbrev cX0_find : ByteArray := method_6_code
def yX0_find : MethodName := ⟨RX0, "find", "(LBlackoutStart;[J)I"⟩
abbrev cX0_count : ByteArray := method_7_code
def yX0_count : MethodName := ⟨RX0, "count", "(LBlackoutStart;I[J)I"⟩
abbrev cX0_outlet : ByteArray := method_8_code
def yX0_outlet : MethodName := ⟨RX0, "outlet", "(LBlackoutStart;II[J)I"⟩
abbrev cX0_known : ByteArray := method_9_code
def yX0_known : MethodName := ⟨RX0, "known", "(LBlackoutStart;II[J)I"⟩
abbrev cX0_needs : ByteArray := method_10_code
def yX0_needs : MethodName := ⟨RX0, "needs", "(LBlackoutStart;IZ[J)I"⟩
abbrev cX0_outletsWith : ByteArray := method_11_code
def yX0_outletsWith : MethodName := ⟨RX0, "outletsWith", "(LBlackoutStart;IZ[J)I"⟩
abbrev cX0_load_2 : ByteArray := method_12_code
def yX0_load_2 : MethodName := ⟨RX0, "load", "(LBlackoutStart;I[J)I"⟩
abbrev cX0_message : ByteArray := method_13_code
def yX0_message : MethodName := ⟨RX0, "message", "(LBlackoutStart;II[J)I"⟩
abbrev cX0_traffic : ByteArray := method_14_code
def yX0_traffic : MethodName := ⟨RX0, "traffic", "(LBlackoutStart;IZ[J)I"⟩
abbrev cX0_learned : ByteArray := method_15_code
def yX0_learned : MethodName := ⟨RX0, "learned", "(LBlackoutStart;I[J)I"⟩
abbrev cX0_why : ByteArray := method_16_code
def yX0_why : MethodName := ⟨RX0, "why", "(LBlackoutStart;I[J)I"⟩
abbrev cX0_runsIn : ByteArray := method_17_code
def yX0_runsIn : MethodName := ⟨RX0, "runsIn", "(LBlackoutStart;I[J)I"⟩
abbrev cX0_allIn : ByteArray := method_18_code
def yX0_allIn : MethodName := ⟨RX0, "allIn", "(LBlackoutStart;I[J)I"⟩
abbrev cX0_peakIn : ByteArray := method_19_code
def yX0_peakIn : MethodName := ⟨RX0, "peakIn", "(LBlackoutStart;II[J)I"⟩
abbrev cX0_sentIn : ByteArray := method_20_code
def yX0_sentIn : MethodName := ⟨RX0, "sentIn", "(LBlackoutStart;II[J)I"⟩
abbrev cX0_run : ByteArray := method_21_code
def yX0_run : MethodName := ⟨RX0, "run", "(LBlackoutStart;I[J)I"⟩
abbrev cX0_blackout : ByteArray := method_22_code
def yX0_blackout : MethodName := ⟨RX0, "blackout", "(LBlackoutStart;I[J)I"⟩
abbrev cX0_want : ByteArray := method_23_code
def yX0_want : MethodName := ⟨RX0, "want", "(LBlackoutStart;IZ[J)I"⟩
abbrev cX0_setFuse : ByteArray := method_24_code
def yX0_setFuse : MethodName := ⟨RX0, "setFuse", "(LBlackoutStart;I[J)I"⟩
abbrev cX0_setPriority : ByteArray := method_25_code
def yX0_setPriority : MethodName := ⟨RX0, "setPriority", "(LBlackoutStart;II[J)I"⟩
abbrev cX0_undo : ByteArray := method_26_code
def yX0_undo : MethodName := ⟨RX0, "undo", "(LBlackoutStart;[J)I"⟩
abbrev cX0_save : ByteArray := method_27_code
def yX0_save : MethodName := ⟨RX0, "save", "(LBlackoutStart;I)I"⟩
abbrev cX0_restore : ByteArray := method_28_code
def yX0_restore : MethodName := ⟨RX0, "restore", "(LBlackoutStart;I)I"⟩
theorem q81 : (Jvm.Cond.initialized "BlackoutStartLaw") ∈ lw_all := lw_g (lw_at lw_m1 0 rfl) rfl
theorem q122 : (Jvm.Cond.classLink "BlackoutStartLaw" (8 : Nat) "BlackoutStart") ∈ lw_all := lw_g (lw_at lw_m1 41 rfl) rfl
theorem q124 : (Jvm.Cond.methodLink "BlackoutStartLaw" (101 : Nat) ({ cls := "BlackoutStart", name := "<init>", desc := "()V" } : Jvm.MethodName)) ∈ lw_all := lw_g (lw_at lw_m1 43 rfl) rfl
theorem q772 : (Jvm.Cond.methodLink "BlackoutStartLaw" (122 : Nat) ({ cls := "BlackoutStart", name := "errorCode", desc := "()I" } : Jvm.MethodName)) ∈ lw_all := lw_g (lw_at lw_m3 211 rfl) rfl
theorem q776 : (Jvm.Cond.methodLink "BlackoutStartLaw" (126 : Nat) ({ cls := "BlackoutStart", name := "errorPosition", desc := "()I" } : Jvm.MethodName)) ∈ lw_all := lw_g (lw_at lw_m3 215 rfl) rfl
theorem q780 : (Jvm.Cond.methodLink "BlackoutStartLaw" (150 : Nat) ({ cls := "BlackoutStart", name := "rights", desc := "()I" } : Jvm.MethodName)) ∈ lw_all := lw_g (lw_at lw_m3 219 rfl) rfl
theorem q792 : (Jvm.Cond.methodLink "BlackoutStartLaw" (157 : Nat) ({ cls := "BlackoutStart", name := "strain", desc := "()D" } : Jvm.MethodName)) ∈ lw_all := lw_g (lw_at lw_m3 231 rfl) rfl
theorem q796 : (Jvm.Cond.methodLink "BlackoutStartLaw" (171 : Nat) ({ cls := "BlackoutStart", name := "grants", desc := "()I" } : Jvm.MethodName)) ∈ lw_all := lw_g (lw_at lw_m3 235 rfl) rfl
theorem q837 : (Jvm.Cond.methodLink "BlackoutStartLaw" (205 : Nat) ({ cls := "BlackoutStart", name := "forget", desc := "()I" } : Jvm.MethodName)) ∈ lw_all := lw_g (lw_at lw_m4 36 rfl) rfl
theorem q983 : (Jvm.Cond.methodLink "BlackoutStartLaw" (105 : Nat) ({ cls := "BlackoutStartLaw", name := "append", desc := "(LBlackoutStart;IIIII[J)I" } : Jvm.MethodName)) ∈ lw_all := lw_g (lw_at lw_m4 182 rfl) rfl
theorem q984 : (Jvm.Cond.static ({ cls := "BlackoutStartLaw", name := "append", desc := "(LBlackoutStart;IIIII[J)I" } : Jvm.MethodName)) ∈ lw_all := lw_g (lw_at lw_m4 183 rfl) rfl
theorem q985 : (Jvm.Cond.codeWith ({ cls := "BlackoutStartLaw", name := "append", desc := "(LBlackoutStart;IIIII[J)I" } : Jvm.MethodName) method_3_code (8 : Nat) (Option.some Jvm.ClassFile.FieldType.int) [((0 : Nat), (16 : Nat), (19 : Nat), (13 : Nat))]) ∈ lw_all := lw_g (lw_at lw_m4 184 rfl) rfl
theorem q986 : (Jvm.Cond.classLink "BlackoutStartLaw" (13 : Nat) "java/lang/IllegalStateException") ∈ lw_all := lw_g (lw_at lw_m4 185 rfl) rfl
theorem q987 : (Jvm.Cond.methodLink "BlackoutStartLaw" (7 : Nat) ({ cls := "BlackoutStart", name := "append", desc := "(IIIII)I" } : Jvm.MethodName)) ∈ lw_all := lw_g (lw_at lw_m4 186 rfl) rfl
theorem q1003 : (Jvm.Cond.methodLink "BlackoutStartLaw" (114 : Nat) ({ cls := "BlackoutStartLaw", name := "truncate", desc := "(LBlackoutStart;I[J)I" } : Jvm.MethodName)) ∈ lw_all := lw_g (lw_at lw_m4 202 rfl) rfl
theorem q1004 : (Jvm.Cond.static ({ cls := "BlackoutStartLaw", name := "truncate", desc := "(LBlackoutStart;I[J)I" } : Jvm.MethodName)) ∈ lw_all := lw_g (lw_at lw_m4 203 rfl) rfl
theorem q1005 : (Jvm.Cond.codeWith ({ cls := "BlackoutStartLaw", name := "truncate", desc := "(LBlackoutStart;I[J)I" } : Jvm.MethodName) method_4_code (4 : Nat) (Option.some Jvm.ClassFile.FieldType.int) [((0 : Nat), (9 : Nat), (12 : Nat), (19 : Nat))]) ∈ lw_all := lw_g (lw_at lw_m4 204 rfl) rfl
theorem q1006 : (Jvm.Cond.classLink "BlackoutStartLaw" (19 : Nat) "java/lang/IndexOutOfBoundsException") ∈ lw_all := lw_g (lw_at lw_m4 205 rfl) rfl
theorem q1025 : (Jvm.Cond.methodLink "BlackoutStartLaw" (15 : Nat) ({ cls := "BlackoutStart", name := "truncate", desc := "(I)I" } : Jvm.MethodName)) ∈ lw_all := lw_g (lw_at lw_m4 224 rfl) rfl
theorem q1050 : (Jvm.Cond.methodLink "BlackoutStartLaw" (118 : Nat) ({ cls := "BlackoutStartLaw", name := "load", desc := "(LBlackoutStart;[J)I" } : Jvm.MethodName)) ∈ lw_all := lw_g (lw_at lw_m5 9 rfl) rfl
theorem q1051 : (Jvm.Cond.static ({ cls := "BlackoutStartLaw", name := "load", desc := "(LBlackoutStart;[J)I" } : Jvm.MethodName)) ∈ lw_all := lw_g (lw_at lw_m5 10 rfl) rfl
theorem q1052 : (Jvm.Cond.codeWith ({ cls := "BlackoutStartLaw", name := "load", desc := "(LBlackoutStart;[J)I" } : Jvm.MethodName) method_5_code (3 : Nat) (Option.some Jvm.ClassFile.FieldType.int) [((0 : Nat), (8 : Nat), (11 : Nat), (25 : Nat))]) ∈ lw_all := lw_g (lw_at lw_m5 11 rfl) rfl
theorem q1053 : (Jvm.Cond.classLink "BlackoutStartLaw" (25 : Nat) "java/lang/IllegalArgumentException") ∈ lw_all := lw_g (lw_at lw_m5 12 rfl) rfl
theorem q1054 : (Jvm.Cond.methodLink "BlackoutStartLaw" (21 : Nat) ({ cls := "BlackoutStart", name := "load", desc := "()I" } : Jvm.MethodName)) ∈ lw_all := lw_g (lw_at lw_m5 13 rfl) rfl
theorem q1461 : (Jvm.Cond.methodLink "BlackoutStartLaw" (130 : Nat) ({ cls := "BlackoutStartLaw", name := "find", desc := "(LBlackoutStart;[J)I" } : Jvm.MethodName)) ∈ lw_all := lw_g (lw_at lw_m6 180 rfl) rfl
theorem q1462 : (Jvm.Cond.static ({ cls := "BlackoutStartLaw", name := "find", desc := "(LBlackoutStart;[J)I" } : Jvm.MethodName)) ∈ lw_all := lw_g (lw_at lw_m6 181 rfl) rfl
theorem q1463 : (Jvm.Cond.codeWith ({ cls := "BlackoutStartLaw", name := "find", desc := "(LBlackoutStart;[J)I" } : Jvm.MethodName) method_6_code (3 : Nat) (Option.some Jvm.ClassFile.FieldType.int) [((0 : Nat), (8 : Nat), (11 : Nat), (30 : Nat))]) ∈ lw_all := lw_g (lw_at lw_m6 182 rfl) rfl
theorem q1464 : (Jvm.Cond.classLink "BlackoutStartLaw" (30 : Nat) "java/util/NoSuchElementException") ∈ lw_all := lw_g (lw_at lw_m6 183 rfl) rfl
theorem q1465 : (Jvm.Cond.methodLink "BlackoutStartLaw" (27 : Nat) ({ cls := "BlackoutStart", name := "find", desc := "()I" } : Jvm.MethodName)) ∈ lw_all := lw_g (lw_at lw_m6 184 rfl) rfl
theorem q1479 : (Jvm.Cond.methodLink "BlackoutStartLaw" (133 : Nat) ({ cls := "BlackoutStartLaw", name := "count", desc := "(LBlackoutStart;I[J)I" } : Jvm.MethodName)) ∈ lw_all := lw_g (lw_at lw_m6 198 rfl) rfl
theorem q1480 : (Jvm.Cond.static ({ cls := "BlackoutStartLaw", name := "count", desc := "(LBlackoutStart;I[J)I" } : Jvm.MethodName)) ∈ lw_all := lw_g (lw_at lw_m6 199 rfl) rfl
theorem q1481 : (Jvm.Cond.codeWith ({ cls := "BlackoutStartLaw", name := "count", desc := "(LBlackoutStart;I[J)I" } : Jvm.MethodName) method_7_code (4 : Nat) (Option.some Jvm.ClassFile.FieldType.int) [((0 : Nat), (9 : Nat), (12 : Nat), (25 : Nat))]) ∈ lw_all := lw_g (lw_at lw_m6 200 rfl) rfl
theorem q1482 : (Jvm.Cond.methodLink "BlackoutStartLaw" (32 : Nat) ({ cls := "BlackoutStart", name := "count", desc := "(I)I" } : Jvm.MethodName)) ∈ lw_all := lw_g (lw_at lw_m6 201 rfl) rfl
theorem q1493 : (Jvm.Cond.methodLink "BlackoutStartLaw" (136 : Nat) ({ cls := "BlackoutStartLaw", name := "outlet", desc := "(LBlackoutStart;II[J)I" } : Jvm.MethodName)) ∈ lw_all := lw_g (lw_at lw_m6 212 rfl) rfl
theorem q1494 : (Jvm.Cond.static ({ cls := "BlackoutStartLaw", name := "outlet", desc := "(LBlackoutStart;II[J)I" } : Jvm.MethodName)) ∈ lw_all := lw_g (lw_at lw_m6 213 rfl) rfl
theorem q1495 : (Jvm.Cond.codeWith ({ cls := "BlackoutStartLaw", name := "outlet", desc := "(LBlackoutStart;II[J)I" } : Jvm.MethodName) method_8_code (5 : Nat) (Option.some Jvm.ClassFile.FieldType.int) [((0 : Nat), (10 : Nat), (13 : Nat), (19 : Nat)), ((0 : Nat), (10 : Nat), (17 : Nat), (25 : Nat))]) ∈ lw_all := lw_g (lw_at lw_m6 214 rfl) rfl
theorem q1496 : (Jvm.Cond.methodLink "BlackoutStartLaw" (35 : Nat) ({ cls := "BlackoutStart", name := "outlet", desc := "(II)I" } : Jvm.MethodName)) ∈ lw_all := lw_g (lw_at lw_m6 215 rfl) rfl
theorem q1506 : (Jvm.Cond.methodLink "BlackoutStartLaw" (140 : Nat) ({ cls := "BlackoutStartLaw", name := "known", desc := "(LBlackoutStart;II[J)I" } : Jvm.MethodName)) ∈ lw_all := lw_g (lw_at lw_m6 225 rfl) rfl
theorem q1507 : (Jvm.Cond.static ({ cls := "BlackoutStartLaw", name := "known", desc := "(LBlackoutStart;II[J)I" } : Jvm.MethodName)) ∈ lw_all := lw_g (lw_at lw_m6 226 rfl) rfl
theorem q1508 : (Jvm.Cond.codeWith ({ cls := "BlackoutStartLaw", name := "known", desc := "(LBlackoutStart;II[J)I" } : Jvm.MethodName) method_9_code (5 : Nat) (Option.some Jvm.ClassFile.FieldType.int) [((0 : Nat), (10 : Nat), (13 : Nat), (19 : Nat)), ((0 : Nat), (10 : Nat), (17 : Nat), (25 : Nat))]) ∈ lw_all := lw_g (lw_at lw_m6 227 rfl) rfl
theorem q1509 : (Jvm.Cond.methodLink "BlackoutStartLaw" (39 : Nat) ({ cls := "BlackoutStart", name := "known", desc := "(II)I" } : Jvm.MethodName)) ∈ lw_all := lw_g (lw_at lw_m6 228 rfl) rfl
theorem q1516 : (Jvm.Cond.methodLink "BlackoutStartLaw" (143 : Nat) ({ cls := "BlackoutStartLaw", name := "needs", desc := "(LBlackoutStart;IZ[J)I" } : Jvm.MethodName)) ∈ lw_all := lw_g (lw_at lw_m6 235 rfl) rfl
theorem q1517 : (Jvm.Cond.static ({ cls := "BlackoutStartLaw", name := "needs", desc := "(LBlackoutStart;IZ[J)I" } : Jvm.MethodName)) ∈ lw_all := lw_g (lw_at lw_m6 236 rfl) rfl
theorem q1518 : (Jvm.Cond.codeWith ({ cls := "BlackoutStartLaw", name := "needs", desc := "(LBlackoutStart;IZ[J)I" } : Jvm.MethodName) method_10_code (5 : Nat) (Option.some Jvm.ClassFile.FieldType.int) [((0 : Nat), (10 : Nat), (13 : Nat), (19 : Nat))]) ∈ lw_all := lw_g (lw_at lw_m6 237 rfl) rfl
theorem q1519 : (Jvm.Cond.methodLink "BlackoutStartLaw" (42 : Nat) ({ cls := "BlackoutStart", name := "needs", desc := "(IZ)I" } : Jvm.MethodName)) ∈ lw_all := lw_g (lw_at lw_m6 238 rfl) rfl
theorem q1523 : (Jvm.Cond.methodLink "BlackoutStartLaw" (147 : Nat) ({ cls := "BlackoutStartLaw", name := "outletsWith", desc := "(LBlackoutStart;IZ[J)I" } : Jvm.MethodName)) ∈ lw_all := lw_g (lw_at lw_m7 2 rfl) rfl
theorem q1524 : (Jvm.Cond.static ({ cls := "BlackoutStartLaw", name := "outletsWith", desc := "(LBlackoutStart;IZ[J)I" } : Jvm.MethodName)) ∈ lw_all := lw_g (lw_at lw_m7 3 rfl) rfl
theorem q1525 : (Jvm.Cond.codeWith ({ cls := "BlackoutStartLaw", name := "outletsWith", desc := "(LBlackoutStart;IZ[J)I" } : Jvm.MethodName) method_11_code (5 : Nat) (Option.some Jvm.ClassFile.FieldType.int) [((0 : Nat), (10 : Nat), (13 : Nat), (25 : Nat))]) ∈ lw_all := lw_g (lw_at lw_m7 4 rfl) rfl
theorem q1526 : (Jvm.Cond.methodLink "BlackoutStartLaw" (46 : Nat) ({ cls := "BlackoutStart", name := "outletsWith", desc := "(IZ)I" } : Jvm.MethodName)) ∈ lw_all := lw_g (lw_at lw_m7 5 rfl) rfl
theorem q1536 : (Jvm.Cond.methodLink "BlackoutStartLaw" (154 : Nat) ({ cls := "BlackoutStartLaw", name := "load", desc := "(LBlackoutStart;I[J)I" } : Jvm.MethodName)) ∈ lw_all := lw_g (lw_at lw_m7 15 rfl) rfl
theorem q1537 : (Jvm.Cond.static ({ cls := "BlackoutStartLaw", name := "load", desc := "(LBlackoutStart;I[J)I" } : Jvm.MethodName)) ∈ lw_all := lw_g (lw_at lw_m7 16 rfl) rfl
theorem q1538 : (Jvm.Cond.codeWith ({ cls := "BlackoutStartLaw", name := "load", desc := "(LBlackoutStart;I[J)I" } : Jvm.MethodName) method_12_code (4 : Nat) (Option.some Jvm.ClassFile.FieldType.int) [((0 : Nat), (9 : Nat), (12 : Nat), (25 : Nat))]) ∈ lw_all := lw_g (lw_at lw_m7 17 rfl) rfl
theorem q1539 : (Jvm.Cond.methodLink "BlackoutStartLaw" (49 : Nat) ({ cls := "BlackoutStart", name := "load", desc := "(I)I" } : Jvm.MethodName)) ∈ lw_all := lw_g (lw_at lw_m7 18 rfl) rfl
theorem q1552 : (Jvm.Cond.methodLink "BlackoutStartLaw" (162 : Nat) ({ cls := "BlackoutStartLaw", name := "message", desc := "(LBlackoutStart;II[J)I" } : Jvm.MethodName)) ∈ lw_all := lw_g (lw_at lw_m7 31 rfl) rfl
theorem q1553 : (Jvm.Cond.static ({ cls := "BlackoutStartLaw", name := "message", desc := "(LBlackoutStart;II[J)I" } : Jvm.MethodName)) ∈ lw_all := lw_g (lw_at lw_m7 32 rfl) rfl
theorem q1554 : (Jvm.Cond.codeWith ({ cls := "BlackoutStartLaw", name := "message", desc := "(LBlackoutStart;II[J)I" } : Jvm.MethodName) method_13_code (5 : Nat) (Option.some Jvm.ClassFile.FieldType.int) [((0 : Nat), (10 : Nat), (13 : Nat), (19 : Nat)), ((0 : Nat), (10 : Nat), (17 : Nat), (25 : Nat))]) ∈ lw_all := lw_g (lw_at lw_m7 33 rfl) rfl
theorem q1555 : (Jvm.Cond.methodLink "BlackoutStartLaw" (51 : Nat) ({ cls := "BlackoutStart", name := "message", desc := "(II)I" } : Jvm.MethodName)) ∈ lw_all := lw_g (lw_at lw_m7 34 rfl) rfl
theorem q1559 : (Jvm.Cond.methodLink "BlackoutStartLaw" (165 : Nat) ({ cls := "BlackoutStartLaw", name := "traffic", desc := "(LBlackoutStart;IZ[J)I" } : Jvm.MethodName)) ∈ lw_all := lw_g (lw_at lw_m7 38 rfl) rfl
theorem q1560 : (Jvm.Cond.static ({ cls := "BlackoutStartLaw", name := "traffic", desc := "(LBlackoutStart;IZ[J)I" } : Jvm.MethodName)) ∈ lw_all := lw_g (lw_at lw_m7 39 rfl) rfl
theorem q1561 : (Jvm.Cond.codeWith ({ cls := "BlackoutStartLaw", name := "traffic", desc := "(LBlackoutStart;IZ[J)I" } : Jvm.MethodName) method_14_code (5 : Nat) (Option.some Jvm.ClassFile.FieldType.int) [((0 : Nat), (10 : Nat), (13 : Nat), (25 : Nat))]) ∈ lw_all := lw_g (lw_at lw_m7 40 rfl) rfl
theorem q1562 : (Jvm.Cond.methodLink "BlackoutStartLaw" (54 : Nat) ({ cls := "BlackoutStart", name := "traffic", desc := "(IZ)I" } : Jvm.MethodName)) ∈ lw_all := lw_g (lw_at lw_m7 41 rfl) rfl
theorem q1567 : (Jvm.Cond.methodLink "BlackoutStartLaw" (168 : Nat) ({ cls := "BlackoutStartLaw", name := "learned", desc := "(LBlackoutStart;I[J)I" } : Jvm.MethodName)) ∈ lw_all := lw_g (lw_at lw_m7 46 rfl) rfl
theorem q1568 : (Jvm.Cond.static ({ cls := "BlackoutStartLaw", name := "learned", desc := "(LBlackoutStart;I[J)I" } : Jvm.MethodName)) ∈ lw_all := lw_g (lw_at lw_m7 47 rfl) rfl
theorem q1569 : (Jvm.Cond.codeWith ({ cls := "BlackoutStartLaw", name := "learned", desc := "(LBlackoutStart;I[J)I" } : Jvm.MethodName) method_15_code (4 : Nat) (Option.some Jvm.ClassFile.FieldType.int) [((0 : Nat), (9 : Nat), (12 : Nat), (19 : Nat))]) ∈ lw_all := lw_g (lw_at lw_m7 48 rfl) rfl
theorem q1570 : (Jvm.Cond.methodLink "BlackoutStartLaw" (57 : Nat) ({ cls := "BlackoutStart", name := "learned", desc := "(I)I" } : Jvm.MethodName)) ∈ lw_all := lw_g (lw_at lw_m7 49 rfl) rfl
theorem q1574 : (Jvm.Cond.methodLink "BlackoutStartLaw" (175 : Nat) ({ cls := "BlackoutStartLaw", name := "why", desc := "(LBlackoutStart;I[J)I" } : Jvm.MethodName)) ∈ lw_all := lw_g (lw_at lw_m7 53 rfl) rfl
theorem q1575 : (Jvm.Cond.static ({ cls := "BlackoutStartLaw", name := "why", desc := "(LBlackoutStart;I[J)I" } : Jvm.MethodName)) ∈ lw_all := lw_g (lw_at lw_m7 54 rfl) rfl
theorem q1576 : (Jvm.Cond.codeWith ({ cls := "BlackoutStartLaw", name := "why", desc := "(LBlackoutStart;I[J)I" } : Jvm.MethodName) method_16_code (4 : Nat) (Option.some Jvm.ClassFile.FieldType.int) [((0 : Nat), (9 : Nat), (12 : Nat), (19 : Nat))]) ∈ lw_all := lw_g (lw_at lw_m7 55 rfl) rfl
theorem q1577 : (Jvm.Cond.methodLink "BlackoutStartLaw" (60 : Nat) ({ cls := "BlackoutStart", name := "why", desc := "(I)I" } : Jvm.MethodName)) ∈ lw_all := lw_g (lw_at lw_m7 56 rfl) rfl
theorem q1582 : (Jvm.Cond.methodLink "BlackoutStartLaw" (178 : Nat) ({ cls := "BlackoutStartLaw", name := "runsIn", desc := "(LBlackoutStart;I[J)I" } : Jvm.MethodName)) ∈ lw_all := lw_g (lw_at lw_m7 61 rfl) rfl
theorem q1583 : (Jvm.Cond.static ({ cls := "BlackoutStartLaw", name := "runsIn", desc := "(LBlackoutStart;I[J)I" } : Jvm.MethodName)) ∈ lw_all := lw_g (lw_at lw_m7 62 rfl) rfl
theorem q1584 : (Jvm.Cond.codeWith ({ cls := "BlackoutStartLaw", name := "runsIn", desc := "(LBlackoutStart;I[J)I" } : Jvm.MethodName) method_17_code (4 : Nat) (Option.some Jvm.ClassFile.FieldType.int) [((0 : Nat), (9 : Nat), (12 : Nat), (19 : Nat)), ((0 : Nat), (9 : Nat), (15 : Nat), (30 : Nat))]) ∈ lw_all := lw_g (lw_at lw_m7 63 rfl) rfl
theorem q1585 : (Jvm.Cond.methodLink "BlackoutStartLaw" (63 : Nat) ({ cls := "BlackoutStart", name := "runsIn", desc := "(I)I" } : Jvm.MethodName)) ∈ lw_all := lw_g (lw_at lw_m7 64 rfl) rfl
theorem q1708 : (Jvm.Cond.methodLink "BlackoutStartLaw" (181 : Nat) ({ cls := "BlackoutStartLaw", name := "allIn", desc := "(LBlackoutStart;I[J)I" } : Jvm.MethodName)) ∈ lw_all := lw_g (lw_at lw_m7 187 rfl) rfl
theorem q1709 : (Jvm.Cond.static ({ cls := "BlackoutStartLaw", name := "allIn", desc := "(LBlackoutStart;I[J)I" } : Jvm.MethodName)) ∈ lw_all := lw_g (lw_at lw_m7 188 rfl) rfl
theorem q1710 : (Jvm.Cond.codeWith ({ cls := "BlackoutStartLaw", name := "allIn", desc := "(LBlackoutStart;I[J)I" } : Jvm.MethodName) method_18_code (4 : Nat) (Option.some Jvm.ClassFile.FieldType.int) [((0 : Nat), (9 : Nat), (12 : Nat), (25 : Nat)), ((0 : Nat), (9 : Nat), (15 : Nat), (30 : Nat))]) ∈ lw_all := lw_g (lw_at lw_m7 189 rfl) rfl
theorem q1711 : (Jvm.Cond.methodLink "BlackoutStartLaw" (66 : Nat) ({ cls := "BlackoutStart", name := "allIn", desc := "(I)I" } : Jvm.MethodName)) ∈ lw_all := lw_g (lw_at lw_m7 190 rfl) rfl
theorem q1715 : (Jvm.Cond.methodLink "BlackoutStartLaw" (184 : Nat) ({ cls := "BlackoutStartLaw", name := "peakIn", desc := "(LBlackoutStart;II[J)I" } : Jvm.MethodName)) ∈ lw_all := lw_g (lw_at lw_m7 194 rfl) rfl
theorem q1716 : (Jvm.Cond.static ({ cls := "BlackoutStartLaw", name := "peakIn", desc := "(LBlackoutStart;II[J)I" } : Jvm.MethodName)) ∈ lw_all := lw_g (lw_at lw_m7 195 rfl) rfl
theorem q1717 : (Jvm.Cond.codeWith ({ cls := "BlackoutStartLaw", name := "peakIn", desc := "(LBlackoutStart;II[J)I" } : Jvm.MethodName) method_19_code (5 : Nat) (Option.some Jvm.ClassFile.FieldType.int) [((0 : Nat), (10 : Nat), (13 : Nat), (25 : Nat))]) ∈ lw_all := lw_g (lw_at lw_m7 196 rfl) rfl
theorem q1718 : (Jvm.Cond.methodLink "BlackoutStartLaw" (69 : Nat) ({ cls := "BlackoutStart", name := "peakIn", desc := "(II)I" } : Jvm.MethodName)) ∈ lw_all := lw_g (lw_at lw_m7 197 rfl) rfl
theorem q1725 : (Jvm.Cond.methodLink "BlackoutStartLaw" (187 : Nat) ({ cls := "BlackoutStartLaw", name := "sentIn", desc := "(LBlackoutStart;II[J)I" } : Jvm.MethodName)) ∈ lw_all := lw_g (lw_at lw_m7 204 rfl) rfl
theorem q1726 : (Jvm.Cond.static ({ cls := "BlackoutStartLaw", name := "sentIn", desc := "(LBlackoutStart;II[J)I" } : Jvm.MethodName)) ∈ lw_all := lw_g (lw_at lw_m7 205 rfl) rfl
theorem q1727 : (Jvm.Cond.codeWith ({ cls := "BlackoutStartLaw", name := "sentIn", desc := "(LBlackoutStart;II[J)I" } : Jvm.MethodName) method_20_code (5 : Nat) (Option.some Jvm.ClassFile.FieldType.int) [((0 : Nat), (10 : Nat), (13 : Nat), (25 : Nat))]) ∈ lw_all := lw_g (lw_at lw_m7 206 rfl) rfl
theorem q1728 : (Jvm.Cond.methodLink "BlackoutStartLaw" (72 : Nat) ({ cls := "BlackoutStart", name := "sentIn", desc := "(II)I" } : Jvm.MethodName)) ∈ lw_all := lw_g (lw_at lw_m7 207 rfl) rfl
theorem q1733 : (Jvm.Cond.methodLink "BlackoutStartLaw" (190 : Nat) ({ cls := "BlackoutStartLaw", name := "run", desc := "(LBlackoutStart;I[J)I" } : Jvm.MethodName)) ∈ lw_all := lw_g (lw_at lw_m7 212 rfl) rfl
theorem q1734 : (Jvm.Cond.static ({ cls := "BlackoutStartLaw", name := "run", desc := "(LBlackoutStart;I[J)I" } : Jvm.MethodName)) ∈ lw_all := lw_g (lw_at lw_m7 213 rfl) rfl
theorem q1735 : (Jvm.Cond.codeWith ({ cls := "BlackoutStartLaw", name := "run", desc := "(LBlackoutStart;I[J)I" } : Jvm.MethodName) method_21_code (4 : Nat) (Option.some Jvm.ClassFile.FieldType.int) [((0 : Nat), (9 : Nat), (12 : Nat), (25 : Nat)), ((0 : Nat), (9 : Nat), (15 : Nat), (13 : Nat))]) ∈ lw_all := lw_g (lw_at lw_m7 214 rfl) rfl
theorem q1736 : (Jvm.Cond.methodLink "BlackoutStartLaw" (75 : Nat) ({ cls := "BlackoutStart", name := "run", desc := "(I)I" } : Jvm.MethodName)) ∈ lw_all := lw_g (lw_at lw_m7 215 rfl) rfl
theorem q1742 : (Jvm.Cond.methodLink "BlackoutStartLaw" (193 : Nat) ({ cls := "BlackoutStartLaw", name := "blackout", desc := "(LBlackoutStart;I[J)I" } : Jvm.MethodName)) ∈ lw_all := lw_g (lw_at lw_m7 221 rfl) rfl
theorem q1743 : (Jvm.Cond.static ({ cls := "BlackoutStartLaw", name := "blackout", desc := "(LBlackoutStart;I[J)I" } : Jvm.MethodName)) ∈ lw_all := lw_g (lw_at lw_m7 222 rfl) rfl
theorem q1744 : (Jvm.Cond.codeWith ({ cls := "BlackoutStartLaw", name := "blackout", desc := "(LBlackoutStart;I[J)I" } : Jvm.MethodName) method_22_code (4 : Nat) (Option.some Jvm.ClassFile.FieldType.int) [((0 : Nat), (9 : Nat), (12 : Nat), (25 : Nat))]) ∈ lw_all := lw_g (lw_at lw_m7 223 rfl) rfl
theorem q1745 : (Jvm.Cond.methodLink "BlackoutStartLaw" (78 : Nat) ({ cls := "BlackoutStart", name := "blackout", desc := "(I)I" } : Jvm.MethodName)) ∈ lw_all := lw_g (lw_at lw_m7 224 rfl) rfl
theorem q1751 : (Jvm.Cond.methodLink "BlackoutStartLaw" (196 : Nat) ({ cls := "BlackoutStartLaw", name := "want", desc := "(LBlackoutStart;IZ[J)I" } : Jvm.MethodName)) ∈ lw_all := lw_g (lw_at lw_m7 230 rfl) rfl
theorem q1752 : (Jvm.Cond.static ({ cls := "BlackoutStartLaw", name := "want", desc := "(LBlackoutStart;IZ[J)I" } : Jvm.MethodName)) ∈ lw_all := lw_g (lw_at lw_m7 231 rfl) rfl
theorem q1753 : (Jvm.Cond.codeWith ({ cls := "BlackoutStartLaw", name := "want", desc := "(LBlackoutStart;IZ[J)I" } : Jvm.MethodName) method_23_code (5 : Nat) (Option.some Jvm.ClassFile.FieldType.int) [((0 : Nat), (17 : Nat), (20 : Nat), (19 : Nat))]) ∈ lw_all := lw_g (lw_at lw_m7 232 rfl) rfl
theorem q1754 : (Jvm.Cond.methodLink "BlackoutStartLaw" (81 : Nat) ({ cls := "BlackoutStart", name := "want", desc := "(IZ)Z" } : Jvm.MethodName)) ∈ lw_all := lw_g (lw_at lw_m7 233 rfl) rfl
theorem q1762 : (Jvm.Cond.methodLink "BlackoutStartLaw" (199 : Nat) ({ cls := "BlackoutStartLaw", name := "setFuse", desc := "(LBlackoutStart;I[J)I" } : Jvm.MethodName)) ∈ lw_all := lw_g (lw_at lw_m8 1 rfl) rfl
theorem q1763 : (Jvm.Cond.static ({ cls := "BlackoutStartLaw", name := "setFuse", desc := "(LBlackoutStart;I[J)I" } : Jvm.MethodName)) ∈ lw_all := lw_g (lw_at lw_m8 2 rfl) rfl
theorem q1764 : (Jvm.Cond.codeWith ({ cls := "BlackoutStartLaw", name := "setFuse", desc := "(LBlackoutStart;I[J)I" } : Jvm.MethodName) method_24_code (4 : Nat) (Option.some Jvm.ClassFile.FieldType.int) [((0 : Nat), (9 : Nat), (12 : Nat), (25 : Nat))]) ∈ lw_all := lw_g (lw_at lw_m8 3 rfl) rfl
theorem q1765 : (Jvm.Cond.methodLink "BlackoutStartLaw" (85 : Nat) ({ cls := "BlackoutStart", name := "setFuse", desc := "(I)I" } : Jvm.MethodName)) ∈ lw_all := lw_g (lw_at lw_m8 4 rfl) rfl
theorem q1769 : (Jvm.Cond.methodLink "BlackoutStartLaw" (202 : Nat) ({ cls := "BlackoutStartLaw", name := "setPriority", desc := "(LBlackoutStart;II[J)I" } : Jvm.MethodName)) ∈ lw_all := lw_g (lw_at lw_m8 8 rfl) rfl
theorem q1770 : (Jvm.Cond.static ({ cls := "BlackoutStartLaw", name := "setPriority", desc := "(LBlackoutStart;II[J)I" } : Jvm.MethodName)) ∈ lw_all := lw_g (lw_at lw_m8 9 rfl) rfl
theorem q1771 : (Jvm.Cond.codeWith ({ cls := "BlackoutStartLaw", name := "setPriority", desc := "(LBlackoutStart;II[J)I" } : Jvm.MethodName) method_25_code (5 : Nat) (Option.some Jvm.ClassFile.FieldType.int) [((0 : Nat), (10 : Nat), (13 : Nat), (19 : Nat)), ((0 : Nat), (10 : Nat), (17 : Nat), (25 : Nat))]) ∈ lw_all := lw_g (lw_at lw_m8 10 rfl) rfl
theorem q1772 : (Jvm.Cond.methodLink "BlackoutStartLaw" (88 : Nat) ({ cls := "BlackoutStart", name := "setPriority", desc := "(II)I" } : Jvm.MethodName)) ∈ lw_all := lw_g (lw_at lw_m8 11 rfl) rfl
theorem q1777 : (Jvm.Cond.methodLink "BlackoutStartLaw" (209 : Nat) ({ cls := "BlackoutStartLaw", name := "undo", desc := "(LBlackoutStart;[J)I" } : Jvm.MethodName)) ∈ lw_all := lw_g (lw_at lw_m8 16 rfl) rfl
theorem q1778 : (Jvm.Cond.static ({ cls := "BlackoutStartLaw", name := "undo", desc := "(LBlackoutStart;[J)I" } : Jvm.MethodName)) ∈ lw_all := lw_g (lw_at lw_m8 17 rfl) rfl
theorem q1779 : (Jvm.Cond.codeWith ({ cls := "BlackoutStartLaw", name := "undo", desc := "(LBlackoutStart;[J)I" } : Jvm.MethodName) method_26_code (3 : Nat) (Option.some Jvm.ClassFile.FieldType.int) [((0 : Nat), (8 : Nat), (11 : Nat), (13 : Nat))]) ∈ lw_all := lw_g (lw_at lw_m8 18 rfl) rfl
theorem q1780 : (Jvm.Cond.methodLink "BlackoutStartLaw" (91 : Nat) ({ cls := "BlackoutStart", name := "undo", desc := "()I" } : Jvm.MethodName)) ∈ lw_all := lw_g (lw_at lw_m8 19 rfl) rfl
theorem q1799 : (Jvm.Cond.methodLink "BlackoutStartLaw" (212 : Nat) ({ cls := "BlackoutStartLaw", name := "save", desc := "(LBlackoutStart;I)I" } : Jvm.MethodName)) ∈ lw_all := lw_g (lw_at lw_m8 38 rfl) rfl
theorem q1800 : (Jvm.Cond.static ({ cls := "BlackoutStartLaw", name := "save", desc := "(LBlackoutStart;I)I" } : Jvm.MethodName)) ∈ lw_all := lw_g (lw_at lw_m8 39 rfl) rfl
theorem q1801 : (Jvm.Cond.codeWith ({ cls := "BlackoutStartLaw", name := "save", desc := "(LBlackoutStart;I)I" } : Jvm.MethodName) method_27_code (3 : Nat) (Option.some Jvm.ClassFile.FieldType.int) [((0 : Nat), (5 : Nat), (8 : Nat), (19 : Nat))]) ∈ lw_all := lw_g (lw_at lw_m8 40 rfl) rfl
theorem q1802 : (Jvm.Cond.methodLink "BlackoutStartLaw" (94 : Nat) ({ cls := "BlackoutStart", name := "save", desc := "(I)V" } : Jvm.MethodName)) ∈ lw_all := lw_g (lw_at lw_m8 41 rfl) rfl
theorem q1809 : (Jvm.Cond.methodLink "BlackoutStartLaw" (216 : Nat) ({ cls := "BlackoutStartLaw", name := "restore", desc := "(LBlackoutStart;I)I" } : Jvm.MethodName)) ∈ lw_all := lw_g (lw_at lw_m8 48 rfl) rfl
theorem q1810 : (Jvm.Cond.static ({ cls := "BlackoutStartLaw", name := "restore", desc := "(LBlackoutStart;I)I" } : Jvm.MethodName)) ∈ lw_all := lw_g (lw_at lw_m8 49 rfl) rfl
theorem q1811 : (Jvm.Cond.codeWith ({ cls := "BlackoutStartLaw", name := "restore", desc := "(LBlackoutStart;I)I" } : Jvm.MethodName) method_28_code (3 : Nat) (Option.some Jvm.ClassFile.FieldType.int) [((0 : Nat), (5 : Nat), (8 : Nat), (19 : Nat)), ((0 : Nat), (5 : Nat), (11 : Nat), (30 : Nat))]) ∈ lw_all := lw_g (lw_at lw_m8 50 rfl) rfl
theorem q1812 : (Jvm.Cond.methodLink "BlackoutStartLaw" (98 : Nat) ({ cls := "BlackoutStart", name := "restore", desc := "(I)V" } : Jvm.MethodName)) ∈ lw_all := lw_g (lw_at lw_m8 51 rfl) rfl
theorem q1816 : (Jvm.Cond.classLink "BlackoutStartLaw" (102 : Nat) "BlackoutStartModel") ∈ lw_all := lw_g (lw_at lw_m8 55 rfl) rfl
theorem q1818 : (Jvm.Cond.methodLink "BlackoutStartLaw" (104 : Nat) ({ cls := "BlackoutStartModel", name := "<init>", desc := "()V" } : Jvm.MethodName)) ∈ lw_all := lw_g (lw_at lw_m8 57 rfl) rfl
theorem q1940 : (Jvm.Cond.methodLink "BlackoutStartLaw" (111 : Nat) ({ cls := "BlackoutStartModel", name := "thrown", desc := "()I" } : Jvm.MethodName)) ∈ lw_all := lw_g (lw_at lw_m8 179 rfl) rfl
theorem q1944 : (Jvm.Cond.methodLink "BlackoutStartLaw" (110 : Nat) ({ cls := "BlackoutStartModel", name := "append", desc := "(IIIII)I" } : Jvm.MethodName)) ∈ lw_all := lw_g (lw_at lw_m8 183 rfl) rfl
theorem q1952 : (Jvm.Cond.methodLink "BlackoutStartLaw" (117 : Nat) ({ cls := "BlackoutStartModel", name := "truncate", desc := "(I)I" } : Jvm.MethodName)) ∈ lw_all := lw_g (lw_at lw_m8 191 rfl) rfl
theorem q1959 : (Jvm.Cond.methodLink "BlackoutStartLaw" (121 : Nat) ({ cls := "BlackoutStartModel", name := "load", desc := "()I" } : Jvm.MethodName)) ∈ lw_all := lw_g (lw_at lw_m8 198 rfl) rfl
theorem q2053 : (Jvm.Cond.methodLink "BlackoutStartLaw" (125 : Nat) ({ cls := "BlackoutStartModel", name := "errorCode", desc := "()I" } : Jvm.MethodName)) ∈ lw_all := lw_g (lw_at lw_m9 52 rfl) rfl
theorem q2057 : (Jvm.Cond.methodLink "BlackoutStartLaw" (129 : Nat) ({ cls := "BlackoutStartModel", name := "errorPosition", desc := "()I" } : Jvm.MethodName)) ∈ lw_all := lw_g (lw_at lw_m9 56 rfl) rfl
theorem q2061 : (Jvm.Cond.methodLink "BlackoutStartLaw" (132 : Nat) ({ cls := "BlackoutStartModel", name := "find", desc := "()I" } : Jvm.MethodName)) ∈ lw_all := lw_g (lw_at lw_m9 60 rfl) rfl
theorem q2065 : (Jvm.Cond.methodLink "BlackoutStartLaw" (135 : Nat) ({ cls := "BlackoutStartModel", name := "count", desc := "(I)I" } : Jvm.MethodName)) ∈ lw_all := lw_g (lw_at lw_m9 64 rfl) rfl
theorem q2074 : (Jvm.Cond.methodLink "BlackoutStartLaw" (139 : Nat) ({ cls := "BlackoutStartModel", name := "outlet", desc := "(II)I" } : Jvm.MethodName)) ∈ lw_all := lw_g (lw_at lw_m9 73 rfl) rfl
theorem q2083 : (Jvm.Cond.methodLink "BlackoutStartLaw" (142 : Nat) ({ cls := "BlackoutStartModel", name := "known", desc := "(II)I" } : Jvm.MethodName)) ∈ lw_all := lw_g (lw_at lw_m9 82 rfl) rfl
theorem q2112 : (Jvm.Cond.methodLink "BlackoutStartLaw" (146 : Nat) ({ cls := "BlackoutStartModel", name := "needs", desc := "(IZ)I" } : Jvm.MethodName)) ∈ lw_all := lw_g (lw_at lw_m9 111 rfl) rfl
theorem q2116 : (Jvm.Cond.methodLink "BlackoutStartLaw" (149 : Nat) ({ cls := "BlackoutStartModel", name := "outletsWith", desc := "(IZ)I" } : Jvm.MethodName)) ∈ lw_all := lw_g (lw_at lw_m9 115 rfl) rfl
theorem q2125 : (Jvm.Cond.methodLink "BlackoutStartLaw" (153 : Nat) ({ cls := "BlackoutStartModel", name := "rights", desc := "()I" } : Jvm.MethodName)) ∈ lw_all := lw_g (lw_at lw_m9 124 rfl) rfl
theorem q2133 : (Jvm.Cond.methodLink "BlackoutStartLaw" (156 : Nat) ({ cls := "BlackoutStartModel", name := "load", desc := "(I)I" } : Jvm.MethodName)) ∈ lw_all := lw_g (lw_at lw_m9 132 rfl) rfl
theorem q2150 : (Jvm.Cond.methodLink "BlackoutStartLaw" (161 : Nat) ({ cls := "BlackoutStartModel", name := "strain", desc := "()D" } : Jvm.MethodName)) ∈ lw_all := lw_g (lw_at lw_m9 149 rfl) rfl
theorem q2154 : (Jvm.Cond.methodLink "BlackoutStartLaw" (164 : Nat) ({ cls := "BlackoutStartModel", name := "message", desc := "(II)I" } : Jvm.MethodName)) ∈ lw_all := lw_g (lw_at lw_m9 153 rfl) rfl
theorem q2158 : (Jvm.Cond.methodLink "BlackoutStartLaw" (167 : Nat) ({ cls := "BlackoutStartModel", name := "traffic", desc := "(IZ)I" } : Jvm.MethodName)) ∈ lw_all := lw_g (lw_at lw_m9 157 rfl) rfl
theorem q2162 : (Jvm.Cond.methodLink "BlackoutStartLaw" (170 : Nat) ({ cls := "BlackoutStartModel", name := "learned", desc := "(I)I" } : Jvm.MethodName)) ∈ lw_all := lw_g (lw_at lw_m9 161 rfl) rfl
theorem q2166 : (Jvm.Cond.methodLink "BlackoutStartLaw" (174 : Nat) ({ cls := "BlackoutStartModel", name := "grants", desc := "()I" } : Jvm.MethodName)) ∈ lw_all := lw_g (lw_at lw_m9 165 rfl) rfl
theorem q2190 : (Jvm.Cond.methodLink "BlackoutStartLaw" (177 : Nat) ({ cls := "BlackoutStartModel", name := "why", desc := "(I)I" } : Jvm.MethodName)) ∈ lw_all := lw_g (lw_at lw_m9 189 rfl) rfl
theorem q2194 : (Jvm.Cond.methodLink "BlackoutStartLaw" (180 : Nat) ({ cls := "BlackoutStartModel", name := "runsIn", desc := "(I)I" } : Jvm.MethodName)) ∈ lw_all := lw_g (lw_at lw_m9 193 rfl) rfl
theorem q2230 : (Jvm.Cond.methodLink "BlackoutStartLaw" (183 : Nat) ({ cls := "BlackoutStartModel", name := "allIn", desc := "(I)I" } : Jvm.MethodName)) ∈ lw_all := lw_g (lw_at lw_m9 229 rfl) rfl
theorem q2237 : (Jvm.Cond.methodLink "BlackoutStartLaw" (186 : Nat) ({ cls := "BlackoutStartModel", name := "peakIn", desc := "(II)I" } : Jvm.MethodName)) ∈ lw_all := lw_g (lw_at lw_m9 236 rfl) rfl
theorem q2246 : (Jvm.Cond.methodLink "BlackoutStartLaw" (189 : Nat) ({ cls := "BlackoutStartModel", name := "sentIn", desc := "(II)I" } : Jvm.MethodName)) ∈ lw_all := lw_g (lw_at lw_m10 5 rfl) rfl
theorem q2251 : (Jvm.Cond.methodLink "BlackoutStartLaw" (192 : Nat) ({ cls := "BlackoutStartModel", name := "run", desc := "(I)I" } : Jvm.MethodName)) ∈ lw_all := lw_g (lw_at lw_m10 10 rfl) rfl
theorem q2260 : (Jvm.Cond.methodLink "BlackoutStartLaw" (195 : Nat) ({ cls := "BlackoutStartModel", name := "blackout", desc := "(I)I" } : Jvm.MethodName)) ∈ lw_all := lw_g (lw_at lw_m10 19 rfl) rfl
theorem q2265 : (Jvm.Cond.methodLink "BlackoutStartLaw" (198 : Nat) ({ cls := "BlackoutStartModel", name := "want", desc := "(IZ)Z" } : Jvm.MethodName)) ∈ lw_all := lw_g (lw_at lw_m10 24 rfl) rfl
theorem q2269 : (Jvm.Cond.methodLink "BlackoutStartLaw" (201 : Nat) ({ cls := "BlackoutStartModel", name := "setFuse", desc := "(I)I" } : Jvm.MethodName)) ∈ lw_all := lw_g (lw_at lw_m10 28 rfl) rfl
theorem q2273 : (Jvm.Cond.methodLink "BlackoutStartLaw" (204 : Nat) ({ cls := "BlackoutStartModel", name := "setPriority", desc := "(II)I" } : Jvm.MethodName)) ∈ lw_all := lw_g (lw_at lw_m10 32 rfl) rfl
theorem q2277 : (Jvm.Cond.methodLink "BlackoutStartLaw" (208 : Nat) ({ cls := "BlackoutStartModel", name := "forget", desc := "()I" } : Jvm.MethodName)) ∈ lw_all := lw_g (lw_at lw_m10 36 rfl) rfl
theorem q2281 : (Jvm.Cond.methodLink "BlackoutStartLaw" (211 : Nat) ({ cls := "BlackoutStartModel", name := "undo", desc := "()I" } : Jvm.MethodName)) ∈ lw_all := lw_g (lw_at lw_m10 40 rfl) rfl
theorem q2285 : (Jvm.Cond.methodLink "BlackoutStartLaw" (215 : Nat) ({ cls := "BlackoutStartModel", name := "save", desc := "(I)V" } : Jvm.MethodName)) ∈ lw_all := lw_g (lw_at lw_m10 44 rfl) rfl
theorem q2292 : (Jvm.Cond.methodLink "BlackoutStartLaw" (218 : Nat) ({ cls := "BlackoutStartModel", name := "restore", desc := "(I)V" } : Jvm.MethodName)) ∈ lw_all := lw_g (lw_at lw_m10 51 rfl) rfl
/-! BlackoutStart -/
set_option maxRecDepth 100000
def RX1 : String := "BlackoutStart"
def TX1 : u_T := fun k => match k with
  | 0 => ("BlackoutStart", "buffer", "[B", true)
  | 1 => ("BlackoutStart", "buffered", "I", false)
  | 2 => ("BlackoutStart", "errorCode", "I", false)
  | 3 => ("BlackoutStart", "errorPosition", "I", false)
  | 4 => ("BlackoutStart", "state", "LBlackoutStart$State;", false)
  | 5 => ("BlackoutStart", "history", "Ljava/util/ArrayDeque;", true)
  | _ => ("BlackoutStart", "slots", "[LBlackoutStart$State;", true)
def tyX1 : Nat → FieldType := fun k => match k with
  | 0 => .array .byte
  | 1 => .int
  | 2 => .int
  | 3 => .int
  | 4 => .object "BlackoutStart$State"
  | 5 => .object "java/util/ArrayDeque"
  | _ => .array (.object "BlackoutStart$State")
abbrev wsX10 : List Cond := u_ws RX1 TX1 7
theorem nmX1 : ∀ a, a < 7 → ∀ b, b < 7 → a ≠ b → (TX1 a).2.1 ≠ (TX1 b).2.1 := by decide +kernel
theorem tyX1_ok : ∀ k, k < 7 → parseFieldDescriptor (TX1 k).2.2.1 = some (tyX1 k) := by decide +kernel
abbrev cX1_init : ByteArray := prog_1_method_7_code
def yX1_init : MethodName := ⟨RX1, "<init>", "()V"⟩
abbrev cX1_has : ByteArray := prog_1_method_2_code
def yX1_has : MethodName := ⟨RX1, "has", "(II)Z"⟩
abbrev cX1_errorCode : ByteArray := prog_1_method_12_code
def yX1_errorCode : MethodName := ⟨RX1, "errorCode", "()I"⟩
abbrev cX1_errorPosition : ByteArray := prog_1_method_13_code
def yX1_errorPosition : MethodName := ⟨RX1, "errorPosition", "()I"⟩
abbrev cX1_rights : ByteArray := prog_1_method_21_code
def yX1_rights : MethodName := ⟨RX1, "rights", "()I"⟩
abbrev cX1_strain : ByteArray := prog_1_method_23_code
def yX1_strain : MethodName := ⟨RX1, "strain", "()D"⟩
abbrev cX1_grants : ByteArray := prog_1_method_27_code
def yX1_grants : MethodName := ⟨RX1, "grants", "()I"⟩
abbrev cX1_forget : ByteArray := prog_1_method_40_code
def yX1_forget : MethodName := ⟨RX1, "forget", "()I"⟩
abbrev cX1_change : ByteArray := prog_1_method_34_code
def yX1_change : MethodName := ⟨RX1, "change", "()LBlackoutStart$State;"⟩
abbrev cX1_append : ByteArray := prog_1_method_9_code
def yX1_append : MethodName := ⟨RX1, "append", "(IIIII)I"⟩
abbrev cX1_checkState : ByteArray := prog_1_method_4_code
def yX1_checkState : MethodName := ⟨RX1, "checkState", "(Z)V"⟩
abbrev cX1_put : ByteArray := prog_1_method_8_code
def yX1_put : MethodName := ⟨RX1, "put", "(I)V"⟩
abbrev cX1_truncate : ByteArray := prog_1_method_10_code
def yX1_truncate : MethodName := ⟨RX1, "truncate", "(I)I"⟩
abbrev cX1_in : ByteArray := prog_1_method_1_code
def yX1_in : MethodName := ⟨RX1, "in", "(JJJ)Z"⟩
abbrev cX1_checkIndex : ByteArray := prog_1_method_5_code
def yX1_checkIndex : MethodName := ⟨RX1, "checkIndex", "(Z)V"⟩
abbrev cX1_load : ByteArray := prog_1_method_11_code
def yX1_load : MethodName := ⟨RX1, "load", "()I"⟩
abbrev cX1_checkArgument : ByteArray := prog_1_method_3_code
def yX1_checkArgument : MethodName := ⟨RX1, "checkArgument", "(Z)V"⟩
abbrev cX1_find : ByteArray := prog_1_method_14_code
def yX1_find : MethodName := ⟨RX1, "find", "()I"⟩
abbrev cX1_checkElement : ByteArray := prog_1_method_6_code
def yX1_checkElement : MethodName := ⟨RX1, "checkElement", "(Z)V"⟩
abbrev cX1_count : ByteArray := prog_1_method_15_code
def yX1_count : MethodName := ⟨RX1, "count", "(I)I"⟩
abbrev cX1_outlet : ByteArray := prog_1_method_17_code
def yX1_outlet : MethodName := ⟨RX1, "outlet", "(II)I"⟩
abbrev cX1_outletAt : ByteArray := prog_1_method_16_code
def yX1_outletAt : MethodName := ⟨RX1, "outletAt", "(I)LBlackoutStart$Outlet;"⟩
abbrev cX1_known : ByteArray := prog_1_method_18_code
def yX1_known : MethodName := ⟨RX1, "known", "(II)I"⟩
abbrev cX1_needs : ByteArray := prog_1_method_19_code
def yX1_needs : MethodName := ⟨RX1, "needs", "(IZ)I"⟩
abbrev cX1_outletsWith : ByteArray := prog_1_method_20_code
def yX1_outletsWith : MethodName := ⟨RX1, "outletsWith", "(IZ)I"⟩
abbrev cX1_load_2 : ByteArray := prog_1_method_22_code
def yX1_load_2 : MethodName := ⟨RX1, "load", "(I)I"⟩
abbrev cX1_message : ByteArray := prog_1_method_24_code
def yX1_message : MethodName := ⟨RX1, "message", "(II)I"⟩
abbrev cX1_traffic : ByteArray := prog_1_method_25_code
def yX1_traffic : MethodName := ⟨RX1, "traffic", "(IZ)I"⟩
abbrev cX1_learned : ByteArray := prog_1_method_26_code
def yX1_learned : MethodName := ⟨RX1, "learned", "(I)I"⟩
abbrev cX1_why : ByteArray := prog_1_method_28_code
def yX1_why : MethodName := ⟨RX1, "why", "(I)I"⟩
abbrev cX1_runsIn : ByteArray := prog_1_method_30_code
def yX1_runsIn : MethodName := ⟨RX1, "runsIn", "(I)I"⟩
abbrev cX1_ticksTo : ByteArray := prog_1_method_29_code
def yX1_ticksTo : MethodName := ⟨RX1, "ticksTo", "(LBlackoutStart$State;I)I"⟩
abbrev cX1_allIn : ByteArray := prog_1_method_31_code
def yX1_allIn : MethodName := ⟨RX1, "allIn", "(I)I"⟩
abbrev cX1_peakIn : ByteArray := prog_1_method_32_code
def yX1_peakIn : MethodName := ⟨RX1, "peakIn", "(II)I"⟩
abbrev cX1_sentIn : ByteArray := prog_1_method_33_code
def yX1_sentIn : MethodName := ⟨RX1, "sentIn", "(II)I"⟩
abbrev cX1_run : ByteArray := prog_1_method_35_code
def yX1_run : MethodName := ⟨RX1, "run", "(I)I"⟩
abbrev cX1_blackout : ByteArray := prog_1_method_36_code
def yX1_blackout : MethodName := ⟨RX1, "blackout", "(I)I"⟩
abbrev cX1_want : ByteArray := prog_1_method_37_code
def yX1_want : MethodName := ⟨RX1, "want", "(IZ)Z"⟩
abbrev cX1_setFuse : ByteArray := prog_1_method_38_code
def yX1_setFuse : MethodName := ⟨RX1, "setFuse", "(I)I"⟩
abbrev cX1_setPriority : ByteArray := prog_1_method_39_code
def yX1_setPriority : MethodName := ⟨RX1, "setPriority", "(II)I"⟩
abbrev cX1_undo : ByteArray := prog_1_method_41_code
def yX1_undo : MethodName := ⟨RX1, "undo", "()I"⟩
abbrev cX1_save : ByteArray := prog_1_method_43_code
def yX1_save : MethodName := ⟨RX1, "save", "(I)V"⟩
abbrev cX1_checkSlot : ByteArray := prog_1_method_42_code
def yX1_checkSlot : MethodName := ⟨RX1, "checkSlot", "(I)V"⟩
abbrev cX1_restore : ByteArray := prog_1_method_44_code
def yX1_restore : MethodName := ⟨RX1, "restore", "(I)V"⟩
theorem q82 : (Jvm.Cond.initialized "BlackoutStart") ∈ lw_all := lw_g (lw_at lw_m1 1 rfl) rfl
theorem q123 : (Jvm.Cond.instantiable "BlackoutStart" (7 : Nat)) ∈ lw_all := lw_g (lw_at lw_m1 42 rfl) rfl
theorem q125 : (Jvm.Cond.instanceMethod ({ cls := "BlackoutStart", name := "<init>", desc := "()V" } : Jvm.MethodName)) ∈ lw_all := lw_g (lw_at lw_m1 44 rfl) rfl
theorem q126 : (Jvm.Cond.code ({ cls := "BlackoutStart", name := "<init>", desc := "()V" } : Jvm.MethodName) prog_1_method_7_code (1 : Nat) (Option.none : Option Jvm.ClassFile.FieldType)) ∈ lw_all := lw_g (lw_at lw_m1 45 rfl) rfl
theorem q127 : (Jvm.Cond.methodLink "BlackoutStart" (18 : Nat) ({ cls := "java/lang/Object", name := "<init>", desc := "()V" } : Jvm.MethodName)) ∈ lw_all := lw_g (lw_at lw_m1 46 rfl) rfl
theorem q130 : (Jvm.Cond.classLink "BlackoutStart" (29 : Nat) "BlackoutStart$State") ∈ lw_all := lw_g (lw_at lw_m1 49 rfl) rfl
theorem q132 : (Jvm.Cond.classLink "BlackoutStart" (31 : Nat) "BlackoutStart$Setup") ∈ lw_all := lw_g (lw_at lw_m1 51 rfl) rfl
theorem q134 : (Jvm.Cond.methodLinkNest "BlackoutStart" (33 : Nat) ({ cls := "BlackoutStart$Setup", name := "<init>", desc := "()V" } : Jvm.MethodName) "BlackoutStart") ∈ lw_tbl := lw_at lw_m1 53 rfl
theorem q497 : (Jvm.Cond.fieldLinkNest "BlackoutStart" (250 : Nat) "BlackoutStart$Setup" "needs" "[I" "BlackoutStart") ∈ lw_tbl := lw_at lw_m2 176 rfl
theorem q502 : (Jvm.Cond.fieldLinkNest "BlackoutStart" (133 : Nat) "BlackoutStart$Setup" "needMany" "I" "BlackoutStart") ∈ lw_tbl := lw_at lw_m2 181 rfl
theorem q506 : (Jvm.Cond.fieldLinkNest "BlackoutStart" (175 : Nat) "BlackoutStart$Setup" "patience" "I" "BlackoutStart") ∈ lw_tbl := lw_at lw_m2 185 rfl
theorem q539 : (Jvm.Cond.methodLink "BlackoutStart" (34 : Nat) ({ cls := "BlackoutStart$State", name := "<init>", desc := "(LBlackoutStart$Setup;)V" } : Jvm.MethodName)) ∈ lw_all := lw_g (lw_at lw_m2 218 rfl) rfl
theorem q550 : (Jvm.Cond.fieldLinkNest "BlackoutStart" (278 : Nat) "BlackoutStart$Order" "row" "[I" "BlackoutStart") ∈ lw_tbl := lw_at lw_m2 229 rfl
theorem q554 : (Jvm.Cond.fieldLinkNest "BlackoutStart" (277 : Nat) "BlackoutStart$Order" "many" "I" "BlackoutStart") ∈ lw_tbl := lw_at lw_m2 233 rfl
theorem q568 : (Jvm.Cond.fieldLinkNest "BlackoutStart" (272 : Nat) "BlackoutStart$Wire" "messages" "[I" "BlackoutStart") ∈ lw_tbl := lw_at lw_m3 7 rfl
theorem q570 : (Jvm.Cond.fieldLinkNest "BlackoutStart" (158 : Nat) "BlackoutStart$Wire" "sent" "[I" "BlackoutStart") ∈ lw_tbl := lw_at lw_m3 9 rfl
theorem q572 : (Jvm.Cond.fieldLinkNest "BlackoutStart" (166 : Nat) "BlackoutStart$Wire" "lost" "[I" "BlackoutStart") ∈ lw_tbl := lw_at lw_m3 11 rfl
theorem q575 : (Jvm.Cond.fieldLinkNest "BlackoutStart" (153 : Nat) "BlackoutStart$Wire" "many" "I" "BlackoutStart") ∈ lw_tbl := lw_at lw_m3 14 rfl
theorem q577 : (Jvm.Cond.fieldLinkNest "BlackoutStart" (298 : Nat) "BlackoutStart$Wire" "script" "[I" "BlackoutStart") ∈ lw_tbl := lw_at lw_m3 16 rfl
theorem q590 : (Jvm.Cond.fieldLinkNest "BlackoutStart" (107 : Nat) "BlackoutStart$State" "setup" "LBlackoutStart$Setup;" "BlackoutStart") ∈ lw_tbl := lw_at lw_m3 29 rfl
theorem q592 : (Jvm.Cond.fieldLinkNest "BlackoutStart" (214 : Nat) "BlackoutStart$State" "state" "[I" "BlackoutStart") ∈ lw_tbl := lw_at lw_m3 31 rfl
theorem q594 : (Jvm.Cond.fieldLinkNest "BlackoutStart" (216 : Nat) "BlackoutStart$State" "left" "[I" "BlackoutStart") ∈ lw_tbl := lw_at lw_m3 33 rfl
theorem q596 : (Jvm.Cond.fieldLinkNest "BlackoutStart" (219 : Nat) "BlackoutStart$State" "starts" "[I" "BlackoutStart") ∈ lw_tbl := lw_at lw_m3 35 rfl
theorem q598 : (Jvm.Cond.fieldLinkNest "BlackoutStart" (222 : Nat) "BlackoutStart$State" "ranAt" "[I" "BlackoutStart") ∈ lw_tbl := lw_at lw_m3 37 rfl
theorem q601 : (Jvm.Cond.fieldLinkNest "BlackoutStart" (225 : Nat) "BlackoutStart$State" "mark" "[I" "BlackoutStart") ∈ lw_tbl := lw_at lw_m3 40 rfl
theorem q603 : (Jvm.Cond.fieldLinkNest "BlackoutStart" (228 : Nat) "BlackoutStart$State" "time" "[I" "BlackoutStart") ∈ lw_tbl := lw_at lw_m3 42 rfl
theorem q605 : (Jvm.Cond.fieldLinkNest "BlackoutStart" (204 : Nat) "BlackoutStart$State" "priority" "[I" "BlackoutStart") ∈ lw_tbl := lw_at lw_m3 44 rfl
theorem q607 : (Jvm.Cond.fieldLinkNest "BlackoutStart" (149 : Nat) "BlackoutStart$State" "wire" "LBlackoutStart$Wire;" "BlackoutStart") ∈ lw_tbl := lw_at lw_m3 46 rfl
theorem q609 : (Jvm.Cond.fieldLinkNest "BlackoutStart" (238 : Nat) "BlackoutStart$State" "learned" "LBlackoutStart$Order;" "BlackoutStart") ∈ lw_tbl := lw_at lw_m3 48 rfl
theorem q613 : (Jvm.Cond.fieldLinkNest "BlackoutStart" (207 : Nat) "BlackoutStart$State" "wants" "I" "BlackoutStart") ∈ lw_tbl := lw_at lw_m3 52 rfl
theorem q617 : (Jvm.Cond.fieldLinkNest "BlackoutStart" (247 : Nat) "BlackoutStart$State" "peaks" "I" "BlackoutStart") ∈ lw_tbl := lw_at lw_m3 56 rfl
theorem q619 : (Jvm.Cond.fieldLinkNest "BlackoutStart" (169 : Nat) "BlackoutStart$State" "fuse" "I" "BlackoutStart") ∈ lw_tbl := lw_at lw_m3 58 rfl
theorem q621 : (Jvm.Cond.fieldLinkNest "BlackoutStart" (172 : Nat) "BlackoutStart$State" "retry" "I" "BlackoutStart") ∈ lw_tbl := lw_at lw_m3 60 rfl
theorem q623 : (Jvm.Cond.fieldLinkNest "BlackoutStart" (136 : Nat) "BlackoutStart$State" "tick" "I" "BlackoutStart") ∈ lw_tbl := lw_at lw_m3 62 rfl
theorem q625 : (Jvm.Cond.fieldLinkNest "BlackoutStart" (342 : Nat) "BlackoutStart$State" "darkUntil" "I" "BlackoutStart") ∈ lw_tbl := lw_at lw_m3 64 rfl
theorem q627 : (Jvm.Cond.fieldLinkNest "BlackoutStart" (143 : Nat) "BlackoutStart$State" "blackouts" "I" "BlackoutStart") ∈ lw_tbl := lw_at lw_m3 66 rfl
theorem q629 : (Jvm.Cond.fieldLinkNest "BlackoutStart" (146 : Nat) "BlackoutStart$State" "trips" "I" "BlackoutStart") ∈ lw_tbl := lw_at lw_m3 68 rfl
theorem q631 : (Jvm.Cond.fieldLinkNest "BlackoutStart" (267 : Nat) "BlackoutStart$State" "greatest" "I" "BlackoutStart") ∈ lw_tbl := lw_at lw_m3 70 rfl
theorem q633 : (Jvm.Cond.fieldLinkNest "BlackoutStart" (308 : Nat) "BlackoutStart$State" "meter" "I" "BlackoutStart") ∈ lw_tbl := lw_at lw_m3 72 rfl
theorem q635 : (Jvm.Cond.fieldLinkNest "BlackoutStart" (178 : Nat) "BlackoutStart$State" "isStrict" "Z" "BlackoutStart") ∈ lw_tbl := lw_at lw_m3 74 rfl
theorem q689 : (Jvm.Cond.methodLink "BlackoutStart" (37 : Nat) ({ cls := "BlackoutStart$State", name := "begin", desc := "()LBlackoutStart$State;" } : Jvm.MethodName)) ∈ lw_all := lw_g (lw_at lw_m3 128 rfl) rfl
theorem q708 : (Jvm.Cond.static ({ cls := "BlackoutStart", name := "has", desc := "(II)Z" } : Jvm.MethodName)) ∈ lw_all := lw_g (lw_at lw_m3 147 rfl) rfl
theorem q709 : (Jvm.Cond.code ({ cls := "BlackoutStart", name := "has", desc := "(II)Z" } : Jvm.MethodName) prog_1_method_2_code (2 : Nat) (Option.some Jvm.ClassFile.FieldType.boolean)) ∈ lw_all := lw_g (lw_at lw_m3 148 rfl) rfl
theorem q730 : (Jvm.Cond.classLink "BlackoutStart" (45 : Nat) "java/util/ArrayDeque") ∈ lw_all := lw_g (lw_at lw_m3 169 rfl) rfl
theorem q732 : (Jvm.Cond.methodLink "BlackoutStart" (47 : Nat) ({ cls := "java/util/ArrayDeque", name := "<init>", desc := "()V" } : Jvm.MethodName)) ∈ lw_all := lw_g (lw_at lw_m3 171 rfl) rfl
theorem q749 : (Jvm.Cond.fieldLink "BlackoutStart" (21 : Nat) "BlackoutStart" "buffer" "[B") ∈ lw_all := lw_g (lw_at lw_m3 188 rfl) rfl
theorem q751 : (Jvm.Cond.fieldLink "BlackoutStart" (56 : Nat) "BlackoutStart" "buffered" "I") ∈ lw_all := lw_g (lw_at lw_m3 190 rfl) rfl
theorem q752 : (Jvm.Cond.fieldLink "BlackoutStart" (74 : Nat) "BlackoutStart" "errorCode" "I") ∈ lw_all := lw_g (lw_at lw_m3 191 rfl) rfl
theorem q753 : (Jvm.Cond.fieldLink "BlackoutStart" (25 : Nat) "BlackoutStart" "errorPosition" "I") ∈ lw_all := lw_g (lw_at lw_m3 192 rfl) rfl
theorem q754 : (Jvm.Cond.fieldLink "BlackoutStart" (41 : Nat) "BlackoutStart" "state" "LBlackoutStart$State;") ∈ lw_all := lw_g (lw_at lw_m3 193 rfl) rfl
theorem q755 : (Jvm.Cond.fieldLink "BlackoutStart" (48 : Nat) "BlackoutStart" "history" "Ljava/util/ArrayDeque;") ∈ lw_all := lw_g (lw_at lw_m3 194 rfl) rfl
theorem q756 : (Jvm.Cond.fieldLink "BlackoutStart" (52 : Nat) "BlackoutStart" "slots" "[LBlackoutStart$State;") ∈ lw_all := lw_g (lw_at lw_m3 195 rfl) rfl
theorem q757 : (Jvm.Cond.laysFinal "BlackoutStart" "BlackoutStart" "buffer" "[B") ∈ lw_all := lw_g (lw_at lw_m3 196 rfl) rfl
theorem q758 : (Jvm.Cond.soleField "BlackoutStart" "buffer") ∈ lw_all := lw_g (lw_at lw_m3 197 rfl) rfl
theorem q759 : (Jvm.Cond.lays "BlackoutStart" "BlackoutStart" "buffered" "I") ∈ lw_all := lw_g (lw_at lw_m3 198 rfl) rfl
theorem q760 : (Jvm.Cond.soleField "BlackoutStart" "buffered") ∈ lw_all := lw_g (lw_at lw_m3 199 rfl) rfl
theorem q761 : (Jvm.Cond.lays "BlackoutStart" "BlackoutStart" "errorCode" "I") ∈ lw_all := lw_g (lw_at lw_m3 200 rfl) rfl
theorem q762 : (Jvm.Cond.soleField "BlackoutStart" "errorCode") ∈ lw_all := lw_g (lw_at lw_m3 201 rfl) rfl
theorem q763 : (Jvm.Cond.lays "BlackoutStart" "BlackoutStart" "errorPosition" "I") ∈ lw_all := lw_g (lw_at lw_m3 202 rfl) rfl
theorem q764 : (Jvm.Cond.soleField "BlackoutStart" "errorPosition") ∈ lw_all := lw_g (lw_at lw_m3 203 rfl) rfl
theorem q765 : (Jvm.Cond.lays "BlackoutStart" "BlackoutStart" "state" "LBlackoutStart$State;") ∈ lw_all := lw_g (lw_at lw_m3 204 rfl) rfl
theorem q766 : (Jvm.Cond.soleField "BlackoutStart" "state") ∈ lw_all := lw_g (lw_at lw_m3 205 rfl) rfl
theorem q767 : (Jvm.Cond.laysFinal "BlackoutStart" "BlackoutStart" "history" "Ljava/util/ArrayDeque;") ∈ lw_all := lw_g (lw_at lw_m3 206 rfl) rfl
theorem q768 : (Jvm.Cond.soleField "BlackoutStart" "history") ∈ lw_all := lw_g (lw_at lw_m3 207 rfl) rfl
theorem q769 : (Jvm.Cond.laysFinal "BlackoutStart" "BlackoutStart" "slots" "[LBlackoutStart$State;") ∈ lw_all := lw_g (lw_at lw_m3 208 rfl) rfl
theorem q770 : (Jvm.Cond.soleField "BlackoutStart" "slots") ∈ lw_all := lw_g (lw_at lw_m3 209 rfl) rfl
theorem q771 : (Jvm.Cond.superclass "BlackoutStart" "java/lang/Object") ∈ lw_all := lw_g (lw_at lw_m3 210 rfl) rfl
theorem q773 : (Jvm.Cond.instanceMethod ({ cls := "BlackoutStart", name := "errorCode", desc := "()I" } : Jvm.MethodName)) ∈ lw_all := lw_g (lw_at lw_m3 212 rfl) rfl
theorem q774 : (Jvm.Cond.selects "BlackoutStart" ({ cls := "BlackoutStart", name := "errorCode", desc := "()I" } : Jvm.MethodName) ({ cls := "BlackoutStart", name := "errorCode", desc := "()I" } : Jvm.MethodName)) ∈ lw_all := lw_g (lw_at lw_m3 213 rfl) rfl
theorem q775 : (Jvm.Cond.code ({ cls := "BlackoutStart", name := "errorCode", desc := "()I" } : Jvm.MethodName) prog_1_method_12_code (1 : Nat) (Option.some Jvm.ClassFile.FieldType.int)) ∈ lw_all := lw_g (lw_at lw_m3 214 rfl) rfl
theorem q777 : (Jvm.Cond.instanceMethod ({ cls := "BlackoutStart", name := "errorPosition", desc := "()I" } : Jvm.MethodName)) ∈ lw_all := lw_g (lw_at lw_m3 216 rfl) rfl
theorem q778 : (Jvm.Cond.selects "BlackoutStart" ({ cls := "BlackoutStart", name := "errorPosition", desc := "()I" } : Jvm.MethodName) ({ cls := "BlackoutStart", name := "errorPosition", desc := "()I" } : Jvm.MethodName)) ∈ lw_all := lw_g (lw_at lw_m3 217 rfl) rfl
theorem q779 : (Jvm.Cond.code ({ cls := "BlackoutStart", name := "errorPosition", desc := "()I" } : Jvm.MethodName) prog_1_method_13_code (1 : Nat) (Option.some Jvm.ClassFile.FieldType.int)) ∈ lw_all := lw_g (lw_at lw_m3 218 rfl) rfl
theorem q781 : (Jvm.Cond.instanceMethod ({ cls := "BlackoutStart", name := "rights", desc := "()I" } : Jvm.MethodName)) ∈ lw_all := lw_g (lw_at lw_m3 220 rfl) rfl
theorem q782 : (Jvm.Cond.selects "BlackoutStart" ({ cls := "BlackoutStart", name := "rights", desc := "()I" } : Jvm.MethodName) ({ cls := "BlackoutStart", name := "rights", desc := "()I" } : Jvm.MethodName)) ∈ lw_all := lw_g (lw_at lw_m3 221 rfl) rfl
theorem q783 : (Jvm.Cond.code ({ cls := "BlackoutStart", name := "rights", desc := "()I" } : Jvm.MethodName) prog_1_method_21_code (1 : Nat) (Option.some Jvm.ClassFile.FieldType.int)) ∈ lw_all := lw_g (lw_at lw_m3 222 rfl) rfl
theorem q784 : (Jvm.Cond.methodLink "BlackoutStart" (261 : Nat) ({ cls := "BlackoutStart$State", name := "rights", desc := "()I" } : Jvm.MethodName)) ∈ lw_all := lw_g (lw_at lw_m3 223 rfl) rfl
theorem q793 : (Jvm.Cond.instanceMethod ({ cls := "BlackoutStart", name := "strain", desc := "()D" } : Jvm.MethodName)) ∈ lw_all := lw_g (lw_at lw_m3 232 rfl) rfl
theorem q794 : (Jvm.Cond.selects "BlackoutStart" ({ cls := "BlackoutStart", name := "strain", desc := "()D" } : Jvm.MethodName) ({ cls := "BlackoutStart", name := "strain", desc := "()D" } : Jvm.MethodName)) ∈ lw_all := lw_g (lw_at lw_m3 233 rfl) rfl
theorem q795 : (Jvm.Cond.code ({ cls := "BlackoutStart", name := "strain", desc := "()D" } : Jvm.MethodName) prog_1_method_23_code (1 : Nat) (Option.some Jvm.ClassFile.FieldType.double)) ∈ lw_all := lw_g (lw_at lw_m3 234 rfl) rfl
theorem q797 : (Jvm.Cond.instanceMethod ({ cls := "BlackoutStart", name := "grants", desc := "()I" } : Jvm.MethodName)) ∈ lw_all := lw_g (lw_at lw_m3 236 rfl) rfl
theorem q798 : (Jvm.Cond.selects "BlackoutStart" ({ cls := "BlackoutStart", name := "grants", desc := "()I" } : Jvm.MethodName) ({ cls := "BlackoutStart", name := "grants", desc := "()I" } : Jvm.MethodName)) ∈ lw_all := lw_g (lw_at lw_m3 237 rfl) rfl
theorem q799 : (Jvm.Cond.code ({ cls := "BlackoutStart", name := "grants", desc := "()I" } : Jvm.MethodName) prog_1_method_27_code (4 : Nat) (Option.some Jvm.ClassFile.FieldType.int)) ∈ lw_all := lw_g (lw_at lw_m3 238 rfl) rfl
theorem q800 : (Jvm.Cond.methodLink "BlackoutStart" (281 : Nat) ({ cls := "BlackoutStart$State", name := "granted", desc := "()LBlackoutStart$Order;" } : Jvm.MethodName)) ∈ lw_all := lw_g (lw_at lw_m3 239 rfl) rfl
theorem q838 : (Jvm.Cond.instanceMethod ({ cls := "BlackoutStart", name := "forget", desc := "()I" } : Jvm.MethodName)) ∈ lw_all := lw_g (lw_at lw_m4 37 rfl) rfl
theorem q839 : (Jvm.Cond.selects "BlackoutStart" ({ cls := "BlackoutStart", name := "forget", desc := "()I" } : Jvm.MethodName) ({ cls := "BlackoutStart", name := "forget", desc := "()I" } : Jvm.MethodName)) ∈ lw_all := lw_g (lw_at lw_m4 38 rfl) rfl
theorem q840 : (Jvm.Cond.code ({ cls := "BlackoutStart", name := "forget", desc := "()I" } : Jvm.MethodName) prog_1_method_40_code (1 : Nat) (Option.some Jvm.ClassFile.FieldType.int)) ∈ lw_all := lw_g (lw_at lw_m4 39 rfl) rfl
theorem q841 : (Jvm.Cond.methodLink "BlackoutStart" (329 : Nat) ({ cls := "BlackoutStart", name := "change", desc := "()LBlackoutStart$State;" } : Jvm.MethodName)) ∈ lw_all := lw_g (lw_at lw_m4 40 rfl) rfl
theorem q842 : (Jvm.Cond.privateMethod ({ cls := "BlackoutStart", name := "change", desc := "()LBlackoutStart$State;" } : Jvm.MethodName)) ∈ lw_tbl := lw_at lw_m4 41 rfl
theorem q843 : (Jvm.Cond.instanceMethod ({ cls := "BlackoutStart", name := "change", desc := "()LBlackoutStart$State;" } : Jvm.MethodName)) ∈ lw_all := lw_g (lw_at lw_m4 42 rfl) rfl
theorem q844 : (Jvm.Cond.code ({ cls := "BlackoutStart", name := "change", desc := "()LBlackoutStart$State;" } : Jvm.MethodName) prog_1_method_34_code (2 : Nat) (Option.some (Jvm.ClassFile.FieldType.object "BlackoutStart$State"))) ∈ lw_all := lw_g (lw_at lw_m4 43 rfl) rfl
theorem q845 : (Jvm.Cond.methodLink "BlackoutStart" (182 : Nat) ({ cls := "java/util/ArrayDeque", name := "size", desc := "()I" } : Jvm.MethodName)) ∈ lw_all := lw_g (lw_at lw_m4 44 rfl) rfl
theorem q852 : (Jvm.Cond.methodLink "BlackoutStart" (319 : Nat) ({ cls := "java/util/ArrayDeque", name := "removeFirst", desc := "()Ljava/lang/Object;" } : Jvm.MethodName)) ∈ lw_all := lw_g (lw_at lw_m4 51 rfl) rfl
theorem q887 : (Jvm.Cond.methodLink "BlackoutStart" (323 : Nat) ({ cls := "java/util/ArrayDeque", name := "addLast", desc := "(Ljava/lang/Object;)V" } : Jvm.MethodName)) ∈ lw_all := lw_g (lw_at lw_m4 86 rfl) rfl
theorem q923 : (Jvm.Cond.selects "BlackoutStart" ({ cls := "java/lang/Object", name := "getClass", desc := "()Ljava/lang/Class;" } : Jvm.MethodName) ({ cls := "java/lang/Object", name := "getClass", desc := "()Ljava/lang/Class;" } : Jvm.MethodName)) ∈ lw_all := lw_g (lw_at lw_m4 122 rfl) rfl
theorem q953 : (Jvm.Cond.methodLink "BlackoutStart" (291 : Nat) ({ cls := "BlackoutStart$State", name := "copy", desc := "()LBlackoutStart$State;" } : Jvm.MethodName)) ∈ lw_all := lw_g (lw_at lw_m4 152 rfl) rfl
theorem q973 : (Jvm.Cond.methodLink "BlackoutStart" (301 : Nat) ({ cls := "BlackoutStart$State", name := "forget", desc := "()I" } : Jvm.MethodName)) ∈ lw_all := lw_g (lw_at lw_m4 172 rfl) rfl
theorem q988 : (Jvm.Cond.instanceMethod ({ cls := "BlackoutStart", name := "append", desc := "(IIIII)I" } : Jvm.MethodName)) ∈ lw_all := lw_g (lw_at lw_m4 187 rfl) rfl
theorem q989 : (Jvm.Cond.selects "BlackoutStart" ({ cls := "BlackoutStart", name := "append", desc := "(IIIII)I" } : Jvm.MethodName) ({ cls := "BlackoutStart", name := "append", desc := "(IIIII)I" } : Jvm.MethodName)) ∈ lw_all := lw_g (lw_at lw_m4 188 rfl) rfl
theorem q990 : (Jvm.Cond.code ({ cls := "BlackoutStart", name := "append", desc := "(IIIII)I" } : Jvm.MethodName) prog_1_method_9_code (6 : Nat) (Option.some Jvm.ClassFile.FieldType.int)) ∈ lw_all := lw_g (lw_at lw_m4 189 rfl) rfl
theorem q991 : (Jvm.Cond.methodLink "BlackoutStart" (59 : Nat) ({ cls := "BlackoutStart", name := "checkState", desc := "(Z)V" } : Jvm.MethodName)) ∈ lw_all := lw_g (lw_at lw_m4 190 rfl) rfl
theorem q992 : (Jvm.Cond.static ({ cls := "BlackoutStart", name := "checkState", desc := "(Z)V" } : Jvm.MethodName)) ∈ lw_all := lw_g (lw_at lw_m4 191 rfl) rfl
theorem q993 : (Jvm.Cond.code ({ cls := "BlackoutStart", name := "checkState", desc := "(Z)V" } : Jvm.MethodName) prog_1_method_4_code (1 : Nat) (Option.none : Option Jvm.ClassFile.FieldType)) ∈ lw_all := lw_g (lw_at lw_m4 192 rfl) rfl
theorem q994 : (Jvm.Cond.classLink "BlackoutStart" (9 : Nat) "java/lang/IllegalStateException") ∈ lw_all := lw_g (lw_at lw_m4 193 rfl) rfl
theorem q995 : (Jvm.Cond.methodLink "BlackoutStart" (11 : Nat) ({ cls := "java/lang/IllegalStateException", name := "<init>", desc := "()V" } : Jvm.MethodName)) ∈ lw_all := lw_g (lw_at lw_m4 194 rfl) rfl
theorem q999 : (Jvm.Cond.methodLink "BlackoutStart" (63 : Nat) ({ cls := "BlackoutStart", name := "put", desc := "(I)V" } : Jvm.MethodName)) ∈ lw_all := lw_g (lw_at lw_m4 198 rfl) rfl
theorem q1000 : (Jvm.Cond.privateMethod ({ cls := "BlackoutStart", name := "put", desc := "(I)V" } : Jvm.MethodName)) ∈ lw_tbl := lw_at lw_m4 199 rfl
theorem q1001 : (Jvm.Cond.instanceMethod ({ cls := "BlackoutStart", name := "put", desc := "(I)V" } : Jvm.MethodName)) ∈ lw_all := lw_g (lw_at lw_m4 200 rfl) rfl
theorem q1002 : (Jvm.Cond.code ({ cls := "BlackoutStart", name := "put", desc := "(I)V" } : Jvm.MethodName) prog_1_method_8_code (3 : Nat) (Option.none : Option Jvm.ClassFile.FieldType)) ∈ lw_all := lw_g (lw_at lw_m4 201 rfl) rfl
theorem q1026 : (Jvm.Cond.instanceMethod ({ cls := "BlackoutStart", name := "truncate", desc := "(I)I" } : Jvm.MethodName)) ∈ lw_all := lw_g (lw_at lw_m4 225 rfl) rfl
theorem q1027 : (Jvm.Cond.selects "BlackoutStart" ({ cls := "BlackoutStart", name := "truncate", desc := "(I)I" } : Jvm.MethodName) ({ cls := "BlackoutStart", name := "truncate", desc := "(I)I" } : Jvm.MethodName)) ∈ lw_all := lw_g (lw_at lw_m4 226 rfl) rfl
theorem q1028 : (Jvm.Cond.code ({ cls := "BlackoutStart", name := "truncate", desc := "(I)I" } : Jvm.MethodName) prog_1_method_10_code (2 : Nat) (Option.some Jvm.ClassFile.FieldType.int)) ∈ lw_all := lw_g (lw_at lw_m4 227 rfl) rfl
theorem q1029 : (Jvm.Cond.methodLink "BlackoutStart" (67 : Nat) ({ cls := "BlackoutStart", name := "in", desc := "(JJJ)Z" } : Jvm.MethodName)) ∈ lw_all := lw_g (lw_at lw_m4 228 rfl) rfl
theorem q1030 : (Jvm.Cond.static ({ cls := "BlackoutStart", name := "in", desc := "(JJJ)Z" } : Jvm.MethodName)) ∈ lw_all := lw_g (lw_at lw_m4 229 rfl) rfl
theorem q1031 : (Jvm.Cond.code ({ cls := "BlackoutStart", name := "in", desc := "(JJJ)Z" } : Jvm.MethodName) prog_1_method_1_code (6 : Nat) (Option.some Jvm.ClassFile.FieldType.boolean)) ∈ lw_all := lw_g (lw_at lw_m4 230 rfl) rfl
theorem q1032 : (Jvm.Cond.methodLink "BlackoutStart" (71 : Nat) ({ cls := "BlackoutStart", name := "checkIndex", desc := "(Z)V" } : Jvm.MethodName)) ∈ lw_all := lw_g (lw_at lw_m4 231 rfl) rfl
theorem q1033 : (Jvm.Cond.static ({ cls := "BlackoutStart", name := "checkIndex", desc := "(Z)V" } : Jvm.MethodName)) ∈ lw_all := lw_g (lw_at lw_m4 232 rfl) rfl
theorem q1034 : (Jvm.Cond.code ({ cls := "BlackoutStart", name := "checkIndex", desc := "(Z)V" } : Jvm.MethodName) prog_1_method_5_code (1 : Nat) (Option.none : Option Jvm.ClassFile.FieldType)) ∈ lw_all := lw_g (lw_at lw_m4 233 rfl) rfl
theorem q1035 : (Jvm.Cond.classLink "BlackoutStart" (12 : Nat) "java/lang/IndexOutOfBoundsException") ∈ lw_all := lw_g (lw_at lw_m4 234 rfl) rfl
theorem q1044 : (Jvm.Cond.methodLink "BlackoutStart" (14 : Nat) ({ cls := "java/lang/IndexOutOfBoundsException", name := "<init>", desc := "()V" } : Jvm.MethodName)) ∈ lw_all := lw_g (lw_at lw_m5 3 rfl) rfl
theorem q1055 : (Jvm.Cond.instanceMethod ({ cls := "BlackoutStart", name := "load", desc := "()I" } : Jvm.MethodName)) ∈ lw_all := lw_g (lw_at lw_m5 14 rfl) rfl
theorem q1056 : (Jvm.Cond.selects "BlackoutStart" ({ cls := "BlackoutStart", name := "load", desc := "()I" } : Jvm.MethodName) ({ cls := "BlackoutStart", name := "load", desc := "()I" } : Jvm.MethodName)) ∈ lw_all := lw_g (lw_at lw_m5 15 rfl) rfl
theorem q1057 : (Jvm.Cond.codeWith ({ cls := "BlackoutStart", name := "load", desc := "()I" } : Jvm.MethodName) prog_1_method_11_code (5 : Nat) (Option.some Jvm.ClassFile.FieldType.int) [((10 : Nat), (62 : Nat), (70 : Nat), (89 : Nat)), ((10 : Nat), (62 : Nat), (112 : Nat), (0 : Nat)), ((70 : Nat), (104 : Nat), (112 : Nat), (0 : Nat)), ((112 : Nat), (114 : Nat), (112 : Nat), (0 : Nat))]) ∈ lw_all := lw_g (lw_at lw_m5 16 rfl) rfl
theorem q1058 : (Jvm.Cond.classLink "BlackoutStart" (89 : Nat) "BlackoutStart$Unreadable") ∈ lw_all := lw_g (lw_at lw_m5 17 rfl) rfl
theorem q1059 : (Jvm.Cond.classLink "BlackoutStart" (77 : Nat) "BlackoutStart$Parser") ∈ lw_all := lw_g (lw_at lw_m5 18 rfl) rfl
theorem q1061 : (Jvm.Cond.methodLinkNest "BlackoutStart" (79 : Nat) ({ cls := "BlackoutStart$Parser", name := "<init>", desc := "(LBlackoutStart;)V" } : Jvm.MethodName) "BlackoutStart") ∈ lw_tbl := lw_at lw_m5 20 rfl
theorem q1089 : (Jvm.Cond.methodLink "BlackoutStart" (82 : Nat) ({ cls := "BlackoutStart$Parser", name := "parse", desc := "()LBlackoutStart$Setup;" } : Jvm.MethodName)) ∈ lw_all := lw_g (lw_at lw_m5 48 rfl) rfl
theorem q1242 : (Jvm.Cond.fieldLinkNest "BlackoutStart" (190 : Nat) "BlackoutStart$Outlet" "steady" "I" "BlackoutStart") ∈ lw_tbl := lw_at lw_m5 201 rfl
theorem q1245 : (Jvm.Cond.fieldLinkNest "BlackoutStart" (195 : Nat) "BlackoutStart$Outlet" "inrush" "I" "BlackoutStart") ∈ lw_tbl := lw_at lw_m5 204 rfl
theorem q1248 : (Jvm.Cond.fieldLinkNest "BlackoutStart" (198 : Nat) "BlackoutStart$Outlet" "peak" "I" "BlackoutStart") ∈ lw_tbl := lw_at lw_m5 207 rfl
theorem q1250 : (Jvm.Cond.fieldLinkNest "BlackoutStart" (201 : Nat) "BlackoutStart$Outlet" "ticks" "I" "BlackoutStart") ∈ lw_tbl := lw_at lw_m5 209 rfl
theorem q1426 : (Jvm.Cond.methodLink "BlackoutStart" (86 : Nat) ({ cls := "java/util/ArrayDeque", name := "clear", desc := "()V" } : Jvm.MethodName)) ∈ lw_all := lw_g (lw_at lw_m6 145 rfl) rfl
theorem q1433 : (Jvm.Cond.methodLink "BlackoutStart" (91 : Nat) ({ cls := "BlackoutStart$Unreadable", name := "getCause", desc := "()Ljava/lang/Throwable;" } : Jvm.MethodName)) ∈ lw_all := lw_g (lw_at lw_m6 152 rfl) rfl
theorem q1439 : (Jvm.Cond.classLink "BlackoutStart" (95 : Nat) "BlackoutStart$Flaw") ∈ lw_all := lw_g (lw_at lw_m6 158 rfl) rfl
theorem q1440 : (Jvm.Cond.methodLink "BlackoutStart" (97 : Nat) ({ cls := "BlackoutStart$Flaw", name := "code", desc := "()I" } : Jvm.MethodName)) ∈ lw_all := lw_g (lw_at lw_m6 159 rfl) rfl
theorem q1446 : (Jvm.Cond.methodLink "BlackoutStart" (101 : Nat) ({ cls := "BlackoutStart$Flaw", name := "position", desc := "()I" } : Jvm.MethodName)) ∈ lw_all := lw_g (lw_at lw_m6 165 rfl) rfl
theorem q1452 : (Jvm.Cond.methodLink "BlackoutStart" (104 : Nat) ({ cls := "BlackoutStart", name := "checkArgument", desc := "(Z)V" } : Jvm.MethodName)) ∈ lw_all := lw_g (lw_at lw_m6 171 rfl) rfl
theorem q1453 : (Jvm.Cond.static ({ cls := "BlackoutStart", name := "checkArgument", desc := "(Z)V" } : Jvm.MethodName)) ∈ lw_all := lw_g (lw_at lw_m6 172 rfl) rfl
theorem q1454 : (Jvm.Cond.code ({ cls := "BlackoutStart", name := "checkArgument", desc := "(Z)V" } : Jvm.MethodName) prog_1_method_3_code (1 : Nat) (Option.none : Option Jvm.ClassFile.FieldType)) ∈ lw_all := lw_g (lw_at lw_m6 173 rfl) rfl
theorem q1455 : (Jvm.Cond.classLink "BlackoutStart" (3 : Nat) "java/lang/IllegalArgumentException") ∈ lw_all := lw_g (lw_at lw_m6 174 rfl) rfl
theorem q1456 : (Jvm.Cond.methodLink "BlackoutStart" (5 : Nat) ({ cls := "java/lang/IllegalArgumentException", name := "<init>", desc := "()V" } : Jvm.MethodName)) ∈ lw_all := lw_g (lw_at lw_m6 175 rfl) rfl
theorem q1460 : (Jvm.Cond.methodLink "BlackoutStart" (111 : Nat) ({ cls := "BlackoutStart$Setup", name := "size", desc := "()I" } : Jvm.MethodName)) ∈ lw_all := lw_g (lw_at lw_m6 179 rfl) rfl
theorem q1466 : (Jvm.Cond.instanceMethod ({ cls := "BlackoutStart", name := "find", desc := "()I" } : Jvm.MethodName)) ∈ lw_all := lw_g (lw_at lw_m6 185 rfl) rfl
theorem q1467 : (Jvm.Cond.selects "BlackoutStart" ({ cls := "BlackoutStart", name := "find", desc := "()I" } : Jvm.MethodName) ({ cls := "BlackoutStart", name := "find", desc := "()I" } : Jvm.MethodName)) ∈ lw_all := lw_g (lw_at lw_m6 186 rfl) rfl
theorem q1468 : (Jvm.Cond.code ({ cls := "BlackoutStart", name := "find", desc := "()I" } : Jvm.MethodName) prog_1_method_14_code (3 : Nat) (Option.some Jvm.ClassFile.FieldType.int)) ∈ lw_all := lw_g (lw_at lw_m6 187 rfl) rfl
theorem q1469 : (Jvm.Cond.classLink "BlackoutStart" (114 : Nat) "java/lang/StringBuilder") ∈ lw_all := lw_g (lw_at lw_m6 188 rfl) rfl
theorem q1470 : (Jvm.Cond.methodLink "BlackoutStart" (116 : Nat) ({ cls := "java/lang/StringBuilder", name := "<init>", desc := "(I)V" } : Jvm.MethodName)) ∈ lw_all := lw_g (lw_at lw_m6 189 rfl) rfl
theorem q1471 : (Jvm.Cond.methodLink "BlackoutStart" (118 : Nat) ({ cls := "java/lang/StringBuilder", name := "append", desc := "(C)Ljava/lang/StringBuilder;" } : Jvm.MethodName)) ∈ lw_all := lw_g (lw_at lw_m6 190 rfl) rfl
theorem q1472 : (Jvm.Cond.methodLink "BlackoutStart" (122 : Nat) ({ cls := "java/lang/StringBuilder", name := "toString", desc := "()Ljava/lang/String;" } : Jvm.MethodName)) ∈ lw_all := lw_g (lw_at lw_m6 191 rfl) rfl
theorem q1473 : (Jvm.Cond.methodLink "BlackoutStart" (126 : Nat) ({ cls := "BlackoutStart$Setup", name := "find", desc := "(Ljava/lang/String;)I" } : Jvm.MethodName)) ∈ lw_all := lw_g (lw_at lw_m6 192 rfl) rfl
theorem q1474 : (Jvm.Cond.methodLink "BlackoutStart" (130 : Nat) ({ cls := "BlackoutStart", name := "checkElement", desc := "(Z)V" } : Jvm.MethodName)) ∈ lw_all := lw_g (lw_at lw_m6 193 rfl) rfl
theorem q1475 : (Jvm.Cond.static ({ cls := "BlackoutStart", name := "checkElement", desc := "(Z)V" } : Jvm.MethodName)) ∈ lw_all := lw_g (lw_at lw_m6 194 rfl) rfl
theorem q1476 : (Jvm.Cond.code ({ cls := "BlackoutStart", name := "checkElement", desc := "(Z)V" } : Jvm.MethodName) prog_1_method_6_code (1 : Nat) (Option.none : Option Jvm.ClassFile.FieldType)) ∈ lw_all := lw_g (lw_at lw_m6 195 rfl) rfl
theorem q1477 : (Jvm.Cond.classLink "BlackoutStart" (15 : Nat) "java/util/NoSuchElementException") ∈ lw_all := lw_g (lw_at lw_m6 196 rfl) rfl
theorem q1478 : (Jvm.Cond.methodLink "BlackoutStart" (17 : Nat) ({ cls := "java/util/NoSuchElementException", name := "<init>", desc := "()V" } : Jvm.MethodName)) ∈ lw_all := lw_g (lw_at lw_m6 197 rfl) rfl
theorem q1483 : (Jvm.Cond.instanceMethod ({ cls := "BlackoutStart", name := "count", desc := "(I)I" } : Jvm.MethodName)) ∈ lw_all := lw_g (lw_at lw_m6 202 rfl) rfl
theorem q1484 : (Jvm.Cond.selects "BlackoutStart" ({ cls := "BlackoutStart", name := "count", desc := "(I)I" } : Jvm.MethodName) ({ cls := "BlackoutStart", name := "count", desc := "(I)I" } : Jvm.MethodName)) ∈ lw_all := lw_g (lw_at lw_m6 203 rfl) rfl
theorem q1485 : (Jvm.Cond.code ({ cls := "BlackoutStart", name := "count", desc := "(I)I" } : Jvm.MethodName) prog_1_method_15_code (2 : Nat) (Option.some Jvm.ClassFile.FieldType.int)) ∈ lw_all := lw_g (lw_at lw_m6 204 rfl) rfl
theorem q1486 : (Jvm.Cond.methodLink "BlackoutStart" (139 : Nat) ({ cls := "BlackoutStart$State", name := "isDark", desc := "()Z" } : Jvm.MethodName)) ∈ lw_all := lw_g (lw_at lw_m6 205 rfl) rfl
theorem q1490 : (Jvm.Cond.methodLink "BlackoutStart" (162 : Nat) ({ cls := "BlackoutStart$Wire", name := "sum", desc := "([I)I" } : Jvm.MethodName)) ∈ lw_all := lw_g (lw_at lw_m6 209 rfl) rfl
theorem q1497 : (Jvm.Cond.instanceMethod ({ cls := "BlackoutStart", name := "outlet", desc := "(II)I" } : Jvm.MethodName)) ∈ lw_all := lw_g (lw_at lw_m6 216 rfl) rfl
theorem q1498 : (Jvm.Cond.selects "BlackoutStart" ({ cls := "BlackoutStart", name := "outlet", desc := "(II)I" } : Jvm.MethodName) ({ cls := "BlackoutStart", name := "outlet", desc := "(II)I" } : Jvm.MethodName)) ∈ lw_all := lw_g (lw_at lw_m6 217 rfl) rfl
theorem q1499 : (Jvm.Cond.code ({ cls := "BlackoutStart", name := "outlet", desc := "(II)I" } : Jvm.MethodName) prog_1_method_17_code (4 : Nat) (Option.some Jvm.ClassFile.FieldType.int)) ∈ lw_all := lw_g (lw_at lw_m6 218 rfl) rfl
theorem q1500 : (Jvm.Cond.methodLink "BlackoutStart" (187 : Nat) ({ cls := "BlackoutStart", name := "outletAt", desc := "(I)LBlackoutStart$Outlet;" } : Jvm.MethodName)) ∈ lw_all := lw_g (lw_at lw_m6 219 rfl) rfl
theorem q1501 : (Jvm.Cond.privateMethod ({ cls := "BlackoutStart", name := "outletAt", desc := "(I)LBlackoutStart$Outlet;" } : Jvm.MethodName)) ∈ lw_tbl := lw_at lw_m6 220 rfl
theorem q1502 : (Jvm.Cond.instanceMethod ({ cls := "BlackoutStart", name := "outletAt", desc := "(I)LBlackoutStart$Outlet;" } : Jvm.MethodName)) ∈ lw_all := lw_g (lw_at lw_m6 221 rfl) rfl
theorem q1503 : (Jvm.Cond.code ({ cls := "BlackoutStart", name := "outletAt", desc := "(I)LBlackoutStart$Outlet;" } : Jvm.MethodName) prog_1_method_16_code (2 : Nat) (Option.some (Jvm.ClassFile.FieldType.object "BlackoutStart$Outlet"))) ∈ lw_all := lw_g (lw_at lw_m6 222 rfl) rfl
theorem q1504 : (Jvm.Cond.methodLink "BlackoutStart" (183 : Nat) ({ cls := "BlackoutStart$State", name := "at", desc := "(I)LBlackoutStart$Outlet;" } : Jvm.MethodName)) ∈ lw_all := lw_g (lw_at lw_m6 223 rfl) rfl
theorem q1505 : (Jvm.Cond.methodLink "BlackoutStart" (210 : Nat) ({ cls := "BlackoutStart", name := "has", desc := "(II)Z" } : Jvm.MethodName)) ∈ lw_all := lw_g (lw_at lw_m6 224 rfl) rfl
theorem q1510 : (Jvm.Cond.instanceMethod ({ cls := "BlackoutStart", name := "known", desc := "(II)I" } : Jvm.MethodName)) ∈ lw_all := lw_g (lw_at lw_m6 229 rfl) rfl
theorem q1511 : (Jvm.Cond.selects "BlackoutStart" ({ cls := "BlackoutStart", name := "known", desc := "(II)I" } : Jvm.MethodName) ({ cls := "BlackoutStart", name := "known", desc := "(II)I" } : Jvm.MethodName)) ∈ lw_all := lw_g (lw_at lw_m6 230 rfl) rfl
theorem q1512 : (Jvm.Cond.code ({ cls := "BlackoutStart", name := "known", desc := "(II)I" } : Jvm.MethodName) prog_1_method_18_code (4 : Nat) (Option.some Jvm.ClassFile.FieldType.int)) ∈ lw_all := lw_g (lw_at lw_m6 231 rfl) rfl
theorem q1513 : (Jvm.Cond.methodLink "BlackoutStart" (231 : Nat) ({ cls := "BlackoutStart$State", name := "expected", desc := "(I)I" } : Jvm.MethodName)) ∈ lw_all := lw_g (lw_at lw_m6 232 rfl) rfl
theorem q1514 : (Jvm.Cond.methodLink "BlackoutStart" (235 : Nat) ({ cls := "BlackoutStart$State", name := "reserved", desc := "(I)I" } : Jvm.MethodName)) ∈ lw_all := lw_g (lw_at lw_m6 233 rfl) rfl
theorem q1515 : (Jvm.Cond.methodLink "BlackoutStart" (242 : Nat) ({ cls := "BlackoutStart$Order", name := "placeOf", desc := "(I)I" } : Jvm.MethodName)) ∈ lw_all := lw_g (lw_at lw_m6 234 rfl) rfl
theorem q1520 : (Jvm.Cond.instanceMethod ({ cls := "BlackoutStart", name := "needs", desc := "(IZ)I" } : Jvm.MethodName)) ∈ lw_all := lw_g (lw_at lw_m6 239 rfl) rfl
theorem q1521 : (Jvm.Cond.selects "BlackoutStart" ({ cls := "BlackoutStart", name := "needs", desc := "(IZ)I" } : Jvm.MethodName) ({ cls := "BlackoutStart", name := "needs", desc := "(IZ)I" } : Jvm.MethodName)) ∈ lw_all := lw_g (lw_at lw_m7 0 rfl) rfl
theorem q1522 : (Jvm.Cond.code ({ cls := "BlackoutStart", name := "needs", desc := "(IZ)I" } : Jvm.MethodName) prog_1_method_19_code (6 : Nat) (Option.some Jvm.ClassFile.FieldType.int)) ∈ lw_all := lw_g (lw_at lw_m7 1 rfl) rfl
theorem q1527 : (Jvm.Cond.instanceMethod ({ cls := "BlackoutStart", name := "outletsWith", desc := "(IZ)I" } : Jvm.MethodName)) ∈ lw_all := lw_g (lw_at lw_m7 6 rfl) rfl
theorem q1528 : (Jvm.Cond.selects "BlackoutStart" ({ cls := "BlackoutStart", name := "outletsWith", desc := "(IZ)I" } : Jvm.MethodName) ({ cls := "BlackoutStart", name := "outletsWith", desc := "(IZ)I" } : Jvm.MethodName)) ∈ lw_all := lw_g (lw_at lw_m7 7 rfl) rfl
theorem q1529 : (Jvm.Cond.code ({ cls := "BlackoutStart", name := "outletsWith", desc := "(IZ)I" } : Jvm.MethodName) prog_1_method_20_code (3 : Nat) (Option.some Jvm.ClassFile.FieldType.int)) ∈ lw_all := lw_g (lw_at lw_m7 8 rfl) rfl
theorem q1530 : (Jvm.Cond.constantLong "BlackoutStart" (253 : Nat) (3 : Int64)) ∈ lw_all := lw_g (lw_at lw_m7 9 rfl) rfl
theorem q1531 : (Jvm.Cond.methodLink "BlackoutStart" (255 : Nat) ({ cls := "BlackoutStart$State", name := "withMark", desc := "(I)I" } : Jvm.MethodName)) ∈ lw_all := lw_g (lw_at lw_m7 10 rfl) rfl
theorem q1532 : (Jvm.Cond.methodLink "BlackoutStart" (258 : Nat) ({ cls := "BlackoutStart$State", name := "inState", desc := "(I)I" } : Jvm.MethodName)) ∈ lw_all := lw_g (lw_at lw_m7 11 rfl) rfl
theorem q1540 : (Jvm.Cond.instanceMethod ({ cls := "BlackoutStart", name := "load", desc := "(I)I" } : Jvm.MethodName)) ∈ lw_all := lw_g (lw_at lw_m7 19 rfl) rfl
theorem q1541 : (Jvm.Cond.selects "BlackoutStart" ({ cls := "BlackoutStart", name := "load", desc := "(I)I" } : Jvm.MethodName) ({ cls := "BlackoutStart", name := "load", desc := "(I)I" } : Jvm.MethodName)) ∈ lw_all := lw_g (lw_at lw_m7 20 rfl) rfl
theorem q1542 : (Jvm.Cond.code ({ cls := "BlackoutStart", name := "load", desc := "(I)I" } : Jvm.MethodName) prog_1_method_22_code (2 : Nat) (Option.some Jvm.ClassFile.FieldType.int)) ∈ lw_all := lw_g (lw_at lw_m7 21 rfl) rfl
theorem q1543 : (Jvm.Cond.methodLink "BlackoutStart" (264 : Nat) ({ cls := "BlackoutStart$State", name := "load", desc := "()I" } : Jvm.MethodName)) ∈ lw_all := lw_g (lw_at lw_m7 22 rfl) rfl
theorem q1551 : (Jvm.Cond.methodLink "BlackoutStart" (270 : Nat) ({ cls := "BlackoutStart$State", name := "reserved", desc := "()I" } : Jvm.MethodName)) ∈ lw_all := lw_g (lw_at lw_m7 30 rfl) rfl
theorem q1556 : (Jvm.Cond.instanceMethod ({ cls := "BlackoutStart", name := "message", desc := "(II)I" } : Jvm.MethodName)) ∈ lw_all := lw_g (lw_at lw_m7 35 rfl) rfl
theorem q1557 : (Jvm.Cond.selects "BlackoutStart" ({ cls := "BlackoutStart", name := "message", desc := "(II)I" } : Jvm.MethodName) ({ cls := "BlackoutStart", name := "message", desc := "(II)I" } : Jvm.MethodName)) ∈ lw_all := lw_g (lw_at lw_m7 36 rfl) rfl
theorem q1558 : (Jvm.Cond.code ({ cls := "BlackoutStart", name := "message", desc := "(II)I" } : Jvm.MethodName) prog_1_method_24_code (4 : Nat) (Option.some Jvm.ClassFile.FieldType.int)) ∈ lw_all := lw_g (lw_at lw_m7 37 rfl) rfl
theorem q1563 : (Jvm.Cond.instanceMethod ({ cls := "BlackoutStart", name := "traffic", desc := "(IZ)I" } : Jvm.MethodName)) ∈ lw_all := lw_g (lw_at lw_m7 42 rfl) rfl
theorem q1564 : (Jvm.Cond.selects "BlackoutStart" ({ cls := "BlackoutStart", name := "traffic", desc := "(IZ)I" } : Jvm.MethodName) ({ cls := "BlackoutStart", name := "traffic", desc := "(IZ)I" } : Jvm.MethodName)) ∈ lw_all := lw_g (lw_at lw_m7 43 rfl) rfl
theorem q1565 : (Jvm.Cond.code ({ cls := "BlackoutStart", name := "traffic", desc := "(IZ)I" } : Jvm.MethodName) prog_1_method_25_code (3 : Nat) (Option.some Jvm.ClassFile.FieldType.int)) ∈ lw_all := lw_g (lw_at lw_m7 44 rfl) rfl
theorem q1566 : (Jvm.Cond.constantLong "BlackoutStart" (275 : Nat) (5 : Int64)) ∈ lw_all := lw_g (lw_at lw_m7 45 rfl) rfl
theorem q1571 : (Jvm.Cond.instanceMethod ({ cls := "BlackoutStart", name := "learned", desc := "(I)I" } : Jvm.MethodName)) ∈ lw_all := lw_g (lw_at lw_m7 50 rfl) rfl
theorem q1572 : (Jvm.Cond.selects "BlackoutStart" ({ cls := "BlackoutStart", name := "learned", desc := "(I)I" } : Jvm.MethodName) ({ cls := "BlackoutStart", name := "learned", desc := "(I)I" } : Jvm.MethodName)) ∈ lw_all := lw_g (lw_at lw_m7 51 rfl) rfl
theorem q1573 : (Jvm.Cond.code ({ cls := "BlackoutStart", name := "learned", desc := "(I)I" } : Jvm.MethodName) prog_1_method_26_code (2 : Nat) (Option.some Jvm.ClassFile.FieldType.int)) ∈ lw_all := lw_g (lw_at lw_m7 52 rfl) rfl
theorem q1578 : (Jvm.Cond.instanceMethod ({ cls := "BlackoutStart", name := "why", desc := "(I)I" } : Jvm.MethodName)) ∈ lw_all := lw_g (lw_at lw_m7 57 rfl) rfl
theorem q1579 : (Jvm.Cond.selects "BlackoutStart" ({ cls := "BlackoutStart", name := "why", desc := "(I)I" } : Jvm.MethodName) ({ cls := "BlackoutStart", name := "why", desc := "(I)I" } : Jvm.MethodName)) ∈ lw_all := lw_g (lw_at lw_m7 58 rfl) rfl
theorem q1580 : (Jvm.Cond.code ({ cls := "BlackoutStart", name := "why", desc := "(I)I" } : Jvm.MethodName) prog_1_method_28_code (3 : Nat) (Option.some Jvm.ClassFile.FieldType.int)) ∈ lw_all := lw_g (lw_at lw_m7 59 rfl) rfl
theorem q1581 : (Jvm.Cond.methodLink "BlackoutStart" (285 : Nat) ({ cls := "BlackoutStart", name := "grants", desc := "()I" } : Jvm.MethodName)) ∈ lw_all := lw_g (lw_at lw_m7 60 rfl) rfl
theorem q1586 : (Jvm.Cond.instanceMethod ({ cls := "BlackoutStart", name := "runsIn", desc := "(I)I" } : Jvm.MethodName)) ∈ lw_all := lw_g (lw_at lw_m7 65 rfl) rfl
theorem q1587 : (Jvm.Cond.selects "BlackoutStart" ({ cls := "BlackoutStart", name := "runsIn", desc := "(I)I" } : Jvm.MethodName) ({ cls := "BlackoutStart", name := "runsIn", desc := "(I)I" } : Jvm.MethodName)) ∈ lw_all := lw_g (lw_at lw_m7 66 rfl) rfl
theorem q1588 : (Jvm.Cond.code ({ cls := "BlackoutStart", name := "runsIn", desc := "(I)I" } : Jvm.MethodName) prog_1_method_30_code (3 : Nat) (Option.some Jvm.ClassFile.FieldType.int)) ∈ lw_all := lw_g (lw_at lw_m7 67 rfl) rfl
theorem q1589 : (Jvm.Cond.methodLink "BlackoutStart" (294 : Nat) ({ cls := "BlackoutStart", name := "ticksTo", desc := "(LBlackoutStart$State;I)I" } : Jvm.MethodName)) ∈ lw_all := lw_g (lw_at lw_m7 68 rfl) rfl
theorem q1590 : (Jvm.Cond.static ({ cls := "BlackoutStart", name := "ticksTo", desc := "(LBlackoutStart$State;I)I" } : Jvm.MethodName)) ∈ lw_all := lw_g (lw_at lw_m7 69 rfl) rfl
theorem q1591 : (Jvm.Cond.code ({ cls := "BlackoutStart", name := "ticksTo", desc := "(LBlackoutStart$State;I)I" } : Jvm.MethodName) prog_1_method_29_code (3 : Nat) (Option.some Jvm.ClassFile.FieldType.int)) ∈ lw_all := lw_g (lw_at lw_m7 70 rfl) rfl
theorem q1592 : (Jvm.Cond.methodLink "BlackoutStart" (288 : Nat) ({ cls := "BlackoutStart$State", name := "passes", desc := "()V" } : Jvm.MethodName)) ∈ lw_all := lw_g (lw_at lw_m7 71 rfl) rfl
theorem q1712 : (Jvm.Cond.instanceMethod ({ cls := "BlackoutStart", name := "allIn", desc := "(I)I" } : Jvm.MethodName)) ∈ lw_all := lw_g (lw_at lw_m7 191 rfl) rfl
theorem q1713 : (Jvm.Cond.selects "BlackoutStart" ({ cls := "BlackoutStart", name := "allIn", desc := "(I)I" } : Jvm.MethodName) ({ cls := "BlackoutStart", name := "allIn", desc := "(I)I" } : Jvm.MethodName)) ∈ lw_all := lw_g (lw_at lw_m7 192 rfl) rfl
theorem q1714 : (Jvm.Cond.code ({ cls := "BlackoutStart", name := "allIn", desc := "(I)I" } : Jvm.MethodName) prog_1_method_31_code (4 : Nat) (Option.some Jvm.ClassFile.FieldType.int)) ∈ lw_all := lw_g (lw_at lw_m7 193 rfl) rfl
theorem q1719 : (Jvm.Cond.instanceMethod ({ cls := "BlackoutStart", name := "peakIn", desc := "(II)I" } : Jvm.MethodName)) ∈ lw_all := lw_g (lw_at lw_m7 198 rfl) rfl
theorem q1720 : (Jvm.Cond.selects "BlackoutStart" ({ cls := "BlackoutStart", name := "peakIn", desc := "(II)I" } : Jvm.MethodName) ({ cls := "BlackoutStart", name := "peakIn", desc := "(II)I" } : Jvm.MethodName)) ∈ lw_all := lw_g (lw_at lw_m7 199 rfl) rfl
theorem q1721 : (Jvm.Cond.code ({ cls := "BlackoutStart", name := "peakIn", desc := "(II)I" } : Jvm.MethodName) prog_1_method_32_code (6 : Nat) (Option.some Jvm.ClassFile.FieldType.int)) ∈ lw_all := lw_g (lw_at lw_m7 200 rfl) rfl
theorem q1722 : (Jvm.Cond.constantLong "BlackoutStart" (304 : Nat) (500 : Int64)) ∈ lw_all := lw_g (lw_at lw_m7 201 rfl) rfl
theorem q1723 : (Jvm.Cond.constantLong "BlackoutStart" (306 : Nat) (9999 : Int64)) ∈ lw_all := lw_g (lw_at lw_m7 202 rfl) rfl
theorem q1724 : (Jvm.Cond.methodLink "BlackoutStart" (311 : Nat) ({ cls := "java/lang/Math", name := "max", desc := "(II)I" } : Jvm.MethodName)) ∈ lw_all := lw_g (lw_at lw_m7 203 rfl) rfl
theorem q1729 : (Jvm.Cond.instanceMethod ({ cls := "BlackoutStart", name := "sentIn", desc := "(II)I" } : Jvm.MethodName)) ∈ lw_all := lw_g (lw_at lw_m7 208 rfl) rfl
theorem q1730 : (Jvm.Cond.selects "BlackoutStart" ({ cls := "BlackoutStart", name := "sentIn", desc := "(II)I" } : Jvm.MethodName) ({ cls := "BlackoutStart", name := "sentIn", desc := "(II)I" } : Jvm.MethodName)) ∈ lw_all := lw_g (lw_at lw_m7 209 rfl) rfl
theorem q1731 : (Jvm.Cond.code ({ cls := "BlackoutStart", name := "sentIn", desc := "(II)I" } : Jvm.MethodName) prog_1_method_33_code (5 : Nat) (Option.some Jvm.ClassFile.FieldType.int)) ∈ lw_all := lw_g (lw_at lw_m7 210 rfl) rfl
theorem q1732 : (Jvm.Cond.constantLong "BlackoutStart" (317 : Nat) (20 : Int64)) ∈ lw_all := lw_g (lw_at lw_m7 211 rfl) rfl
theorem q1737 : (Jvm.Cond.instanceMethod ({ cls := "BlackoutStart", name := "run", desc := "(I)I" } : Jvm.MethodName)) ∈ lw_all := lw_g (lw_at lw_m7 216 rfl) rfl
theorem q1738 : (Jvm.Cond.selects "BlackoutStart" ({ cls := "BlackoutStart", name := "run", desc := "(I)I" } : Jvm.MethodName) ({ cls := "BlackoutStart", name := "run", desc := "(I)I" } : Jvm.MethodName)) ∈ lw_all := lw_g (lw_at lw_m7 217 rfl) rfl
theorem q1739 : (Jvm.Cond.code ({ cls := "BlackoutStart", name := "run", desc := "(I)I" } : Jvm.MethodName) prog_1_method_35_code (4 : Nat) (Option.some Jvm.ClassFile.FieldType.int)) ∈ lw_all := lw_g (lw_at lw_m7 218 rfl) rfl
theorem q1740 : (Jvm.Cond.constantLong "BlackoutStart" (327 : Nat) (200 : Int64)) ∈ lw_all := lw_g (lw_at lw_m7 219 rfl) rfl
theorem q1741 : (Jvm.Cond.methodLink "BlackoutStart" (332 : Nat) ({ cls := "java/lang/Integer", name := "bitCount", desc := "(I)I" } : Jvm.MethodName)) ∈ lw_all := lw_g (lw_at lw_m7 220 rfl) rfl
theorem q1746 : (Jvm.Cond.instanceMethod ({ cls := "BlackoutStart", name := "blackout", desc := "(I)I" } : Jvm.MethodName)) ∈ lw_all := lw_g (lw_at lw_m7 225 rfl) rfl
theorem q1747 : (Jvm.Cond.selects "BlackoutStart" ({ cls := "BlackoutStart", name := "blackout", desc := "(I)I" } : Jvm.MethodName) ({ cls := "BlackoutStart", name := "blackout", desc := "(I)I" } : Jvm.MethodName)) ∈ lw_all := lw_g (lw_at lw_m7 226 rfl) rfl
theorem q1748 : (Jvm.Cond.code ({ cls := "BlackoutStart", name := "blackout", desc := "(I)I" } : Jvm.MethodName) prog_1_method_36_code (2 : Nat) (Option.some Jvm.ClassFile.FieldType.int)) ∈ lw_all := lw_g (lw_at lw_m7 227 rfl) rfl
theorem q1749 : (Jvm.Cond.constantLong "BlackoutStart" (337 : Nat) (50 : Int64)) ∈ lw_all := lw_g (lw_at lw_m7 228 rfl) rfl
theorem q1750 : (Jvm.Cond.methodLink "BlackoutStart" (339 : Nat) ({ cls := "BlackoutStart$State", name := "blackout", desc := "(I)V" } : Jvm.MethodName)) ∈ lw_all := lw_g (lw_at lw_m7 229 rfl) rfl
theorem q1755 : (Jvm.Cond.instanceMethod ({ cls := "BlackoutStart", name := "want", desc := "(IZ)Z" } : Jvm.MethodName)) ∈ lw_all := lw_g (lw_at lw_m7 234 rfl) rfl
theorem q1756 : (Jvm.Cond.selects "BlackoutStart" ({ cls := "BlackoutStart", name := "want", desc := "(IZ)Z" } : Jvm.MethodName) ({ cls := "BlackoutStart", name := "want", desc := "(IZ)Z" } : Jvm.MethodName)) ∈ lw_all := lw_g (lw_at lw_m7 235 rfl) rfl
theorem q1757 : (Jvm.Cond.code ({ cls := "BlackoutStart", name := "want", desc := "(IZ)Z" } : Jvm.MethodName) prog_1_method_37_code (5 : Nat) (Option.some Jvm.ClassFile.FieldType.boolean)) ∈ lw_all := lw_g (lw_at lw_m7 236 rfl) rfl
theorem q1758 : (Jvm.Cond.methodLink "BlackoutStart" (345 : Nat) ({ cls := "BlackoutStart$State", name := "want", desc := "(IZ)V" } : Jvm.MethodName)) ∈ lw_all := lw_g (lw_at lw_m7 237 rfl) rfl
theorem q1766 : (Jvm.Cond.instanceMethod ({ cls := "BlackoutStart", name := "setFuse", desc := "(I)I" } : Jvm.MethodName)) ∈ lw_all := lw_g (lw_at lw_m8 5 rfl) rfl
theorem q1767 : (Jvm.Cond.selects "BlackoutStart" ({ cls := "BlackoutStart", name := "setFuse", desc := "(I)I" } : Jvm.MethodName) ({ cls := "BlackoutStart", name := "setFuse", desc := "(I)I" } : Jvm.MethodName)) ∈ lw_all := lw_g (lw_at lw_m8 6 rfl) rfl
theorem q1768 : (Jvm.Cond.code ({ cls := "BlackoutStart", name := "setFuse", desc := "(I)I" } : Jvm.MethodName) prog_1_method_38_code (3 : Nat) (Option.some Jvm.ClassFile.FieldType.int)) ∈ lw_all := lw_g (lw_at lw_m8 7 rfl) rfl
theorem q1773 : (Jvm.Cond.instanceMethod ({ cls := "BlackoutStart", name := "setPriority", desc := "(II)I" } : Jvm.MethodName)) ∈ lw_all := lw_g (lw_at lw_m8 12 rfl) rfl
theorem q1774 : (Jvm.Cond.selects "BlackoutStart" ({ cls := "BlackoutStart", name := "setPriority", desc := "(II)I" } : Jvm.MethodName) ({ cls := "BlackoutStart", name := "setPriority", desc := "(II)I" } : Jvm.MethodName)) ∈ lw_all := lw_g (lw_at lw_m8 13 rfl) rfl
theorem q1775 : (Jvm.Cond.code ({ cls := "BlackoutStart", name := "setPriority", desc := "(II)I" } : Jvm.MethodName) prog_1_method_39_code (5 : Nat) (Option.some Jvm.ClassFile.FieldType.int)) ∈ lw_all := lw_g (lw_at lw_m8 14 rfl) rfl
theorem q1776 : (Jvm.Cond.constantLong "BlackoutStart" (349 : Nat) (9 : Int64)) ∈ lw_all := lw_g (lw_at lw_m8 15 rfl) rfl
theorem q1781 : (Jvm.Cond.instanceMethod ({ cls := "BlackoutStart", name := "undo", desc := "()I" } : Jvm.MethodName)) ∈ lw_all := lw_g (lw_at lw_m8 20 rfl) rfl
theorem q1782 : (Jvm.Cond.selects "BlackoutStart" ({ cls := "BlackoutStart", name := "undo", desc := "()I" } : Jvm.MethodName) ({ cls := "BlackoutStart", name := "undo", desc := "()I" } : Jvm.MethodName)) ∈ lw_all := lw_g (lw_at lw_m8 21 rfl) rfl
theorem q1783 : (Jvm.Cond.code ({ cls := "BlackoutStart", name := "undo", desc := "()I" } : Jvm.MethodName) prog_1_method_41_code (1 : Nat) (Option.some Jvm.ClassFile.FieldType.int)) ∈ lw_all := lw_g (lw_at lw_m8 22 rfl) rfl
theorem q1784 : (Jvm.Cond.methodLink "BlackoutStart" (351 : Nat) ({ cls := "java/util/ArrayDeque", name := "isEmpty", desc := "()Z" } : Jvm.MethodName)) ∈ lw_all := lw_g (lw_at lw_m8 23 rfl) rfl
theorem q1788 : (Jvm.Cond.methodLink "BlackoutStart" (354 : Nat) ({ cls := "java/util/ArrayDeque", name := "removeLast", desc := "()Ljava/lang/Object;" } : Jvm.MethodName)) ∈ lw_all := lw_g (lw_at lw_m8 27 rfl) rfl
theorem q1803 : (Jvm.Cond.instanceMethod ({ cls := "BlackoutStart", name := "save", desc := "(I)V" } : Jvm.MethodName)) ∈ lw_all := lw_g (lw_at lw_m8 42 rfl) rfl
theorem q1804 : (Jvm.Cond.selects "BlackoutStart" ({ cls := "BlackoutStart", name := "save", desc := "(I)V" } : Jvm.MethodName) ({ cls := "BlackoutStart", name := "save", desc := "(I)V" } : Jvm.MethodName)) ∈ lw_all := lw_g (lw_at lw_m8 43 rfl) rfl
theorem q1805 : (Jvm.Cond.code ({ cls := "BlackoutStart", name := "save", desc := "(I)V" } : Jvm.MethodName) prog_1_method_43_code (2 : Nat) (Option.none : Option Jvm.ClassFile.FieldType)) ∈ lw_all := lw_g (lw_at lw_m8 44 rfl) rfl
theorem q1806 : (Jvm.Cond.methodLink "BlackoutStart" (357 : Nat) ({ cls := "BlackoutStart", name := "checkSlot", desc := "(I)V" } : Jvm.MethodName)) ∈ lw_all := lw_g (lw_at lw_m8 45 rfl) rfl
theorem q1807 : (Jvm.Cond.static ({ cls := "BlackoutStart", name := "checkSlot", desc := "(I)V" } : Jvm.MethodName)) ∈ lw_all := lw_g (lw_at lw_m8 46 rfl) rfl
theorem q1808 : (Jvm.Cond.code ({ cls := "BlackoutStart", name := "checkSlot", desc := "(I)V" } : Jvm.MethodName) prog_1_method_42_code (1 : Nat) (Option.none : Option Jvm.ClassFile.FieldType)) ∈ lw_all := lw_g (lw_at lw_m8 47 rfl) rfl
theorem q1813 : (Jvm.Cond.instanceMethod ({ cls := "BlackoutStart", name := "restore", desc := "(I)V" } : Jvm.MethodName)) ∈ lw_all := lw_g (lw_at lw_m8 52 rfl) rfl
theorem q1814 : (Jvm.Cond.selects "BlackoutStart" ({ cls := "BlackoutStart", name := "restore", desc := "(I)V" } : Jvm.MethodName) ({ cls := "BlackoutStart", name := "restore", desc := "(I)V" } : Jvm.MethodName)) ∈ lw_all := lw_g (lw_at lw_m8 53 rfl) rfl
theorem q1815 : (Jvm.Cond.code ({ cls := "BlackoutStart", name := "restore", desc := "(I)V" } : Jvm.MethodName) prog_1_method_44_code (2 : Nat) (Option.none : Option Jvm.ClassFile.FieldType)) ∈ lw_all := lw_g (lw_at lw_m8 54 rfl) rfl
theorem q2312 : (Jvm.Cond.castable "BlackoutStart" "java/lang/Object") ∈ lw_tbl := lw_at lw_m10 71 rfl
theorem in_X1 : ∀ w ∈ wsX10, w ∈ lw_all := lw_in wsX10 [757, 759, 761, 763, 765, 767, 769] (by decide +kernel) (by decide +kernel)
/-! BlackoutStart$BadMeaning -/
set_option maxRecDepth 100000
def RX10 : String := "BlackoutStart$BadMeaning"
def TX10 : u_T := fun k => match k with
  | 0 => ("BlackoutStart$Flaw", "code", "I", true)
  | 1 => ("BlackoutStart$Flaw", "position", "I", true)
  | 2 => ("java/lang/Throwable", "cause", "Ljava/lang/Throwable;", false)
  | 3 => ("java/lang/Throwable", "stackTrace", "[Ljava/lang/StackTraceElement;", false)
  | 4 => ("java/lang/Throwable", "suppressedExceptions", "Ljava/util/List;", false)
  | 5 => ("java/lang/Throwable", "detailMessage", "Ljava/lang/String;", false)
  | 6 => ("java/lang/Throwable", "backtrace", "Ljava/lang/Object;", false)
  | _ => ("java/lang/Throwable", "depth", "I", false)
def tyX10 : Nat → FieldType := fun k => match k with
  | 0 => .int
  | 1 => .int
  | 2 => .object "java/lang/Throwable"
  | 3 => .array (.object "java/lang/StackTraceElement")
  | 4 => .object "java/util/List"
  | 5 => .object "java/lang/String"
  | 6 => .object "java/lang/Object"
  | _ => .int
abbrev wsX100 : List Cond := u_ws RX10 TX10 8
theorem nmX10 : ∀ a, a < 8 → ∀ b, b < 8 → a ≠ b → (TX10 a).2.1 ≠ (TX10 b).2.1 := by decide +kernel
theorem tyX10_ok : ∀ k, k < 8 → parseFieldDescriptor (TX10 k).2.2.1 = some (tyX10 k) := by decide +kernel
abbrev cX10_init : ByteArray := prog_2_method_1_code
def yX10_init : MethodName := ⟨RX10, "<init>", "(II)V"⟩
theorem q115 : (Jvm.Cond.initialized "BlackoutStart$BadMeaning") ∈ lw_all := lw_g (lw_at lw_m1 34 rfl) rfl
theorem q187 : (Jvm.Cond.selects "BlackoutStart$BadMeaning" ({ cls := "java/lang/Throwable", name := "fillInStackTrace", desc := "()Ljava/lang/Throwable;" } : Jvm.MethodName) ({ cls := "java/lang/Throwable", name := "fillInStackTrace", desc := "()Ljava/lang/Throwable;" } : Jvm.MethodName)) ∈ lw_all := lw_g (lw_at lw_m1 106 rfl) rfl
theorem q924 : (Jvm.Cond.selects "BlackoutStart$BadMeaning" ({ cls := "java/lang/Object", name := "getClass", desc := "()Ljava/lang/Class;" } : Jvm.MethodName) ({ cls := "java/lang/Object", name := "getClass", desc := "()Ljava/lang/Class;" } : Jvm.MethodName)) ∈ lw_all := lw_g (lw_at lw_m4 123 rfl) rfl
theorem q1191 : (Jvm.Cond.instantiable "BlackoutStart$BadMeaning" (8 : Nat)) ∈ lw_all := lw_g (lw_at lw_m5 150 rfl) rfl
theorem q1192 : (Jvm.Cond.castable "BlackoutStart$BadMeaning" "BlackoutStart$BadMeaning") ∈ lw_tbl := lw_at lw_m5 151 rfl
theorem q1193 : (Jvm.Cond.selects "BlackoutStart$BadMeaning" ({ cls := "java/lang/Throwable", name := "fillInStackTrace", desc := "(I)Ljava/lang/Throwable;" } : Jvm.MethodName) ({ cls := "java/lang/Throwable", name := "fillInStackTrace", desc := "(I)Ljava/lang/Throwable;" } : Jvm.MethodName)) ∈ lw_all := lw_g (lw_at lw_m5 152 rfl) rfl
theorem q1194 : (Jvm.Cond.lays "BlackoutStart$BadMeaning" "java/lang/Throwable" "cause" "Ljava/lang/Throwable;") ∈ lw_all := lw_g (lw_at lw_m5 153 rfl) rfl
theorem q1195 : (Jvm.Cond.lays "BlackoutStart$BadMeaning" "java/lang/Throwable" "stackTrace" "[Ljava/lang/StackTraceElement;") ∈ lw_all := lw_g (lw_at lw_m5 154 rfl) rfl
theorem q1196 : (Jvm.Cond.lays "BlackoutStart$BadMeaning" "java/lang/Throwable" "suppressedExceptions" "Ljava/util/List;") ∈ lw_all := lw_g (lw_at lw_m5 155 rfl) rfl
theorem q1197 : (Jvm.Cond.lays "BlackoutStart$BadMeaning" "java/lang/Throwable" "detailMessage" "Ljava/lang/String;") ∈ lw_all := lw_g (lw_at lw_m5 156 rfl) rfl
theorem q1198 : (Jvm.Cond.lays "BlackoutStart$BadMeaning" "java/lang/Throwable" "backtrace" "Ljava/lang/Object;") ∈ lw_all := lw_g (lw_at lw_m5 157 rfl) rfl
theorem q1200 : (Jvm.Cond.instanceMethod ({ cls := "BlackoutStart$BadMeaning", name := "<init>", desc := "(II)V" } : Jvm.MethodName)) ∈ lw_all := lw_g (lw_at lw_m5 159 rfl) rfl
theorem q1201 : (Jvm.Cond.code ({ cls := "BlackoutStart$BadMeaning", name := "<init>", desc := "(II)V" } : Jvm.MethodName) prog_2_method_1_code (3 : Nat) (Option.none : Option Jvm.ClassFile.FieldType)) ∈ lw_all := lw_g (lw_at lw_m5 160 rfl) rfl
theorem q1202 : (Jvm.Cond.methodLink "BlackoutStart$BadMeaning" (1 : Nat) ({ cls := "BlackoutStart$Flaw", name := "<init>", desc := "(II)V" } : Jvm.MethodName)) ∈ lw_all := lw_g (lw_at lw_m5 161 rfl) rfl
theorem q1203 : (Jvm.Cond.laysFinal "BlackoutStart$BadMeaning" "BlackoutStart$Flaw" "code" "I") ∈ lw_all := lw_g (lw_at lw_m5 162 rfl) rfl
theorem q1204 : (Jvm.Cond.laysFinal "BlackoutStart$BadMeaning" "BlackoutStart$Flaw" "position" "I") ∈ lw_all := lw_g (lw_at lw_m5 163 rfl) rfl
theorem q1205 : (Jvm.Cond.lays "BlackoutStart$BadMeaning" "java/lang/Throwable" "depth" "I") ∈ lw_all := lw_g (lw_at lw_m5 164 rfl) rfl
theorem q1206 : (Jvm.Cond.superclass "BlackoutStart$BadMeaning" "BlackoutStart$Flaw") ∈ lw_all := lw_g (lw_at lw_m5 165 rfl) rfl
theorem q1443 : (Jvm.Cond.selects "BlackoutStart$BadMeaning" ({ cls := "BlackoutStart$Flaw", name := "code", desc := "()I" } : Jvm.MethodName) ({ cls := "BlackoutStart$Flaw", name := "code", desc := "()I" } : Jvm.MethodName)) ∈ lw_all := lw_g (lw_at lw_m6 162 rfl) rfl
theorem q1449 : (Jvm.Cond.selects "BlackoutStart$BadMeaning" ({ cls := "BlackoutStart$Flaw", name := "position", desc := "()I" } : Jvm.MethodName) ({ cls := "BlackoutStart$Flaw", name := "position", desc := "()I" } : Jvm.MethodName)) ∈ lw_all := lw_g (lw_at lw_m6 168 rfl) rfl
theorem q2309 : (Jvm.Cond.castable "BlackoutStart$BadMeaning" "BlackoutStart$Flaw") ∈ lw_tbl := lw_at lw_m10 68 rfl
theorem q2327 : (Jvm.Cond.castable "BlackoutStart$BadMeaning" "java/lang/Object") ∈ lw_tbl := lw_at lw_m10 86 rfl
theorem in_X10 : ∀ w ∈ wsX100, w ∈ lw_all := lw_in wsX100 [1203, 1204, 1194, 1195, 1196, 1197, 1198, 1205] (by decide +kernel) (by decide +kernel)
/-! BlackoutStart$Outlet -/
set_option maxRecDepth 100000
def RX11 : String := "BlackoutStart$Outlet"
def TX11 : u_T := fun k => match k with
  | 0 => ("BlackoutStart$Outlet", "name", "Ljava/lang/String;", true)
  | 1 => ("BlackoutStart$Outlet", "steady", "I", true)
  | 2 => ("BlackoutStart$Outlet", "inrush", "I", true)
  | 3 => ("BlackoutStart$Outlet", "peak", "I", true)
  | 4 => ("BlackoutStart$Outlet", "ticks", "I", true)
  | _ => ("BlackoutStart$Outlet", "priority", "I", true)
def tyX11 : Nat → FieldType := fun k => match k with
  | 0 => .object "java/lang/String"
  | 1 => .int
  | 2 => .int
  | 3 => .int
  | 4 => .int
  | _ => .int
abbrev wsX110 : List Cond := u_ws RX11 TX11 6
theorem nmX11 : ∀ a, a < 6 → ∀ b, b < 6 → a ≠ b → (TX11 a).2.1 ≠ (TX11 b).2.1 := by decide +kernel
theorem tyX11_ok : ∀ k, k < 6 → parseFieldDescriptor (TX11 k).2.2.1 = some (tyX11 k) := by decide +kernel
abbrev cX11_init : ByteArray := prog_7_method_1_code
def yX11_init : MethodName := ⟨RX11, "<init>", "(Ljava/lang/String;IIIII)V"⟩
theorem q116 : (Jvm.Cond.initialized "BlackoutStart$Outlet") ∈ lw_all := lw_g (lw_at lw_m1 35 rfl) rfl
theorem q928 : (Jvm.Cond.selects "BlackoutStart$Outlet" ({ cls := "java/lang/Object", name := "getClass", desc := "()Ljava/lang/Class;" } : Jvm.MethodName) ({ cls := "java/lang/Object", name := "getClass", desc := "()Ljava/lang/Class;" } : Jvm.MethodName)) ∈ lw_all := lw_g (lw_at lw_m4 127 rfl) rfl
theorem q1232 : (Jvm.Cond.instantiable "BlackoutStart$Outlet" (6 : Nat)) ∈ lw_all := lw_g (lw_at lw_m5 191 rfl) rfl
theorem q1234 : (Jvm.Cond.instanceMethod ({ cls := "BlackoutStart$Outlet", name := "<init>", desc := "(Ljava/lang/String;IIIII)V" } : Jvm.MethodName)) ∈ lw_all := lw_g (lw_at lw_m5 193 rfl) rfl
theorem q1235 : (Jvm.Cond.code ({ cls := "BlackoutStart$Outlet", name := "<init>", desc := "(Ljava/lang/String;IIIII)V" } : Jvm.MethodName) prog_7_method_1_code (7 : Nat) (Option.none : Option Jvm.ClassFile.FieldType)) ∈ lw_all := lw_g (lw_at lw_m5 194 rfl) rfl
theorem q1236 : (Jvm.Cond.methodLink "BlackoutStart$Outlet" (1 : Nat) ({ cls := "java/lang/Object", name := "<init>", desc := "()V" } : Jvm.MethodName)) ∈ lw_all := lw_g (lw_at lw_m5 195 rfl) rfl
theorem q1237 : (Jvm.Cond.fieldLink "BlackoutStart$Outlet" (7 : Nat) "BlackoutStart$Outlet" "name" "Ljava/lang/String;") ∈ lw_all := lw_g (lw_at lw_m5 196 rfl) rfl
theorem q1240 : (Jvm.Cond.fieldLink "BlackoutStart$Outlet" (13 : Nat) "BlackoutStart$Outlet" "steady" "I") ∈ lw_all := lw_g (lw_at lw_m5 199 rfl) rfl
theorem q1243 : (Jvm.Cond.fieldLink "BlackoutStart$Outlet" (17 : Nat) "BlackoutStart$Outlet" "inrush" "I") ∈ lw_all := lw_g (lw_at lw_m5 202 rfl) rfl
theorem q1246 : (Jvm.Cond.fieldLink "BlackoutStart$Outlet" (20 : Nat) "BlackoutStart$Outlet" "peak" "I") ∈ lw_all := lw_g (lw_at lw_m5 205 rfl) rfl
theorem q1249 : (Jvm.Cond.fieldLink "BlackoutStart$Outlet" (23 : Nat) "BlackoutStart$Outlet" "ticks" "I") ∈ lw_all := lw_g (lw_at lw_m5 208 rfl) rfl
theorem q1252 : (Jvm.Cond.fieldLink "BlackoutStart$Outlet" (26 : Nat) "BlackoutStart$Outlet" "priority" "I") ∈ lw_all := lw_g (lw_at lw_m5 211 rfl) rfl
theorem q1254 : (Jvm.Cond.laysFinal "BlackoutStart$Outlet" "BlackoutStart$Outlet" "name" "Ljava/lang/String;") ∈ lw_all := lw_g (lw_at lw_m5 213 rfl) rfl
theorem q1255 : (Jvm.Cond.soleField "BlackoutStart$Outlet" "name") ∈ lw_all := lw_g (lw_at lw_m5 214 rfl) rfl
theorem q1256 : (Jvm.Cond.laysFinal "BlackoutStart$Outlet" "BlackoutStart$Outlet" "steady" "I") ∈ lw_all := lw_g (lw_at lw_m5 215 rfl) rfl
theorem q1257 : (Jvm.Cond.soleField "BlackoutStart$Outlet" "steady") ∈ lw_all := lw_g (lw_at lw_m5 216 rfl) rfl
theorem q1258 : (Jvm.Cond.laysFinal "BlackoutStart$Outlet" "BlackoutStart$Outlet" "inrush" "I") ∈ lw_all := lw_g (lw_at lw_m5 217 rfl) rfl
theorem q1259 : (Jvm.Cond.soleField "BlackoutStart$Outlet" "inrush") ∈ lw_all := lw_g (lw_at lw_m5 218 rfl) rfl
theorem q1260 : (Jvm.Cond.laysFinal "BlackoutStart$Outlet" "BlackoutStart$Outlet" "peak" "I") ∈ lw_all := lw_g (lw_at lw_m5 219 rfl) rfl
theorem q1261 : (Jvm.Cond.soleField "BlackoutStart$Outlet" "peak") ∈ lw_all := lw_g (lw_at lw_m5 220 rfl) rfl
theorem q1262 : (Jvm.Cond.laysFinal "BlackoutStart$Outlet" "BlackoutStart$Outlet" "ticks" "I") ∈ lw_all := lw_g (lw_at lw_m5 221 rfl) rfl
theorem q1263 : (Jvm.Cond.soleField "BlackoutStart$Outlet" "ticks") ∈ lw_all := lw_g (lw_at lw_m5 222 rfl) rfl
theorem q1264 : (Jvm.Cond.laysFinal "BlackoutStart$Outlet" "BlackoutStart$Outlet" "priority" "I") ∈ lw_all := lw_g (lw_at lw_m5 223 rfl) rfl
theorem q1265 : (Jvm.Cond.soleField "BlackoutStart$Outlet" "priority") ∈ lw_all := lw_g (lw_at lw_m5 224 rfl) rfl
theorem q1266 : (Jvm.Cond.superclass "BlackoutStart$Outlet" "java/lang/Object") ∈ lw_all := lw_g (lw_at lw_m5 225 rfl) rfl
theorem q2328 : (Jvm.Cond.castable "BlackoutStart$Outlet" "java/lang/Object") ∈ lw_tbl := lw_at lw_m10 87 rfl
theorem in_X11 : ∀ w ∈ wsX110, w ∈ lw_all := lw_in wsX110 [1254, 1256, 1258, 1260, 1262, 1264] (by decide +kernel) (by decide +kernel)
/-! BlackoutStart$Dark -/
set_option maxRecDepth 100000
def RX12 : String := "BlackoutStart$Dark"
def TX12 : u_T := fun k => match k with
  | 0 => ("BlackoutStart$Dark", "tick", "I", true)
  | _ => ("BlackoutStart$Dark", "duration", "I", true)
def tyX12 : Nat → FieldType := fun k => match k with
  | 0 => .int
  | _ => .int
abbrev wsX120 : List Cond := u_ws RX12 TX12 2
theorem nmX12 : ∀ a, a < 2 → ∀ b, b < 2 → a ≠ b → (TX12 a).2.1 ≠ (TX12 b).2.1 := by decide +kernel
theorem tyX12_ok : ∀ k, k < 2 → parseFieldDescriptor (TX12 k).2.2.1 = some (tyX12 k) := by decide +kernel
abbrev cX12_init : ByteArray := prog_4_method_1_code
def yX12_init : MethodName := ⟨RX12, "<init>", "(II)V"⟩
abbrev cX12_tick : ByteArray := prog_4_method_5_code
def yX12_tick : MethodName := ⟨RX12, "tick", "()I"⟩
abbrev cX12_duration : ByteArray := prog_4_method_6_code
def yX12_duration : MethodName := ⟨RX12, "duration", "()I"⟩
theorem q118 : (Jvm.Cond.initialized "BlackoutStart$Dark") ∈ lw_all := lw_g (lw_at lw_m1 37 rfl) rfl
theorem q926 : (Jvm.Cond.selects "BlackoutStart$Dark" ({ cls := "java/lang/Object", name := "getClass", desc := "()Ljava/lang/Class;" } : Jvm.MethodName) ({ cls := "java/lang/Object", name := "getClass", desc := "()Ljava/lang/Class;" } : Jvm.MethodName)) ∈ lw_all := lw_g (lw_at lw_m4 125 rfl) rfl
theorem q1391 : (Jvm.Cond.instantiable "BlackoutStart$Dark" (2 : Nat)) ∈ lw_all := lw_g (lw_at lw_m6 110 rfl) rfl
theorem q1393 : (Jvm.Cond.instanceMethod ({ cls := "BlackoutStart$Dark", name := "<init>", desc := "(II)V" } : Jvm.MethodName)) ∈ lw_all := lw_g (lw_at lw_m6 112 rfl) rfl
theorem q1394 : (Jvm.Cond.code ({ cls := "BlackoutStart$Dark", name := "<init>", desc := "(II)V" } : Jvm.MethodName) prog_4_method_1_code (3 : Nat) (Option.none : Option Jvm.ClassFile.FieldType)) ∈ lw_all := lw_g (lw_at lw_m6 113 rfl) rfl
theorem q1395 : (Jvm.Cond.methodLink "BlackoutStart$Dark" (1 : Nat) ({ cls := "java/lang/Record", name := "<init>", desc := "()V" } : Jvm.MethodName)) ∈ lw_all := lw_g (lw_at lw_m6 114 rfl) rfl
theorem q1399 : (Jvm.Cond.fieldLink "BlackoutStart$Dark" (7 : Nat) "BlackoutStart$Dark" "tick" "I") ∈ lw_all := lw_g (lw_at lw_m6 118 rfl) rfl
theorem q1400 : (Jvm.Cond.fieldLink "BlackoutStart$Dark" (13 : Nat) "BlackoutStart$Dark" "duration" "I") ∈ lw_all := lw_g (lw_at lw_m6 119 rfl) rfl
theorem q1401 : (Jvm.Cond.laysFinal "BlackoutStart$Dark" "BlackoutStart$Dark" "tick" "I") ∈ lw_all := lw_g (lw_at lw_m6 120 rfl) rfl
theorem q1402 : (Jvm.Cond.soleField "BlackoutStart$Dark" "tick") ∈ lw_all := lw_g (lw_at lw_m6 121 rfl) rfl
theorem q1403 : (Jvm.Cond.laysFinal "BlackoutStart$Dark" "BlackoutStart$Dark" "duration" "I") ∈ lw_all := lw_g (lw_at lw_m6 122 rfl) rfl
theorem q1404 : (Jvm.Cond.soleField "BlackoutStart$Dark" "duration") ∈ lw_all := lw_g (lw_at lw_m6 123 rfl) rfl
theorem q1405 : (Jvm.Cond.superclass "BlackoutStart$Dark" "java/lang/Record") ∈ lw_all := lw_g (lw_at lw_m6 124 rfl) rfl
theorem q1651 : (Jvm.Cond.instanceMethod ({ cls := "BlackoutStart$Dark", name := "tick", desc := "()I" } : Jvm.MethodName)) ∈ lw_all := lw_g (lw_at lw_m7 130 rfl) rfl
theorem q1652 : (Jvm.Cond.selects "BlackoutStart$Dark" ({ cls := "BlackoutStart$Dark", name := "tick", desc := "()I" } : Jvm.MethodName) ({ cls := "BlackoutStart$Dark", name := "tick", desc := "()I" } : Jvm.MethodName)) ∈ lw_all := lw_g (lw_at lw_m7 131 rfl) rfl
theorem q1653 : (Jvm.Cond.code ({ cls := "BlackoutStart$Dark", name := "tick", desc := "()I" } : Jvm.MethodName) prog_4_method_5_code (1 : Nat) (Option.some Jvm.ClassFile.FieldType.int)) ∈ lw_all := lw_g (lw_at lw_m7 132 rfl) rfl
theorem q1655 : (Jvm.Cond.instanceMethod ({ cls := "BlackoutStart$Dark", name := "duration", desc := "()I" } : Jvm.MethodName)) ∈ lw_all := lw_g (lw_at lw_m7 134 rfl) rfl
theorem q1656 : (Jvm.Cond.selects "BlackoutStart$Dark" ({ cls := "BlackoutStart$Dark", name := "duration", desc := "()I" } : Jvm.MethodName) ({ cls := "BlackoutStart$Dark", name := "duration", desc := "()I" } : Jvm.MethodName)) ∈ lw_all := lw_g (lw_at lw_m7 135 rfl) rfl
theorem q1657 : (Jvm.Cond.code ({ cls := "BlackoutStart$Dark", name := "duration", desc := "()I" } : Jvm.MethodName) prog_4_method_6_code (1 : Nat) (Option.some Jvm.ClassFile.FieldType.int)) ∈ lw_all := lw_g (lw_at lw_m7 136 rfl) rfl
theorem q2330 : (Jvm.Cond.castable "BlackoutStart$Dark" "java/lang/Object") ∈ lw_tbl := lw_at lw_m10 89 rfl
theorem in_X12 : ∀ w ∈ wsX120, w ∈ lw_all := lw_in wsX120 [1401, 1403] (by decide +kernel) (by decide +kernel)
/-! BlackoutStart$Unreadable -/
set_option maxRecDepth 100000
def RX13 : String := "BlackoutStart$Unreadable"
def TX13 : u_T := fun k => match k with
  | 0 => ("java/lang/Throwable", "cause", "Ljava/lang/Throwable;", false)
  | 1 => ("java/lang/Throwable", "stackTrace", "[Ljava/lang/StackTraceElement;", false)
  | 2 => ("java/lang/Throwable", "suppressedExceptions", "Ljava/util/List;", false)
  | 3 => ("java/lang/Throwable", "detailMessage", "Ljava/lang/String;", false)
  | 4 => ("java/lang/Throwable", "backtrace", "Ljava/lang/Object;", false)
  | _ => ("java/lang/Throwable", "depth", "I", false)
def tyX13 : Nat → FieldType := fun k => match k with
  | 0 => .object "java/lang/Throwable"
  | 1 => .array (.object "java/lang/StackTraceElement")
  | 2 => .object "java/util/List"
  | 3 => .object "java/lang/String"
  | 4 => .object "java/lang/Object"
  | _ => .int
abbrev wsX130 : List Cond := u_ws RX13 TX13 6
theorem nmX13 : ∀ a, a < 6 → ∀ b, b < 6 → a ≠ b → (TX13 a).2.1 ≠ (TX13 b).2.1 := by decide +kernel
theorem tyX13_ok : ∀ k, k < 6 → parseFieldDescriptor (TX13 k).2.2.1 = some (tyX13 k) := by decide +kernel
abbrev cX13_init : ByteArray := prog_11_method_1_code
def yX13_init : MethodName := ⟨RX13, "<init>", "(LBlackoutStart$Flaw;)V"⟩
theorem q119 : (Jvm.Cond.initialized "BlackoutStart$Unreadable") ∈ lw_all := lw_g (lw_at lw_m1 38 rfl) rfl
theorem q189 : (Jvm.Cond.selects "BlackoutStart$Unreadable" ({ cls := "java/lang/Throwable", name := "fillInStackTrace", desc := "()Ljava/lang/Throwable;" } : Jvm.MethodName) ({ cls := "java/lang/Throwable", name := "fillInStackTrace", desc := "()Ljava/lang/Throwable;" } : Jvm.MethodName)) ∈ lw_all := lw_g (lw_at lw_m1 108 rfl) rfl
theorem q932 : (Jvm.Cond.selects "BlackoutStart$Unreadable" ({ cls := "java/lang/Object", name := "getClass", desc := "()Ljava/lang/Class;" } : Jvm.MethodName) ({ cls := "java/lang/Object", name := "getClass", desc := "()Ljava/lang/Class;" } : Jvm.MethodName)) ∈ lw_all := lw_g (lw_at lw_m4 131 rfl) rfl
theorem q1407 : (Jvm.Cond.instantiable "BlackoutStart$Unreadable" (6 : Nat)) ∈ lw_all := lw_g (lw_at lw_m6 126 rfl) rfl
theorem q1408 : (Jvm.Cond.castable "BlackoutStart$Unreadable" "BlackoutStart$Unreadable") ∈ lw_tbl := lw_at lw_m6 127 rfl
theorem q1409 : (Jvm.Cond.selects "BlackoutStart$Unreadable" ({ cls := "java/lang/Throwable", name := "fillInStackTrace", desc := "(I)Ljava/lang/Throwable;" } : Jvm.MethodName) ({ cls := "java/lang/Throwable", name := "fillInStackTrace", desc := "(I)Ljava/lang/Throwable;" } : Jvm.MethodName)) ∈ lw_all := lw_g (lw_at lw_m6 128 rfl) rfl
theorem q1410 : (Jvm.Cond.lays "BlackoutStart$Unreadable" "java/lang/Throwable" "cause" "Ljava/lang/Throwable;") ∈ lw_all := lw_g (lw_at lw_m6 129 rfl) rfl
theorem q1411 : (Jvm.Cond.lays "BlackoutStart$Unreadable" "java/lang/Throwable" "stackTrace" "[Ljava/lang/StackTraceElement;") ∈ lw_all := lw_g (lw_at lw_m6 130 rfl) rfl
theorem q1412 : (Jvm.Cond.lays "BlackoutStart$Unreadable" "java/lang/Throwable" "suppressedExceptions" "Ljava/util/List;") ∈ lw_all := lw_g (lw_at lw_m6 131 rfl) rfl
theorem q1413 : (Jvm.Cond.lays "BlackoutStart$Unreadable" "java/lang/Throwable" "detailMessage" "Ljava/lang/String;") ∈ lw_all := lw_g (lw_at lw_m6 132 rfl) rfl
theorem q1414 : (Jvm.Cond.lays "BlackoutStart$Unreadable" "java/lang/Throwable" "backtrace" "Ljava/lang/Object;") ∈ lw_all := lw_g (lw_at lw_m6 133 rfl) rfl
theorem q1416 : (Jvm.Cond.instanceMethod ({ cls := "BlackoutStart$Unreadable", name := "<init>", desc := "(LBlackoutStart$Flaw;)V" } : Jvm.MethodName)) ∈ lw_all := lw_g (lw_at lw_m6 135 rfl) rfl
theorem q1417 : (Jvm.Cond.code ({ cls := "BlackoutStart$Unreadable", name := "<init>", desc := "(LBlackoutStart$Flaw;)V" } : Jvm.MethodName) prog_11_method_1_code (2 : Nat) (Option.none : Option Jvm.ClassFile.FieldType)) ∈ lw_all := lw_g (lw_at lw_m6 136 rfl) rfl
theorem q1418 : (Jvm.Cond.methodLink "BlackoutStart$Unreadable" (1 : Nat) ({ cls := "java/lang/Exception", name := "<init>", desc := "(Ljava/lang/String;Ljava/lang/Throwable;)V" } : Jvm.MethodName)) ∈ lw_all := lw_g (lw_at lw_m6 137 rfl) rfl
theorem q1424 : (Jvm.Cond.lays "BlackoutStart$Unreadable" "java/lang/Throwable" "depth" "I") ∈ lw_all := lw_g (lw_at lw_m6 143 rfl) rfl
theorem q1425 : (Jvm.Cond.superclass "BlackoutStart$Unreadable" "java/lang/Exception") ∈ lw_all := lw_g (lw_at lw_m6 144 rfl) rfl
theorem q1434 : (Jvm.Cond.sameMethod "BlackoutStart$Unreadable" "java/lang/Throwable" "getCause" "()Ljava/lang/Throwable;") ∈ lw_all := lw_g (lw_at lw_m6 153 rfl) rfl
theorem q1436 : (Jvm.Cond.selects "BlackoutStart$Unreadable" ({ cls := "BlackoutStart$Unreadable", name := "getCause", desc := "()Ljava/lang/Throwable;" } : Jvm.MethodName) ({ cls := "java/lang/Throwable", name := "getCause", desc := "()Ljava/lang/Throwable;" } : Jvm.MethodName)) ∈ lw_all := lw_g (lw_at lw_m6 155 rfl) rfl
theorem q2331 : (Jvm.Cond.castable "BlackoutStart$Unreadable" "java/lang/Object") ∈ lw_tbl := lw_at lw_m10 90 rfl
theorem in_X13 : ∀ w ∈ wsX130, w ∈ lw_all := lw_in wsX130 [1410, 1411, 1412, 1413, 1414, 1424] (by decide +kernel) (by decide +kernel)
/-! BlackoutStart$State -/
set_option maxRecDepth 100000
def RX2 : String := "BlackoutStart$State"
def TX2 : u_T := fun k => match k with
  | 0 => ("BlackoutStart$State", "setup", "LBlackoutStart$Setup;", true)
  | 1 => ("BlackoutStart$State", "state", "[I", true)
  | 2 => ("BlackoutStart$State", "left", "[I", true)
  | 3 => ("BlackoutStart$State", "starts", "[I", true)
  | 4 => ("BlackoutStart$State", "ranAt", "[I", true)
  | 5 => ("BlackoutStart$State", "askedAt", "[I", true)
  | 6 => ("BlackoutStart$State", "mark", "[I", true)
  | 7 => ("BlackoutStart$State", "time", "[I", true)
  | 8 => ("BlackoutStart$State", "priority", "[I", true)
  | 9 => ("BlackoutStart$State", "wire", "LBlackoutStart$Wire;", true)
  | 10 => ("BlackoutStart$State", "learned", "LBlackoutStart$Order;", true)
  | 11 => ("BlackoutStart$State", "present", "LBlackoutStart$Order;", true)
  | 12 => ("BlackoutStart$State", "received", "[I", true)
  | 13 => ("BlackoutStart$State", "wants", "I", false)
  | 14 => ("BlackoutStart$State", "polled", "I", false)
  | 15 => ("BlackoutStart$State", "stopped", "I", false)
  | 16 => ("BlackoutStart$State", "peaks", "I", false)
  | 17 => ("BlackoutStart$State", "fuse", "I", false)
  | 18 => ("BlackoutStart$State", "retry", "I", false)
  | 19 => ("BlackoutStart$State", "tick", "I", false)
  | 20 => ("BlackoutStart$State", "darkUntil", "I", false)
  | 21 => ("BlackoutStart$State", "blackouts", "I", false)
  | 22 => ("BlackoutStart$State", "trips", "I", false)
  | 23 => ("BlackoutStart$State", "greatest", "I", false)
  | 24 => ("BlackoutStart$State", "meter", "I", false)
  | _ => ("BlackoutStart$State", "isStrict", "Z", false)
def tyX2 : Nat → FieldType := fun k => match k with
  | 0 => .object "BlackoutStart$Setup"
  | 1 => .array .int
  | 2 => .array .int
  | 3 => .array .int
  | 4 => .array .int
  | 5 => .array .int
  | 6 => .array .int
  | 7 => .array .int
  | 8 => .array .int
  | 9 => .object "BlackoutStart$Wire"
  | 10 => .object "BlackoutStart$Order"
  | 11 => .object "BlackoutStart$Order"
  | 12 => .array .int
  | 13 => .int
  | 14 => .int
  | 15 => .int
  | 16 => .int
  | 17 => .int
  | 18 => .int
  | 19 => .int
  | 20 => .int
  | 21 => .int
  | 22 => .int
  | 23 => .int
  | 24 => .int
  | _ => .boolean
abbrev wsX20 : List Cond := u_ws RX2 TX2 26
set_option maxRecDepth 100000 in
theorem nmX2 : ∀ a, a < 26 → ∀ b, b < 26 → a ≠ b → (TX2 a).2.1 ≠ (TX2 b).2.1 := by decide +kernel
set_option maxRecDepth 100000 in
theorem tyX2_ok : ∀ k, k < 26 → parseFieldDescriptor (TX2 k).2.2.1 = some (tyX2 k) := by decide +kernel
abbrev cX2_init : ByteArray := prog_10_method_1_code
def yX2_init : MethodName := ⟨RX2, "<init>", "(LBlackoutStart$Setup;)V"⟩
abbrev cX2_begin : ByteArray := prog_10_method_2_code
def yX2_begin : MethodName := ⟨RX2, "begin", "()LBlackoutStart$State;"⟩
abbrev cX2_rights : ByteArray := prog_10_method_8_code
def yX2_rights : MethodName := ⟨RX2, "rights", "()I"⟩
abbrev cX2_at : ByteArray := prog_10_method_5_code
def yX2_at : MethodName := ⟨RX2, "at", "(I)LBlackoutStart$Outlet;"⟩
abbrev cX2_granted : ByteArray := prog_10_method_26_code
def yX2_granted : MethodName := ⟨RX2, "granted", "()LBlackoutStart$Order;"⟩
abbrev cX2_withMark : ByteArray := prog_10_method_7_code
def yX2_withMark : MethodName := ⟨RX2, "withMark", "(I)I"⟩
abbrev cX2_reserved : ByteArray := prog_10_method_14_code
def yX2_reserved : MethodName := ⟨RX2, "reserved", "()I"⟩
abbrev cX2_reserved_2 : ByteArray := prog_10_method_13_code
def yX2_reserved_2 : MethodName := ⟨RX2, "reserved", "(I)I"⟩
abbrev cX2_expected : ByteArray := prog_10_method_12_code
def yX2_expected : MethodName := ⟨RX2, "expected", "(I)I"⟩
abbrev cX2_first : ByteArray := prog_10_method_25_code
def yX2_first : MethodName := ⟨RX2, "first", "(I)I"⟩
abbrev cX2_isAhead : ByteArray := prog_10_method_24_code
def yX2_isAhead : MethodName := ⟨RX2, "isAhead", "(II)Z"⟩
abbrev cX2_copy : ByteArray := prog_10_method_4_code
def yX2_copy : MethodName := ⟨RX2, "copy", "()LBlackoutStart$State;"⟩
abbrev cX2_copy_2 : ByteArray := prog_10_method_3_code
def yX2_copy_2 : MethodName := ⟨RX2, "copy", "([I[I)V"⟩
abbrev cX2_forget : ByteArray := prog_10_method_30_code
def yX2_forget : MethodName := ⟨RX2, "forget", "()I"⟩
abbrev cX2_isDark : ByteArray := prog_10_method_9_code
def yX2_isDark : MethodName := ⟨RX2, "isDark", "()Z"⟩
abbrev cX2_inState : ByteArray := prog_10_method_6_code
def yX2_inState : MethodName := ⟨RX2, "inState", "(I)I"⟩
abbrev cX2_load : ByteArray := prog_10_method_11_code
def yX2_load : MethodName := ⟨RX2, "load", "()I"⟩
abbrev cX2_draw : ByteArray := prog_10_method_10_code
def yX2_draw : MethodName := ⟨RX2, "draw", "(I)I"⟩
abbrev cX2_passes : ByteArray := prog_10_method_29_code
def yX2_passes : MethodName := ⟨RX2, "passes", "()V"⟩
abbrev cX2_blackout : ByteArray := prog_10_method_15_code
def yX2_blackout : MethodName := ⟨RX2, "blackout", "(I)V"⟩
abbrev cX2_waits : ByteArray := prog_10_method_16_code
def yX2_waits : MethodName := ⟨RX2, "waits", "(I)V"⟩
abbrev cX2_receives : ByteArray := prog_10_method_21_code
def yX2_receives : MethodName := ⟨RX2, "receives", "()V"⟩
abbrev cX2_comes : ByteArray := prog_10_method_20_code
def yX2_comes : MethodName := ⟨RX2, "comes", "(III)V"⟩
abbrev cX2_marks : ByteArray := prog_10_method_18_code
def yX2_marks : MethodName := ⟨RX2, "marks", "(II)V"⟩
abbrev cX2_answers : ByteArray := prog_10_method_19_code
def yX2_answers : MethodName := ⟨RX2, "answers", "(II)V"⟩
abbrev cX2_acts : ByteArray := prog_10_method_22_code
def yX2_acts : MethodName := ⟨RX2, "acts", "(I)V"⟩
abbrev cX2_polls : ByteArray := prog_10_method_23_code
def yX2_polls : MethodName := ⟨RX2, "polls", "()V"⟩
abbrev cX2_grants : ByteArray := prog_10_method_27_code
def yX2_grants : MethodName := ⟨RX2, "grants", "()V"⟩
abbrev cX2_measures : ByteArray := prog_10_method_28_code
def yX2_measures : MethodName := ⟨RX2, "measures", "()V"⟩
abbrev cX2_want : ByteArray := prog_10_method_17_code
def yX2_want : MethodName := ⟨RX2, "want", "(IZ)V"⟩
theorem q83 : (Jvm.Cond.initialized "BlackoutStart$State") ∈ lw_all := lw_g (lw_at lw_m1 2 rfl) rfl
theorem q131 : (Jvm.Cond.instantiable "BlackoutStart$State" (26 : Nat)) ∈ lw_all := lw_g (lw_at lw_m1 50 rfl) rfl
theorem q489 : (Jvm.Cond.fieldLinkNest "BlackoutStart$State" (95 : Nat) "BlackoutStart$Setup" "outlets" "Ljava/util/List;" "BlackoutStart") ∈ lw_tbl := lw_at lw_m2 168 rfl
theorem q493 : (Jvm.Cond.fieldLinkNest "BlackoutStart$State" (252 : Nat) "BlackoutStart$Setup" "darks" "Ljava/util/List;" "BlackoutStart") ∈ lw_tbl := lw_at lw_m2 172 rfl
theorem q495 : (Jvm.Cond.fieldLinkNest "BlackoutStart$State" (160 : Nat) "BlackoutStart$Setup" "needs" "[I" "BlackoutStart") ∈ lw_tbl := lw_at lw_m2 174 rfl
theorem q499 : (Jvm.Cond.fieldLinkNest "BlackoutStart$State" (55 : Nat) "BlackoutStart$Setup" "script" "[I" "BlackoutStart") ∈ lw_tbl := lw_at lw_m2 178 rfl
theorem q503 : (Jvm.Cond.fieldLinkNest "BlackoutStart$State" (85 : Nat) "BlackoutStart$Setup" "off" "I" "BlackoutStart") ∈ lw_tbl := lw_at lw_m2 182 rfl
theorem q508 : (Jvm.Cond.fieldLinkNest "BlackoutStart$State" (222 : Nat) "BlackoutStart$Setup" "patience" "I" "BlackoutStart") ∈ lw_tbl := lw_at lw_m2 187 rfl
theorem q510 : (Jvm.Cond.fieldLinkNest "BlackoutStart$State" (72 : Nat) "BlackoutStart$Setup" "retry" "I" "BlackoutStart") ∈ lw_tbl := lw_at lw_m2 189 rfl
theorem q513 : (Jvm.Cond.fieldLinkNest "BlackoutStart$State" (67 : Nat) "BlackoutStart$Setup" "fuse" "I" "BlackoutStart") ∈ lw_tbl := lw_at lw_m2 192 rfl
theorem q515 : (Jvm.Cond.fieldLinkNest "BlackoutStart$State" (76 : Nat) "BlackoutStart$Setup" "isStrict" "Z" "BlackoutStart") ∈ lw_tbl := lw_at lw_m2 194 rfl
theorem q540 : (Jvm.Cond.instanceMethod ({ cls := "BlackoutStart$State", name := "<init>", desc := "(LBlackoutStart$Setup;)V" } : Jvm.MethodName)) ∈ lw_all := lw_g (lw_at lw_m2 219 rfl) rfl
theorem q541 : (Jvm.Cond.code ({ cls := "BlackoutStart$State", name := "<init>", desc := "(LBlackoutStart$Setup;)V" } : Jvm.MethodName) prog_10_method_1_code (2 : Nat) (Option.none : Option Jvm.ClassFile.FieldType)) ∈ lw_all := lw_g (lw_at lw_m2 220 rfl) rfl
theorem q542 : (Jvm.Cond.methodLink "BlackoutStart$State" (3 : Nat) ({ cls := "java/lang/Object", name := "<init>", desc := "()V" } : Jvm.MethodName)) ∈ lw_all := lw_g (lw_at lw_m2 221 rfl) rfl
theorem q543 : (Jvm.Cond.classLink "BlackoutStart$State" (36 : Nat) "BlackoutStart$Order") ∈ lw_all := lw_g (lw_at lw_m2 222 rfl) rfl
theorem q545 : (Jvm.Cond.methodLinkNest "BlackoutStart$State" (38 : Nat) ({ cls := "BlackoutStart$Order", name := "<init>", desc := "()V" } : Jvm.MethodName) "BlackoutStart") ∈ lw_tbl := lw_at lw_m2 224 rfl
theorem q551 : (Jvm.Cond.fieldLinkNest "BlackoutStart$State" (240 : Nat) "BlackoutStart$Order" "row" "[I" "BlackoutStart") ∈ lw_tbl := lw_at lw_m2 230 rfl
theorem q553 : (Jvm.Cond.fieldLinkNest "BlackoutStart$State" (192 : Nat) "BlackoutStart$Order" "many" "I" "BlackoutStart") ∈ lw_tbl := lw_at lw_m2 232 rfl
theorem q560 : (Jvm.Cond.classLink "BlackoutStart$State" (53 : Nat) "BlackoutStart$Wire") ∈ lw_all := lw_g (lw_at lw_m2 239 rfl) rfl
theorem q562 : (Jvm.Cond.methodLink "BlackoutStart$State" (60 : Nat) ({ cls := "BlackoutStart$Wire", name := "<init>", desc := "([I)V" } : Jvm.MethodName)) ∈ lw_all := lw_g (lw_at lw_m3 1 rfl) rfl
theorem q567 : (Jvm.Cond.fieldLinkNest "BlackoutStart$State" (206 : Nat) "BlackoutStart$Wire" "messages" "[I" "BlackoutStart") ∈ lw_tbl := lw_at lw_m3 6 rfl
theorem q574 : (Jvm.Cond.fieldLinkNest "BlackoutStart$State" (189 : Nat) "BlackoutStart$Wire" "many" "I" "BlackoutStart") ∈ lw_tbl := lw_at lw_m3 13 rfl
theorem q589 : (Jvm.Cond.fieldLink "BlackoutStart$State" (49 : Nat) "BlackoutStart$State" "setup" "LBlackoutStart$Setup;") ∈ lw_all := lw_g (lw_at lw_m3 28 rfl) rfl
theorem q591 : (Jvm.Cond.fieldLink "BlackoutStart$State" (9 : Nat) "BlackoutStart$State" "state" "[I") ∈ lw_all := lw_g (lw_at lw_m3 30 rfl) rfl
theorem q593 : (Jvm.Cond.fieldLink "BlackoutStart$State" (15 : Nat) "BlackoutStart$State" "left" "[I") ∈ lw_all := lw_g (lw_at lw_m3 32 rfl) rfl
theorem q595 : (Jvm.Cond.fieldLink "BlackoutStart$State" (18 : Nat) "BlackoutStart$State" "starts" "[I") ∈ lw_all := lw_g (lw_at lw_m3 34 rfl) rfl
theorem q597 : (Jvm.Cond.fieldLink "BlackoutStart$State" (21 : Nat) "BlackoutStart$State" "ranAt" "[I") ∈ lw_all := lw_g (lw_at lw_m3 36 rfl) rfl
theorem q599 : (Jvm.Cond.fieldLink "BlackoutStart$State" (24 : Nat) "BlackoutStart$State" "askedAt" "[I") ∈ lw_all := lw_g (lw_at lw_m3 38 rfl) rfl
theorem q600 : (Jvm.Cond.fieldLink "BlackoutStart$State" (27 : Nat) "BlackoutStart$State" "mark" "[I") ∈ lw_all := lw_g (lw_at lw_m3 39 rfl) rfl
theorem q602 : (Jvm.Cond.fieldLink "BlackoutStart$State" (30 : Nat) "BlackoutStart$State" "time" "[I") ∈ lw_all := lw_g (lw_at lw_m3 41 rfl) rfl
theorem q604 : (Jvm.Cond.fieldLink "BlackoutStart$State" (33 : Nat) "BlackoutStart$State" "priority" "[I") ∈ lw_all := lw_g (lw_at lw_m3 43 rfl) rfl
theorem q606 : (Jvm.Cond.fieldLink "BlackoutStart$State" (63 : Nat) "BlackoutStart$State" "wire" "LBlackoutStart$Wire;") ∈ lw_all := lw_g (lw_at lw_m3 45 rfl) rfl
theorem q608 : (Jvm.Cond.fieldLink "BlackoutStart$State" (39 : Nat) "BlackoutStart$State" "learned" "LBlackoutStart$Order;") ∈ lw_all := lw_g (lw_at lw_m3 47 rfl) rfl
theorem q610 : (Jvm.Cond.fieldLink "BlackoutStart$State" (43 : Nat) "BlackoutStart$State" "present" "LBlackoutStart$Order;") ∈ lw_all := lw_g (lw_at lw_m3 49 rfl) rfl
theorem q611 : (Jvm.Cond.fieldLink "BlackoutStart$State" (46 : Nat) "BlackoutStart$State" "received" "[I") ∈ lw_all := lw_g (lw_at lw_m3 50 rfl) rfl
theorem q612 : (Jvm.Cond.fieldLink "BlackoutStart$State" (88 : Nat) "BlackoutStart$State" "wants" "I") ∈ lw_all := lw_g (lw_at lw_m3 51 rfl) rfl
theorem q614 : (Jvm.Cond.fieldLink "BlackoutStart$State" (129 : Nat) "BlackoutStart$State" "polled" "I") ∈ lw_all := lw_g (lw_at lw_m3 53 rfl) rfl
theorem q615 : (Jvm.Cond.fieldLink "BlackoutStart$State" (132 : Nat) "BlackoutStart$State" "stopped" "I") ∈ lw_all := lw_g (lw_at lw_m3 54 rfl) rfl
theorem q616 : (Jvm.Cond.fieldLink "BlackoutStart$State" (135 : Nat) "BlackoutStart$State" "peaks" "I") ∈ lw_all := lw_g (lw_at lw_m3 55 rfl) rfl
theorem q618 : (Jvm.Cond.fieldLink "BlackoutStart$State" (71 : Nat) "BlackoutStart$State" "fuse" "I") ∈ lw_all := lw_g (lw_at lw_m3 57 rfl) rfl
theorem q620 : (Jvm.Cond.fieldLink "BlackoutStart$State" (75 : Nat) "BlackoutStart$State" "retry" "I") ∈ lw_all := lw_g (lw_at lw_m3 59 rfl) rfl
theorem q622 : (Jvm.Cond.fieldLink "BlackoutStart$State" (138 : Nat) "BlackoutStart$State" "tick" "I") ∈ lw_all := lw_g (lw_at lw_m3 61 rfl) rfl
theorem q624 : (Jvm.Cond.fieldLink "BlackoutStart$State" (141 : Nat) "BlackoutStart$State" "darkUntil" "I") ∈ lw_all := lw_g (lw_at lw_m3 63 rfl) rfl
theorem q626 : (Jvm.Cond.fieldLink "BlackoutStart$State" (144 : Nat) "BlackoutStart$State" "blackouts" "I") ∈ lw_all := lw_g (lw_at lw_m3 65 rfl) rfl
theorem q628 : (Jvm.Cond.fieldLink "BlackoutStart$State" (147 : Nat) "BlackoutStart$State" "trips" "I") ∈ lw_all := lw_g (lw_at lw_m3 67 rfl) rfl
theorem q630 : (Jvm.Cond.fieldLink "BlackoutStart$State" (150 : Nat) "BlackoutStart$State" "greatest" "I") ∈ lw_all := lw_g (lw_at lw_m3 69 rfl) rfl
theorem q632 : (Jvm.Cond.fieldLink "BlackoutStart$State" (246 : Nat) "BlackoutStart$State" "meter" "I") ∈ lw_all := lw_g (lw_at lw_m3 71 rfl) rfl
theorem q634 : (Jvm.Cond.fieldLink "BlackoutStart$State" (80 : Nat) "BlackoutStart$State" "isStrict" "Z") ∈ lw_all := lw_g (lw_at lw_m3 73 rfl) rfl
theorem q636 : (Jvm.Cond.laysFinal "BlackoutStart$State" "BlackoutStart$State" "setup" "LBlackoutStart$Setup;") ∈ lw_all := lw_g (lw_at lw_m3 75 rfl) rfl
theorem q637 : (Jvm.Cond.soleField "BlackoutStart$State" "setup") ∈ lw_all := lw_g (lw_at lw_m3 76 rfl) rfl
theorem q638 : (Jvm.Cond.laysFinal "BlackoutStart$State" "BlackoutStart$State" "state" "[I") ∈ lw_all := lw_g (lw_at lw_m3 77 rfl) rfl
theorem q639 : (Jvm.Cond.soleField "BlackoutStart$State" "state") ∈ lw_all := lw_g (lw_at lw_m3 78 rfl) rfl
theorem q640 : (Jvm.Cond.laysFinal "BlackoutStart$State" "BlackoutStart$State" "left" "[I") ∈ lw_all := lw_g (lw_at lw_m3 79 rfl) rfl
theorem q641 : (Jvm.Cond.soleField "BlackoutStart$State" "left") ∈ lw_all := lw_g (lw_at lw_m3 80 rfl) rfl
theorem q642 : (Jvm.Cond.laysFinal "BlackoutStart$State" "BlackoutStart$State" "starts" "[I") ∈ lw_all := lw_g (lw_at lw_m3 81 rfl) rfl
theorem q643 : (Jvm.Cond.soleField "BlackoutStart$State" "starts") ∈ lw_all := lw_g (lw_at lw_m3 82 rfl) rfl
theorem q644 : (Jvm.Cond.laysFinal "BlackoutStart$State" "BlackoutStart$State" "ranAt" "[I") ∈ lw_all := lw_g (lw_at lw_m3 83 rfl) rfl
theorem q645 : (Jvm.Cond.soleField "BlackoutStart$State" "ranAt") ∈ lw_all := lw_g (lw_at lw_m3 84 rfl) rfl
theorem q646 : (Jvm.Cond.laysFinal "BlackoutStart$State" "BlackoutStart$State" "askedAt" "[I") ∈ lw_all := lw_g (lw_at lw_m3 85 rfl) rfl
theorem q647 : (Jvm.Cond.soleField "BlackoutStart$State" "askedAt") ∈ lw_all := lw_g (lw_at lw_m3 86 rfl) rfl
theorem q648 : (Jvm.Cond.laysFinal "BlackoutStart$State" "BlackoutStart$State" "mark" "[I") ∈ lw_all := lw_g (lw_at lw_m3 87 rfl) rfl
theorem q649 : (Jvm.Cond.soleField "BlackoutStart$State" "mark") ∈ lw_all := lw_g (lw_at lw_m3 88 rfl) rfl
theorem q650 : (Jvm.Cond.laysFinal "BlackoutStart$State" "BlackoutStart$State" "time" "[I") ∈ lw_all := lw_g (lw_at lw_m3 89 rfl) rfl
theorem q651 : (Jvm.Cond.soleField "BlackoutStart$State" "time") ∈ lw_all := lw_g (lw_at lw_m3 90 rfl) rfl
theorem q652 : (Jvm.Cond.laysFinal "BlackoutStart$State" "BlackoutStart$State" "priority" "[I") ∈ lw_all := lw_g (lw_at lw_m3 91 rfl) rfl
theorem q653 : (Jvm.Cond.soleField "BlackoutStart$State" "priority") ∈ lw_all := lw_g (lw_at lw_m3 92 rfl) rfl
theorem q654 : (Jvm.Cond.laysFinal "BlackoutStart$State" "BlackoutStart$State" "wire" "LBlackoutStart$Wire;") ∈ lw_all := lw_g (lw_at lw_m3 93 rfl) rfl
theorem q655 : (Jvm.Cond.soleField "BlackoutStart$State" "wire") ∈ lw_all := lw_g (lw_at lw_m3 94 rfl) rfl
theorem q656 : (Jvm.Cond.laysFinal "BlackoutStart$State" "BlackoutStart$State" "learned" "LBlackoutStart$Order;") ∈ lw_all := lw_g (lw_at lw_m3 95 rfl) rfl
theorem q657 : (Jvm.Cond.soleField "BlackoutStart$State" "learned") ∈ lw_all := lw_g (lw_at lw_m3 96 rfl) rfl
theorem q658 : (Jvm.Cond.laysFinal "BlackoutStart$State" "BlackoutStart$State" "present" "LBlackoutStart$Order;") ∈ lw_all := lw_g (lw_at lw_m3 97 rfl) rfl
theorem q659 : (Jvm.Cond.soleField "BlackoutStart$State" "present") ∈ lw_all := lw_g (lw_at lw_m3 98 rfl) rfl
theorem q660 : (Jvm.Cond.laysFinal "BlackoutStart$State" "BlackoutStart$State" "received" "[I") ∈ lw_all := lw_g (lw_at lw_m3 99 rfl) rfl
theorem q661 : (Jvm.Cond.soleField "BlackoutStart$State" "received") ∈ lw_all := lw_g (lw_at lw_m3 100 rfl) rfl
theorem q662 : (Jvm.Cond.lays "BlackoutStart$State" "BlackoutStart$State" "wants" "I") ∈ lw_all := lw_g (lw_at lw_m3 101 rfl) rfl
theorem q663 : (Jvm.Cond.soleField "BlackoutStart$State" "wants") ∈ lw_all := lw_g (lw_at lw_m3 102 rfl) rfl
theorem q664 : (Jvm.Cond.lays "BlackoutStart$State" "BlackoutStart$State" "polled" "I") ∈ lw_all := lw_g (lw_at lw_m3 103 rfl) rfl
theorem q665 : (Jvm.Cond.soleField "BlackoutStart$State" "polled") ∈ lw_all := lw_g (lw_at lw_m3 104 rfl) rfl
theorem q666 : (Jvm.Cond.lays "BlackoutStart$State" "BlackoutStart$State" "stopped" "I") ∈ lw_all := lw_g (lw_at lw_m3 105 rfl) rfl
theorem q667 : (Jvm.Cond.soleField "BlackoutStart$State" "stopped") ∈ lw_all := lw_g (lw_at lw_m3 106 rfl) rfl
theorem q668 : (Jvm.Cond.lays "BlackoutStart$State" "BlackoutStart$State" "peaks" "I") ∈ lw_all := lw_g (lw_at lw_m3 107 rfl) rfl
theorem q669 : (Jvm.Cond.soleField "BlackoutStart$State" "peaks") ∈ lw_all := lw_g (lw_at lw_m3 108 rfl) rfl
theorem q670 : (Jvm.Cond.lays "BlackoutStart$State" "BlackoutStart$State" "fuse" "I") ∈ lw_all := lw_g (lw_at lw_m3 109 rfl) rfl
theorem q671 : (Jvm.Cond.soleField "BlackoutStart$State" "fuse") ∈ lw_all := lw_g (lw_at lw_m3 110 rfl) rfl
theorem q672 : (Jvm.Cond.lays "BlackoutStart$State" "BlackoutStart$State" "retry" "I") ∈ lw_all := lw_g (lw_at lw_m3 111 rfl) rfl
theorem q673 : (Jvm.Cond.soleField "BlackoutStart$State" "retry") ∈ lw_all := lw_g (lw_at lw_m3 112 rfl) rfl
theorem q674 : (Jvm.Cond.lays "BlackoutStart$State" "BlackoutStart$State" "tick" "I") ∈ lw_all := lw_g (lw_at lw_m3 113 rfl) rfl
theorem q675 : (Jvm.Cond.soleField "BlackoutStart$State" "tick") ∈ lw_all := lw_g (lw_at lw_m3 114 rfl) rfl
theorem q676 : (Jvm.Cond.lays "BlackoutStart$State" "BlackoutStart$State" "darkUntil" "I") ∈ lw_all := lw_g (lw_at lw_m3 115 rfl) rfl
theorem q677 : (Jvm.Cond.soleField "BlackoutStart$State" "darkUntil") ∈ lw_all := lw_g (lw_at lw_m3 116 rfl) rfl
theorem q678 : (Jvm.Cond.lays "BlackoutStart$State" "BlackoutStart$State" "blackouts" "I") ∈ lw_all := lw_g (lw_at lw_m3 117 rfl) rfl
theorem q679 : (Jvm.Cond.soleField "BlackoutStart$State" "blackouts") ∈ lw_all := lw_g (lw_at lw_m3 118 rfl) rfl
theorem q680 : (Jvm.Cond.lays "BlackoutStart$State" "BlackoutStart$State" "trips" "I") ∈ lw_all := lw_g (lw_at lw_m3 119 rfl) rfl
theorem q681 : (Jvm.Cond.soleField "BlackoutStart$State" "trips") ∈ lw_all := lw_g (lw_at lw_m3 120 rfl) rfl
theorem q682 : (Jvm.Cond.lays "BlackoutStart$State" "BlackoutStart$State" "greatest" "I") ∈ lw_all := lw_g (lw_at lw_m3 121 rfl) rfl
theorem q683 : (Jvm.Cond.soleField "BlackoutStart$State" "greatest") ∈ lw_all := lw_g (lw_at lw_m3 122 rfl) rfl
theorem q684 : (Jvm.Cond.lays "BlackoutStart$State" "BlackoutStart$State" "meter" "I") ∈ lw_all := lw_g (lw_at lw_m3 123 rfl) rfl
theorem q685 : (Jvm.Cond.soleField "BlackoutStart$State" "meter") ∈ lw_all := lw_g (lw_at lw_m3 124 rfl) rfl
theorem q686 : (Jvm.Cond.lays "BlackoutStart$State" "BlackoutStart$State" "isStrict" "Z") ∈ lw_all := lw_g (lw_at lw_m3 125 rfl) rfl
theorem q687 : (Jvm.Cond.soleField "BlackoutStart$State" "isStrict") ∈ lw_all := lw_g (lw_at lw_m3 126 rfl) rfl
theorem q688 : (Jvm.Cond.superclass "BlackoutStart$State" "java/lang/Object") ∈ lw_all := lw_g (lw_at lw_m3 127 rfl) rfl
theorem q690 : (Jvm.Cond.instanceMethod ({ cls := "BlackoutStart$State", name := "begin", desc := "()LBlackoutStart$State;" } : Jvm.MethodName)) ∈ lw_all := lw_g (lw_at lw_m3 129 rfl) rfl
theorem q691 : (Jvm.Cond.selects "BlackoutStart$State" ({ cls := "BlackoutStart$State", name := "begin", desc := "()LBlackoutStart$State;" } : Jvm.MethodName) ({ cls := "BlackoutStart$State", name := "begin", desc := "()LBlackoutStart$State;" } : Jvm.MethodName)) ∈ lw_all := lw_g (lw_at lw_m3 130 rfl) rfl
theorem q692 : (Jvm.Cond.code ({ cls := "BlackoutStart$State", name := "begin", desc := "()LBlackoutStart$State;" } : Jvm.MethodName) prog_10_method_2_code (2 : Nat) (Option.some (Jvm.ClassFile.FieldType.object "BlackoutStart$State"))) ∈ lw_all := lw_g (lw_at lw_m3 131 rfl) rfl
theorem q693 : (Jvm.Cond.methodLink "BlackoutStart$State" (81 : Nat) ({ cls := "BlackoutStart$Setup", name := "size", desc := "()I" } : Jvm.MethodName)) ∈ lw_all := lw_g (lw_at lw_m3 132 rfl) rfl
theorem q707 : (Jvm.Cond.methodLinkNest "BlackoutStart$State" (91 : Nat) ({ cls := "BlackoutStart", name := "has", desc := "(II)Z" } : Jvm.MethodName) "BlackoutStart") ∈ lw_tbl := lw_at lw_m3 146 rfl
theorem q710 : (Jvm.Cond.interfaceEntry "BlackoutStart$State" (99 : Nat)) ∈ lw_tbl := lw_at lw_m3 149 rfl
theorem q711 : (Jvm.Cond.methodLink "BlackoutStart$State" (99 : Nat) ({ cls := "java/util/List", name := "get", desc := "(I)Ljava/lang/Object;" } : Jvm.MethodName)) ∈ lw_all := lw_g (lw_at lw_m3 150 rfl) rfl
theorem q729 : (Jvm.Cond.classLink "BlackoutStart$State" (105 : Nat) "BlackoutStart$Outlet") ∈ lw_all := lw_g (lw_at lw_m3 168 rfl) rfl
theorem q785 : (Jvm.Cond.instanceMethod ({ cls := "BlackoutStart$State", name := "rights", desc := "()I" } : Jvm.MethodName)) ∈ lw_all := lw_g (lw_at lw_m3 224 rfl) rfl
theorem q786 : (Jvm.Cond.selects "BlackoutStart$State" ({ cls := "BlackoutStart$State", name := "rights", desc := "()I" } : Jvm.MethodName) ({ cls := "BlackoutStart$State", name := "rights", desc := "()I" } : Jvm.MethodName)) ∈ lw_all := lw_g (lw_at lw_m3 225 rfl) rfl
theorem q787 : (Jvm.Cond.code ({ cls := "BlackoutStart$State", name := "rights", desc := "()I" } : Jvm.MethodName) prog_10_method_8_code (5 : Nat) (Option.some Jvm.ClassFile.FieldType.int)) ∈ lw_all := lw_g (lw_at lw_m3 226 rfl) rfl
theorem q788 : (Jvm.Cond.methodLink "BlackoutStart$State" (153 : Nat) ({ cls := "BlackoutStart$State", name := "at", desc := "(I)LBlackoutStart$Outlet;" } : Jvm.MethodName)) ∈ lw_all := lw_g (lw_at lw_m3 227 rfl) rfl
theorem q789 : (Jvm.Cond.instanceMethod ({ cls := "BlackoutStart$State", name := "at", desc := "(I)LBlackoutStart$Outlet;" } : Jvm.MethodName)) ∈ lw_all := lw_g (lw_at lw_m3 228 rfl) rfl
theorem q790 : (Jvm.Cond.selects "BlackoutStart$State" ({ cls := "BlackoutStart$State", name := "at", desc := "(I)LBlackoutStart$Outlet;" } : Jvm.MethodName) ({ cls := "BlackoutStart$State", name := "at", desc := "(I)LBlackoutStart$Outlet;" } : Jvm.MethodName)) ∈ lw_all := lw_g (lw_at lw_m3 229 rfl) rfl
theorem q791 : (Jvm.Cond.code ({ cls := "BlackoutStart$State", name := "at", desc := "(I)LBlackoutStart$Outlet;" } : Jvm.MethodName) prog_10_method_5_code (2 : Nat) (Option.some (Jvm.ClassFile.FieldType.object "BlackoutStart$Outlet"))) ∈ lw_all := lw_g (lw_at lw_m3 230 rfl) rfl
theorem q801 : (Jvm.Cond.instanceMethod ({ cls := "BlackoutStart$State", name := "granted", desc := "()LBlackoutStart$Order;" } : Jvm.MethodName)) ∈ lw_all := lw_g (lw_at lw_m4 0 rfl) rfl
theorem q802 : (Jvm.Cond.selects "BlackoutStart$State" ({ cls := "BlackoutStart$State", name := "granted", desc := "()LBlackoutStart$Order;" } : Jvm.MethodName) ({ cls := "BlackoutStart$State", name := "granted", desc := "()LBlackoutStart$Order;" } : Jvm.MethodName)) ∈ lw_all := lw_g (lw_at lw_m4 1 rfl) rfl
theorem q803 : (Jvm.Cond.code ({ cls := "BlackoutStart$State", name := "granted", desc := "()LBlackoutStart$Order;" } : Jvm.MethodName) prog_10_method_26_code (6 : Nat) (Option.some (Jvm.ClassFile.FieldType.object "BlackoutStart$Order"))) ∈ lw_all := lw_g (lw_at lw_m4 2 rfl) rfl
theorem q804 : (Jvm.Cond.methodLink "BlackoutStart$State" (216 : Nat) ({ cls := "BlackoutStart$State", name := "withMark", desc := "(I)I" } : Jvm.MethodName)) ∈ lw_all := lw_g (lw_at lw_m4 3 rfl) rfl
theorem q805 : (Jvm.Cond.instanceMethod ({ cls := "BlackoutStart$State", name := "withMark", desc := "(I)I" } : Jvm.MethodName)) ∈ lw_all := lw_g (lw_at lw_m4 4 rfl) rfl
theorem q806 : (Jvm.Cond.selects "BlackoutStart$State" ({ cls := "BlackoutStart$State", name := "withMark", desc := "(I)I" } : Jvm.MethodName) ({ cls := "BlackoutStart$State", name := "withMark", desc := "(I)I" } : Jvm.MethodName)) ∈ lw_all := lw_g (lw_at lw_m4 5 rfl) rfl
theorem q807 : (Jvm.Cond.code ({ cls := "BlackoutStart$State", name := "withMark", desc := "(I)I" } : Jvm.MethodName) prog_10_method_7_code (4 : Nat) (Option.some Jvm.ClassFile.FieldType.int)) ∈ lw_all := lw_g (lw_at lw_m4 6 rfl) rfl
theorem q808 : (Jvm.Cond.methodLink "BlackoutStart$State" (231 : Nat) ({ cls := "BlackoutStart$State", name := "reserved", desc := "()I" } : Jvm.MethodName)) ∈ lw_all := lw_g (lw_at lw_m4 7 rfl) rfl
theorem q809 : (Jvm.Cond.instanceMethod ({ cls := "BlackoutStart$State", name := "reserved", desc := "()I" } : Jvm.MethodName)) ∈ lw_all := lw_g (lw_at lw_m4 8 rfl) rfl
theorem q810 : (Jvm.Cond.selects "BlackoutStart$State" ({ cls := "BlackoutStart$State", name := "reserved", desc := "()I" } : Jvm.MethodName) ({ cls := "BlackoutStart$State", name := "reserved", desc := "()I" } : Jvm.MethodName)) ∈ lw_all := lw_g (lw_at lw_m4 9 rfl) rfl
theorem q811 : (Jvm.Cond.code ({ cls := "BlackoutStart$State", name := "reserved", desc := "()I" } : Jvm.MethodName) prog_10_method_14_code (3 : Nat) (Option.some Jvm.ClassFile.FieldType.int)) ∈ lw_all := lw_g (lw_at lw_m4 10 rfl) rfl
theorem q812 : (Jvm.Cond.methodLink "BlackoutStart$State" (176 : Nat) ({ cls := "BlackoutStart$State", name := "reserved", desc := "(I)I" } : Jvm.MethodName)) ∈ lw_all := lw_g (lw_at lw_m4 11 rfl) rfl
theorem q813 : (Jvm.Cond.instanceMethod ({ cls := "BlackoutStart$State", name := "reserved", desc := "(I)I" } : Jvm.MethodName)) ∈ lw_all := lw_g (lw_at lw_m4 12 rfl) rfl
theorem q814 : (Jvm.Cond.selects "BlackoutStart$State" ({ cls := "BlackoutStart$State", name := "reserved", desc := "(I)I" } : Jvm.MethodName) ({ cls := "BlackoutStart$State", name := "reserved", desc := "(I)I" } : Jvm.MethodName)) ∈ lw_all := lw_g (lw_at lw_m4 13 rfl) rfl
theorem q815 : (Jvm.Cond.code ({ cls := "BlackoutStart$State", name := "reserved", desc := "(I)I" } : Jvm.MethodName) prog_10_method_13_code (2 : Nat) (Option.some Jvm.ClassFile.FieldType.int)) ∈ lw_all := lw_g (lw_at lw_m4 14 rfl) rfl
theorem q816 : (Jvm.Cond.methodLink "BlackoutStart$State" (173 : Nat) ({ cls := "BlackoutStart$State", name := "expected", desc := "(I)I" } : Jvm.MethodName)) ∈ lw_all := lw_g (lw_at lw_m4 15 rfl) rfl
theorem q817 : (Jvm.Cond.instanceMethod ({ cls := "BlackoutStart$State", name := "expected", desc := "(I)I" } : Jvm.MethodName)) ∈ lw_all := lw_g (lw_at lw_m4 16 rfl) rfl
theorem q818 : (Jvm.Cond.selects "BlackoutStart$State" ({ cls := "BlackoutStart$State", name := "expected", desc := "(I)I" } : Jvm.MethodName) ({ cls := "BlackoutStart$State", name := "expected", desc := "(I)I" } : Jvm.MethodName)) ∈ lw_all := lw_g (lw_at lw_m4 17 rfl) rfl
theorem q819 : (Jvm.Cond.code ({ cls := "BlackoutStart$State", name := "expected", desc := "(I)I" } : Jvm.MethodName) prog_10_method_12_code (2 : Nat) (Option.some Jvm.ClassFile.FieldType.int)) ∈ lw_all := lw_g (lw_at lw_m4 18 rfl) rfl
theorem q820 : (Jvm.Cond.methodLink "BlackoutStart$State" (233 : Nat) ({ cls := "BlackoutStart$State", name := "first", desc := "(I)I" } : Jvm.MethodName)) ∈ lw_all := lw_g (lw_at lw_m4 19 rfl) rfl
theorem q821 : (Jvm.Cond.privateMethod ({ cls := "BlackoutStart$State", name := "first", desc := "(I)I" } : Jvm.MethodName)) ∈ lw_tbl := lw_at lw_m4 20 rfl
theorem q822 : (Jvm.Cond.instanceMethod ({ cls := "BlackoutStart$State", name := "first", desc := "(I)I" } : Jvm.MethodName)) ∈ lw_all := lw_g (lw_at lw_m4 21 rfl) rfl
theorem q823 : (Jvm.Cond.code ({ cls := "BlackoutStart$State", name := "first", desc := "(I)I" } : Jvm.MethodName) prog_10_method_25_code (4 : Nat) (Option.some Jvm.ClassFile.FieldType.int)) ∈ lw_all := lw_g (lw_at lw_m4 22 rfl) rfl
theorem q824 : (Jvm.Cond.methodLink "BlackoutStart$State" (228 : Nat) ({ cls := "BlackoutStart$State", name := "isAhead", desc := "(II)Z" } : Jvm.MethodName)) ∈ lw_all := lw_g (lw_at lw_m4 23 rfl) rfl
theorem q825 : (Jvm.Cond.privateMethod ({ cls := "BlackoutStart$State", name := "isAhead", desc := "(II)Z" } : Jvm.MethodName)) ∈ lw_tbl := lw_at lw_m4 24 rfl
theorem q826 : (Jvm.Cond.instanceMethod ({ cls := "BlackoutStart$State", name := "isAhead", desc := "(II)Z" } : Jvm.MethodName)) ∈ lw_all := lw_g (lw_at lw_m4 25 rfl) rfl
theorem q827 : (Jvm.Cond.code ({ cls := "BlackoutStart$State", name := "isAhead", desc := "(II)Z" } : Jvm.MethodName) prog_10_method_24_code (5 : Nat) (Option.some Jvm.ClassFile.FieldType.boolean)) ∈ lw_all := lw_g (lw_at lw_m4 26 rfl) rfl
theorem q828 : (Jvm.Cond.methodLink "BlackoutStart$State" (225 : Nat) ({ cls := "BlackoutStart$Order", name := "placeOf", desc := "(I)I" } : Jvm.MethodName)) ∈ lw_all := lw_g (lw_at lw_m4 27 rfl) rfl
theorem q832 : (Jvm.Cond.methodLink "BlackoutStart$State" (193 : Nat) ({ cls := "BlackoutStart$Order", name := "add", desc := "(I)V" } : Jvm.MethodName)) ∈ lw_all := lw_g (lw_at lw_m4 31 rfl) rfl
theorem q931 : (Jvm.Cond.selects "BlackoutStart$State" ({ cls := "java/lang/Object", name := "getClass", desc := "()Ljava/lang/Class;" } : Jvm.MethodName) ({ cls := "java/lang/Object", name := "getClass", desc := "()Ljava/lang/Class;" } : Jvm.MethodName)) ∈ lw_all := lw_g (lw_at lw_m4 130 rfl) rfl
theorem q954 : (Jvm.Cond.instanceMethod ({ cls := "BlackoutStart$State", name := "copy", desc := "()LBlackoutStart$State;" } : Jvm.MethodName)) ∈ lw_all := lw_g (lw_at lw_m4 153 rfl) rfl
theorem q955 : (Jvm.Cond.selects "BlackoutStart$State" ({ cls := "BlackoutStart$State", name := "copy", desc := "()LBlackoutStart$State;" } : Jvm.MethodName) ({ cls := "BlackoutStart$State", name := "copy", desc := "()LBlackoutStart$State;" } : Jvm.MethodName)) ∈ lw_all := lw_g (lw_at lw_m4 154 rfl) rfl
theorem q956 : (Jvm.Cond.code ({ cls := "BlackoutStart$State", name := "copy", desc := "()LBlackoutStart$State;" } : Jvm.MethodName) prog_10_method_4_code (2 : Nat) (Option.some (Jvm.ClassFile.FieldType.object "BlackoutStart$State"))) ∈ lw_all := lw_g (lw_at lw_m4 155 rfl) rfl
theorem q957 : (Jvm.Cond.classLink "BlackoutStart$State" (10 : Nat) "BlackoutStart$State") ∈ lw_all := lw_g (lw_at lw_m4 156 rfl) rfl
theorem q958 : (Jvm.Cond.methodLink "BlackoutStart$State" (115 : Nat) ({ cls := "BlackoutStart$State", name := "<init>", desc := "(LBlackoutStart$Setup;)V" } : Jvm.MethodName)) ∈ lw_all := lw_g (lw_at lw_m4 157 rfl) rfl
theorem q959 : (Jvm.Cond.methodLink "BlackoutStart$State" (118 : Nat) ({ cls := "BlackoutStart$State", name := "copy", desc := "([I[I)V" } : Jvm.MethodName)) ∈ lw_all := lw_g (lw_at lw_m4 158 rfl) rfl
theorem q960 : (Jvm.Cond.static ({ cls := "BlackoutStart$State", name := "copy", desc := "([I[I)V" } : Jvm.MethodName)) ∈ lw_all := lw_g (lw_at lw_m4 159 rfl) rfl
theorem q961 : (Jvm.Cond.code ({ cls := "BlackoutStart$State", name := "copy", desc := "([I[I)V" } : Jvm.MethodName) prog_10_method_3_code (2 : Nat) (Option.none : Option Jvm.ClassFile.FieldType)) ∈ lw_all := lw_g (lw_at lw_m4 160 rfl) rfl
theorem q962 : (Jvm.Cond.methodLink "BlackoutStart$State" (109 : Nat) ({ cls := "java/lang/System", name := "arraycopy", desc := "(Ljava/lang/Object;ILjava/lang/Object;II)V" } : Jvm.MethodName)) ∈ lw_all := lw_g (lw_at lw_m4 161 rfl) rfl
theorem q963 : (Jvm.Cond.methodLink "BlackoutStart$State" (122 : Nat) ({ cls := "BlackoutStart$Wire", name := "become", desc := "(LBlackoutStart$Wire;)V" } : Jvm.MethodName)) ∈ lw_all := lw_g (lw_at lw_m4 162 rfl) rfl
theorem q968 : (Jvm.Cond.methodLink "BlackoutStart$State" (126 : Nat) ({ cls := "BlackoutStart$Order", name := "become", desc := "(LBlackoutStart$Order;)V" } : Jvm.MethodName)) ∈ lw_all := lw_g (lw_at lw_m4 167 rfl) rfl
theorem q974 : (Jvm.Cond.instanceMethod ({ cls := "BlackoutStart$State", name := "forget", desc := "()I" } : Jvm.MethodName)) ∈ lw_all := lw_g (lw_at lw_m4 173 rfl) rfl
theorem q975 : (Jvm.Cond.selects "BlackoutStart$State" ({ cls := "BlackoutStart$State", name := "forget", desc := "()I" } : Jvm.MethodName) ({ cls := "BlackoutStart$State", name := "forget", desc := "()I" } : Jvm.MethodName)) ∈ lw_all := lw_g (lw_at lw_m4 174 rfl) rfl
theorem q976 : (Jvm.Cond.code ({ cls := "BlackoutStart$State", name := "forget", desc := "()I" } : Jvm.MethodName) prog_10_method_30_code (2 : Nat) (Option.some Jvm.ClassFile.FieldType.int)) ∈ lw_all := lw_g (lw_at lw_m4 175 rfl) rfl
theorem q977 : (Jvm.Cond.methodLink "BlackoutStart$State" (294 : Nat) ({ cls := "java/lang/Integer", name := "bitCount", desc := "(I)I" } : Jvm.MethodName)) ∈ lw_all := lw_g (lw_at lw_m4 176 rfl) rfl
theorem q1241 : (Jvm.Cond.fieldLinkNest "BlackoutStart$State" (166 : Nat) "BlackoutStart$Outlet" "steady" "I" "BlackoutStart") ∈ lw_tbl := lw_at lw_m5 200 rfl
theorem q1244 : (Jvm.Cond.fieldLinkNest "BlackoutStart$State" (157 : Nat) "BlackoutStart$Outlet" "inrush" "I" "BlackoutStart") ∈ lw_tbl := lw_at lw_m5 203 rfl
theorem q1247 : (Jvm.Cond.fieldLinkNest "BlackoutStart$State" (163 : Nat) "BlackoutStart$Outlet" "peak" "I" "BlackoutStart") ∈ lw_tbl := lw_at lw_m5 206 rfl
theorem q1251 : (Jvm.Cond.fieldLinkNest "BlackoutStart$State" (203 : Nat) "BlackoutStart$Outlet" "ticks" "I" "BlackoutStart") ∈ lw_tbl := lw_at lw_m5 210 rfl
theorem q1253 : (Jvm.Cond.fieldLinkNest "BlackoutStart$State" (107 : Nat) "BlackoutStart$Outlet" "priority" "I" "BlackoutStart") ∈ lw_tbl := lw_at lw_m5 212 rfl
theorem q1487 : (Jvm.Cond.instanceMethod ({ cls := "BlackoutStart$State", name := "isDark", desc := "()Z" } : Jvm.MethodName)) ∈ lw_all := lw_g (lw_at lw_m6 206 rfl) rfl
theorem q1488 : (Jvm.Cond.selects "BlackoutStart$State" ({ cls := "BlackoutStart$State", name := "isDark", desc := "()Z" } : Jvm.MethodName) ({ cls := "BlackoutStart$State", name := "isDark", desc := "()Z" } : Jvm.MethodName)) ∈ lw_all := lw_g (lw_at lw_m6 207 rfl) rfl
theorem q1489 : (Jvm.Cond.code ({ cls := "BlackoutStart$State", name := "isDark", desc := "()Z" } : Jvm.MethodName) prog_10_method_9_code (1 : Nat) (Option.some Jvm.ClassFile.FieldType.boolean)) ∈ lw_all := lw_g (lw_at lw_m6 208 rfl) rfl
theorem q1533 : (Jvm.Cond.instanceMethod ({ cls := "BlackoutStart$State", name := "inState", desc := "(I)I" } : Jvm.MethodName)) ∈ lw_all := lw_g (lw_at lw_m7 12 rfl) rfl
theorem q1534 : (Jvm.Cond.selects "BlackoutStart$State" ({ cls := "BlackoutStart$State", name := "inState", desc := "(I)I" } : Jvm.MethodName) ({ cls := "BlackoutStart$State", name := "inState", desc := "(I)I" } : Jvm.MethodName)) ∈ lw_all := lw_g (lw_at lw_m7 13 rfl) rfl
theorem q1535 : (Jvm.Cond.code ({ cls := "BlackoutStart$State", name := "inState", desc := "(I)I" } : Jvm.MethodName) prog_10_method_6_code (4 : Nat) (Option.some Jvm.ClassFile.FieldType.int)) ∈ lw_all := lw_g (lw_at lw_m7 14 rfl) rfl
theorem q1544 : (Jvm.Cond.instanceMethod ({ cls := "BlackoutStart$State", name := "load", desc := "()I" } : Jvm.MethodName)) ∈ lw_all := lw_g (lw_at lw_m7 23 rfl) rfl
theorem q1545 : (Jvm.Cond.selects "BlackoutStart$State" ({ cls := "BlackoutStart$State", name := "load", desc := "()I" } : Jvm.MethodName) ({ cls := "BlackoutStart$State", name := "load", desc := "()I" } : Jvm.MethodName)) ∈ lw_all := lw_g (lw_at lw_m7 24 rfl) rfl
theorem q1546 : (Jvm.Cond.code ({ cls := "BlackoutStart$State", name := "load", desc := "()I" } : Jvm.MethodName) prog_10_method_11_code (3 : Nat) (Option.some Jvm.ClassFile.FieldType.int)) ∈ lw_all := lw_g (lw_at lw_m7 25 rfl) rfl
theorem q1547 : (Jvm.Cond.methodLink "BlackoutStart$State" (169 : Nat) ({ cls := "BlackoutStart$State", name := "draw", desc := "(I)I" } : Jvm.MethodName)) ∈ lw_all := lw_g (lw_at lw_m7 26 rfl) rfl
theorem q1548 : (Jvm.Cond.instanceMethod ({ cls := "BlackoutStart$State", name := "draw", desc := "(I)I" } : Jvm.MethodName)) ∈ lw_all := lw_g (lw_at lw_m7 27 rfl) rfl
theorem q1549 : (Jvm.Cond.selects "BlackoutStart$State" ({ cls := "BlackoutStart$State", name := "draw", desc := "(I)I" } : Jvm.MethodName) ({ cls := "BlackoutStart$State", name := "draw", desc := "(I)I" } : Jvm.MethodName)) ∈ lw_all := lw_g (lw_at lw_m7 28 rfl) rfl
theorem q1550 : (Jvm.Cond.code ({ cls := "BlackoutStart$State", name := "draw", desc := "(I)I" } : Jvm.MethodName) prog_10_method_10_code (2 : Nat) (Option.some Jvm.ClassFile.FieldType.int)) ∈ lw_all := lw_g (lw_at lw_m7 29 rfl) rfl
theorem q1593 : (Jvm.Cond.instanceMethod ({ cls := "BlackoutStart$State", name := "passes", desc := "()V" } : Jvm.MethodName)) ∈ lw_all := lw_g (lw_at lw_m7 72 rfl) rfl
theorem q1594 : (Jvm.Cond.selects "BlackoutStart$State" ({ cls := "BlackoutStart$State", name := "passes", desc := "()V" } : Jvm.MethodName) ({ cls := "BlackoutStart$State", name := "passes", desc := "()V" } : Jvm.MethodName)) ∈ lw_all := lw_g (lw_at lw_m7 73 rfl) rfl
theorem q1595 : (Jvm.Cond.code ({ cls := "BlackoutStart$State", name := "passes", desc := "()V" } : Jvm.MethodName) prog_10_method_29_code (3 : Nat) (Option.none : Option Jvm.ClassFile.FieldType)) ∈ lw_all := lw_g (lw_at lw_m7 74 rfl) rfl
theorem q1596 : (Jvm.Cond.interfaceEntry "BlackoutStart$State" (255 : Nat)) ∈ lw_tbl := lw_at lw_m7 75 rfl
theorem q1597 : (Jvm.Cond.methodLink "BlackoutStart$State" (255 : Nat) ({ cls := "java/util/List", name := "iterator", desc := "()Ljava/util/Iterator;" } : Jvm.MethodName)) ∈ lw_all := lw_g (lw_at lw_m7 76 rfl) rfl
theorem q1624 : (Jvm.Cond.interfaceEntry "BlackoutStart$State" (259 : Nat)) ∈ lw_tbl := lw_at lw_m7 103 rfl
theorem q1625 : (Jvm.Cond.methodLink "BlackoutStart$State" (259 : Nat) ({ cls := "java/util/Iterator", name := "hasNext", desc := "()Z" } : Jvm.MethodName)) ∈ lw_all := lw_g (lw_at lw_m7 104 rfl) rfl
theorem q1634 : (Jvm.Cond.interfaceEntry "BlackoutStart$State" (265 : Nat)) ∈ lw_tbl := lw_at lw_m7 113 rfl
theorem q1635 : (Jvm.Cond.methodLink "BlackoutStart$State" (265 : Nat) ({ cls := "java/util/Iterator", name := "next", desc := "()Ljava/lang/Object;" } : Jvm.MethodName)) ∈ lw_all := lw_g (lw_at lw_m7 114 rfl) rfl
theorem q1649 : (Jvm.Cond.classLink "BlackoutStart$State" (269 : Nat) "BlackoutStart$Dark") ∈ lw_all := lw_g (lw_at lw_m7 128 rfl) rfl
theorem q1650 : (Jvm.Cond.methodLink "BlackoutStart$State" (271 : Nat) ({ cls := "BlackoutStart$Dark", name := "tick", desc := "()I" } : Jvm.MethodName)) ∈ lw_all := lw_g (lw_at lw_m7 129 rfl) rfl
theorem q1654 : (Jvm.Cond.methodLink "BlackoutStart$State" (273 : Nat) ({ cls := "BlackoutStart$Dark", name := "duration", desc := "()I" } : Jvm.MethodName)) ∈ lw_all := lw_g (lw_at lw_m7 133 rfl) rfl
theorem q1658 : (Jvm.Cond.methodLink "BlackoutStart$State" (249 : Nat) ({ cls := "BlackoutStart$State", name := "blackout", desc := "(I)V" } : Jvm.MethodName)) ∈ lw_all := lw_g (lw_at lw_m7 137 rfl) rfl
theorem q1659 : (Jvm.Cond.instanceMethod ({ cls := "BlackoutStart$State", name := "blackout", desc := "(I)V" } : Jvm.MethodName)) ∈ lw_all := lw_g (lw_at lw_m7 138 rfl) rfl
theorem q1660 : (Jvm.Cond.selects "BlackoutStart$State" ({ cls := "BlackoutStart$State", name := "blackout", desc := "(I)V" } : Jvm.MethodName) ({ cls := "BlackoutStart$State", name := "blackout", desc := "(I)V" } : Jvm.MethodName)) ∈ lw_all := lw_g (lw_at lw_m7 139 rfl) rfl
theorem q1661 : (Jvm.Cond.code ({ cls := "BlackoutStart$State", name := "blackout", desc := "(I)V" } : Jvm.MethodName) prog_10_method_15_code (3 : Nat) (Option.none : Option Jvm.ClassFile.FieldType)) ∈ lw_all := lw_g (lw_at lw_m7 140 rfl) rfl
theorem q1662 : (Jvm.Cond.methodLink "BlackoutStart$State" (179 : Nat) ({ cls := "java/lang/Math", name := "max", desc := "(II)I" } : Jvm.MethodName)) ∈ lw_all := lw_g (lw_at lw_m7 141 rfl) rfl
theorem q1663 : (Jvm.Cond.methodLink "BlackoutStart$State" (185 : Nat) ({ cls := "BlackoutStart$State", name := "waits", desc := "(I)V" } : Jvm.MethodName)) ∈ lw_all := lw_g (lw_at lw_m7 142 rfl) rfl
theorem q1664 : (Jvm.Cond.privateMethod ({ cls := "BlackoutStart$State", name := "waits", desc := "(I)V" } : Jvm.MethodName)) ∈ lw_tbl := lw_at lw_m7 143 rfl
theorem q1665 : (Jvm.Cond.instanceMethod ({ cls := "BlackoutStart$State", name := "waits", desc := "(I)V" } : Jvm.MethodName)) ∈ lw_all := lw_g (lw_at lw_m7 144 rfl) rfl
theorem q1666 : (Jvm.Cond.code ({ cls := "BlackoutStart$State", name := "waits", desc := "(I)V" } : Jvm.MethodName) prog_10_method_16_code (2 : Nat) (Option.none : Option Jvm.ClassFile.FieldType)) ∈ lw_all := lw_g (lw_at lw_m7 145 rfl) rfl
theorem q1667 : (Jvm.Cond.methodLink "BlackoutStart$State" (276 : Nat) ({ cls := "BlackoutStart$State", name := "isDark", desc := "()Z" } : Jvm.MethodName)) ∈ lw_all := lw_g (lw_at lw_m7 146 rfl) rfl
theorem q1668 : (Jvm.Cond.methodLink "BlackoutStart$State" (279 : Nat) ({ cls := "BlackoutStart$State", name := "receives", desc := "()V" } : Jvm.MethodName)) ∈ lw_all := lw_g (lw_at lw_m7 147 rfl) rfl
theorem q1669 : (Jvm.Cond.privateMethod ({ cls := "BlackoutStart$State", name := "receives", desc := "()V" } : Jvm.MethodName)) ∈ lw_tbl := lw_at lw_m7 148 rfl
theorem q1670 : (Jvm.Cond.instanceMethod ({ cls := "BlackoutStart$State", name := "receives", desc := "()V" } : Jvm.MethodName)) ∈ lw_all := lw_g (lw_at lw_m7 149 rfl) rfl
theorem q1671 : (Jvm.Cond.code ({ cls := "BlackoutStart$State", name := "receives", desc := "()V" } : Jvm.MethodName) prog_10_method_21_code (3 : Nat) (Option.none : Option Jvm.ClassFile.FieldType)) ∈ lw_all := lw_g (lw_at lw_m7 150 rfl) rfl
theorem q1672 : (Jvm.Cond.methodLink "BlackoutStart$State" (209 : Nat) ({ cls := "BlackoutStart$State", name := "comes", desc := "(III)V" } : Jvm.MethodName)) ∈ lw_all := lw_g (lw_at lw_m7 151 rfl) rfl
theorem q1673 : (Jvm.Cond.privateMethod ({ cls := "BlackoutStart$State", name := "comes", desc := "(III)V" } : Jvm.MethodName)) ∈ lw_tbl := lw_at lw_m7 152 rfl
theorem q1674 : (Jvm.Cond.instanceMethod ({ cls := "BlackoutStart$State", name := "comes", desc := "(III)V" } : Jvm.MethodName)) ∈ lw_all := lw_g (lw_at lw_m7 153 rfl) rfl
theorem q1675 : (Jvm.Cond.code ({ cls := "BlackoutStart$State", name := "comes", desc := "(III)V" } : Jvm.MethodName) prog_10_method_20_code (4 : Nat) (Option.none : Option Jvm.ClassFile.FieldType)) ∈ lw_all := lw_g (lw_at lw_m7 154 rfl) rfl
theorem q1676 : (Jvm.Cond.methodLink "BlackoutStart$State" (196 : Nat) ({ cls := "BlackoutStart$State", name := "marks", desc := "(II)V" } : Jvm.MethodName)) ∈ lw_all := lw_g (lw_at lw_m7 155 rfl) rfl
theorem q1677 : (Jvm.Cond.privateMethod ({ cls := "BlackoutStart$State", name := "marks", desc := "(II)V" } : Jvm.MethodName)) ∈ lw_tbl := lw_at lw_m7 156 rfl
theorem q1678 : (Jvm.Cond.instanceMethod ({ cls := "BlackoutStart$State", name := "marks", desc := "(II)V" } : Jvm.MethodName)) ∈ lw_all := lw_g (lw_at lw_m7 157 rfl) rfl
theorem q1679 : (Jvm.Cond.code ({ cls := "BlackoutStart$State", name := "marks", desc := "(II)V" } : Jvm.MethodName) prog_10_method_18_code (3 : Nat) (Option.none : Option Jvm.ClassFile.FieldType)) ∈ lw_all := lw_g (lw_at lw_m7 158 rfl) rfl
theorem q1680 : (Jvm.Cond.methodLink "BlackoutStart$State" (200 : Nat) ({ cls := "BlackoutStart$State", name := "answers", desc := "(II)V" } : Jvm.MethodName)) ∈ lw_all := lw_g (lw_at lw_m7 159 rfl) rfl
theorem q1681 : (Jvm.Cond.privateMethod ({ cls := "BlackoutStart$State", name := "answers", desc := "(II)V" } : Jvm.MethodName)) ∈ lw_tbl := lw_at lw_m7 160 rfl
theorem q1682 : (Jvm.Cond.instanceMethod ({ cls := "BlackoutStart$State", name := "answers", desc := "(II)V" } : Jvm.MethodName)) ∈ lw_all := lw_g (lw_at lw_m7 161 rfl) rfl
theorem q1683 : (Jvm.Cond.code ({ cls := "BlackoutStart$State", name := "answers", desc := "(II)V" } : Jvm.MethodName) prog_10_method_19_code (3 : Nat) (Option.none : Option Jvm.ClassFile.FieldType)) ∈ lw_all := lw_g (lw_at lw_m7 162 rfl) rfl
theorem q1684 : (Jvm.Cond.methodLink "BlackoutStart$State" (213 : Nat) ({ cls := "BlackoutStart$State", name := "rights", desc := "()I" } : Jvm.MethodName)) ∈ lw_all := lw_g (lw_at lw_m7 163 rfl) rfl
theorem q1685 : (Jvm.Cond.methodLink "BlackoutStart$State" (282 : Nat) ({ cls := "BlackoutStart$State", name := "acts", desc := "(I)V" } : Jvm.MethodName)) ∈ lw_all := lw_g (lw_at lw_m7 164 rfl) rfl
theorem q1686 : (Jvm.Cond.privateMethod ({ cls := "BlackoutStart$State", name := "acts", desc := "(I)V" } : Jvm.MethodName)) ∈ lw_tbl := lw_at lw_m7 165 rfl
theorem q1687 : (Jvm.Cond.instanceMethod ({ cls := "BlackoutStart$State", name := "acts", desc := "(I)V" } : Jvm.MethodName)) ∈ lw_all := lw_g (lw_at lw_m7 166 rfl) rfl
theorem q1688 : (Jvm.Cond.code ({ cls := "BlackoutStart$State", name := "acts", desc := "(I)V" } : Jvm.MethodName) prog_10_method_22_code (2 : Nat) (Option.none : Option Jvm.ClassFile.FieldType)) ∈ lw_all := lw_g (lw_at lw_m7 167 rfl) rfl
theorem q1689 : (Jvm.Cond.methodLink "BlackoutStart$State" (219 : Nat) ({ cls := "BlackoutStart$Wire", name := "send", desc := "(III)V" } : Jvm.MethodName)) ∈ lw_all := lw_g (lw_at lw_m7 168 rfl) rfl
theorem q1694 : (Jvm.Cond.methodLink "BlackoutStart$State" (285 : Nat) ({ cls := "BlackoutStart$State", name := "polls", desc := "()V" } : Jvm.MethodName)) ∈ lw_all := lw_g (lw_at lw_m7 173 rfl) rfl
theorem q1695 : (Jvm.Cond.privateMethod ({ cls := "BlackoutStart$State", name := "polls", desc := "()V" } : Jvm.MethodName)) ∈ lw_tbl := lw_at lw_m7 174 rfl
theorem q1696 : (Jvm.Cond.instanceMethod ({ cls := "BlackoutStart$State", name := "polls", desc := "()V" } : Jvm.MethodName)) ∈ lw_all := lw_g (lw_at lw_m7 175 rfl) rfl
theorem q1697 : (Jvm.Cond.code ({ cls := "BlackoutStart$State", name := "polls", desc := "()V" } : Jvm.MethodName) prog_10_method_23_code (3 : Nat) (Option.none : Option Jvm.ClassFile.FieldType)) ∈ lw_all := lw_g (lw_at lw_m7 176 rfl) rfl
theorem q1698 : (Jvm.Cond.methodLink "BlackoutStart$State" (288 : Nat) ({ cls := "BlackoutStart$State", name := "grants", desc := "()V" } : Jvm.MethodName)) ∈ lw_all := lw_g (lw_at lw_m7 177 rfl) rfl
theorem q1699 : (Jvm.Cond.privateMethod ({ cls := "BlackoutStart$State", name := "grants", desc := "()V" } : Jvm.MethodName)) ∈ lw_tbl := lw_at lw_m7 178 rfl
theorem q1700 : (Jvm.Cond.instanceMethod ({ cls := "BlackoutStart$State", name := "grants", desc := "()V" } : Jvm.MethodName)) ∈ lw_all := lw_g (lw_at lw_m7 179 rfl) rfl
theorem q1701 : (Jvm.Cond.code ({ cls := "BlackoutStart$State", name := "grants", desc := "()V" } : Jvm.MethodName) prog_10_method_27_code (3 : Nat) (Option.none : Option Jvm.ClassFile.FieldType)) ∈ lw_all := lw_g (lw_at lw_m7 180 rfl) rfl
theorem q1702 : (Jvm.Cond.methodLink "BlackoutStart$State" (236 : Nat) ({ cls := "BlackoutStart$State", name := "granted", desc := "()LBlackoutStart$Order;" } : Jvm.MethodName)) ∈ lw_all := lw_g (lw_at lw_m7 181 rfl) rfl
theorem q1703 : (Jvm.Cond.methodLink "BlackoutStart$State" (291 : Nat) ({ cls := "BlackoutStart$State", name := "measures", desc := "()V" } : Jvm.MethodName)) ∈ lw_all := lw_g (lw_at lw_m7 182 rfl) rfl
theorem q1704 : (Jvm.Cond.privateMethod ({ cls := "BlackoutStart$State", name := "measures", desc := "()V" } : Jvm.MethodName)) ∈ lw_tbl := lw_at lw_m7 183 rfl
theorem q1705 : (Jvm.Cond.instanceMethod ({ cls := "BlackoutStart$State", name := "measures", desc := "()V" } : Jvm.MethodName)) ∈ lw_all := lw_g (lw_at lw_m7 184 rfl) rfl
theorem q1706 : (Jvm.Cond.code ({ cls := "BlackoutStart$State", name := "measures", desc := "()V" } : Jvm.MethodName) prog_10_method_28_code (2 : Nat) (Option.none : Option Jvm.ClassFile.FieldType)) ∈ lw_all := lw_g (lw_at lw_m7 185 rfl) rfl
theorem q1707 : (Jvm.Cond.methodLink "BlackoutStart$State" (243 : Nat) ({ cls := "BlackoutStart$State", name := "load", desc := "()I" } : Jvm.MethodName)) ∈ lw_all := lw_g (lw_at lw_m7 186 rfl) rfl
theorem q1759 : (Jvm.Cond.instanceMethod ({ cls := "BlackoutStart$State", name := "want", desc := "(IZ)V" } : Jvm.MethodName)) ∈ lw_all := lw_g (lw_at lw_m7 238 rfl) rfl
theorem q1760 : (Jvm.Cond.selects "BlackoutStart$State" ({ cls := "BlackoutStart$State", name := "want", desc := "(IZ)V" } : Jvm.MethodName) ({ cls := "BlackoutStart$State", name := "want", desc := "(IZ)V" } : Jvm.MethodName)) ∈ lw_all := lw_g (lw_at lw_m7 239 rfl) rfl
theorem q1761 : (Jvm.Cond.code ({ cls := "BlackoutStart$State", name := "want", desc := "(IZ)V" } : Jvm.MethodName) prog_10_method_17_code (3 : Nat) (Option.none : Option Jvm.ClassFile.FieldType)) ∈ lw_all := lw_g (lw_at lw_m8 0 rfl) rfl
theorem q2311 : (Jvm.Cond.castable "BlackoutStart$State" "java/lang/Object") ∈ lw_tbl := lw_at lw_m10 70 rfl
theorem in_X2 : ∀ w ∈ wsX20, w ∈ lw_all := lw_in wsX20 [636, 638, 640, 642, 644, 646, 648, 650, 652, 654, 656, 658, 660, 662, 664, 666, 668, 670, 672, 674, 676, 678, 680, 682, 684, 686] (by decide +kernel) (by decide +kernel)
/-! BlackoutStart$Setup -/
set_option maxRecDepth 100000
def RX3 : String := "BlackoutStart$Setup"
def TX3 : u_T := fun k => match k with
  | 0 => ("BlackoutStart$Setup", "outlets", "Ljava/util/List;", true)
  | 1 => ("BlackoutStart$Setup", "darks", "Ljava/util/List;", true)
  | 2 => ("BlackoutStart$Setup", "needs", "[I", true)
  | 3 => ("BlackoutStart$Setup", "script", "[I", false)
  | 4 => ("BlackoutStart$Setup", "needMany", "I", false)
  | 5 => ("BlackoutStart$Setup", "off", "I", false)
  | 6 => ("BlackoutStart$Setup", "patience", "I", false)
  | 7 => ("BlackoutStart$Setup", "retry", "I", false)
  | 8 => ("BlackoutStart$Setup", "fuse", "I", false)
  | _ => ("BlackoutStart$Setup", "isStrict", "Z", false)
def tyX3 : Nat → FieldType := fun k => match k with
  | 0 => .object "java/util/List"
  | 1 => .object "java/util/List"
  | 2 => .array .int
  | 3 => .array .int
  | 4 => .int
  | 5 => .int
  | 6 => .int
  | 7 => .int
  | 8 => .int
  | _ => .boolean
abbrev wsX30 : List Cond := u_ws RX3 TX3 10
theorem nmX3 : ∀ a, a < 10 → ∀ b, b < 10 → a ≠ b → (TX3 a).2.1 ≠ (TX3 b).2.1 := by decide +kernel
theorem tyX3_ok : ∀ k, k < 10 → parseFieldDescriptor (TX3 k).2.2.1 = some (tyX3 k) := by decide +kernel
abbrev cX3_init : ByteArray := prog_9_method_1_code
def yX3_init : MethodName := ⟨RX3, "<init>", "()V"⟩
abbrev cX3_size : ByteArray := prog_9_method_2_code
def yX3_size : MethodName := ⟨RX3, "size", "()I"⟩
abbrev cX3_find : ByteArray := prog_9_method_3_code
def yX3_find : MethodName := ⟨RX3, "find", "(Ljava/lang/String;)I"⟩
theorem q84 : (Jvm.Cond.initialized "BlackoutStart$Setup") ∈ lw_all := lw_g (lw_at lw_m1 3 rfl) rfl
theorem q133 : (Jvm.Cond.instantiable "BlackoutStart$Setup" (10 : Nat)) ∈ lw_all := lw_g (lw_at lw_m1 52 rfl) rfl
theorem q135 : (Jvm.Cond.instanceMethod ({ cls := "BlackoutStart$Setup", name := "<init>", desc := "()V" } : Jvm.MethodName)) ∈ lw_all := lw_g (lw_at lw_m1 54 rfl) rfl
theorem q136 : (Jvm.Cond.code ({ cls := "BlackoutStart$Setup", name := "<init>", desc := "()V" } : Jvm.MethodName) prog_9_method_1_code (1 : Nat) (Option.none : Option Jvm.ClassFile.FieldType)) ∈ lw_all := lw_g (lw_at lw_m1 55 rfl) rfl
theorem q137 : (Jvm.Cond.methodLink "BlackoutStart$Setup" (3 : Nat) ({ cls := "java/lang/Object", name := "<init>", desc := "()V" } : Jvm.MethodName)) ∈ lw_all := lw_g (lw_at lw_m1 56 rfl) rfl
theorem q138 : (Jvm.Cond.classLink "BlackoutStart$Setup" (9 : Nat) "java/util/ArrayList") ∈ lw_all := lw_g (lw_at lw_m1 57 rfl) rfl
theorem q140 : (Jvm.Cond.methodLink "BlackoutStart$Setup" (11 : Nat) ({ cls := "java/util/ArrayList", name := "<init>", desc := "(I)V" } : Jvm.MethodName)) ∈ lw_all := lw_g (lw_at lw_m1 59 rfl) rfl
theorem q488 : (Jvm.Cond.fieldLink "BlackoutStart$Setup" (14 : Nat) "BlackoutStart$Setup" "outlets" "Ljava/util/List;") ∈ lw_all := lw_g (lw_at lw_m2 167 rfl) rfl
theorem q491 : (Jvm.Cond.fieldLink "BlackoutStart$Setup" (20 : Nat) "BlackoutStart$Setup" "darks" "Ljava/util/List;") ∈ lw_all := lw_g (lw_at lw_m2 170 rfl) rfl
theorem q494 : (Jvm.Cond.fieldLink "BlackoutStart$Setup" (23 : Nat) "BlackoutStart$Setup" "needs" "[I") ∈ lw_all := lw_g (lw_at lw_m2 173 rfl) rfl
theorem q498 : (Jvm.Cond.fieldLink "BlackoutStart$Setup" (27 : Nat) "BlackoutStart$Setup" "script" "[I") ∈ lw_all := lw_g (lw_at lw_m2 177 rfl) rfl
theorem q505 : (Jvm.Cond.fieldLink "BlackoutStart$Setup" (30 : Nat) "BlackoutStart$Setup" "patience" "I") ∈ lw_all := lw_g (lw_at lw_m2 184 rfl) rfl
theorem q509 : (Jvm.Cond.fieldLink "BlackoutStart$Setup" (34 : Nat) "BlackoutStart$Setup" "retry" "I") ∈ lw_all := lw_g (lw_at lw_m2 188 rfl) rfl
theorem q512 : (Jvm.Cond.fieldLink "BlackoutStart$Setup" (37 : Nat) "BlackoutStart$Setup" "fuse" "I") ∈ lw_all := lw_g (lw_at lw_m2 191 rfl) rfl
theorem q517 : (Jvm.Cond.laysFinal "BlackoutStart$Setup" "BlackoutStart$Setup" "outlets" "Ljava/util/List;") ∈ lw_all := lw_g (lw_at lw_m2 196 rfl) rfl
theorem q518 : (Jvm.Cond.soleField "BlackoutStart$Setup" "outlets") ∈ lw_all := lw_g (lw_at lw_m2 197 rfl) rfl
theorem q519 : (Jvm.Cond.laysFinal "BlackoutStart$Setup" "BlackoutStart$Setup" "darks" "Ljava/util/List;") ∈ lw_all := lw_g (lw_at lw_m2 198 rfl) rfl
theorem q520 : (Jvm.Cond.soleField "BlackoutStart$Setup" "darks") ∈ lw_all := lw_g (lw_at lw_m2 199 rfl) rfl
theorem q521 : (Jvm.Cond.laysFinal "BlackoutStart$Setup" "BlackoutStart$Setup" "needs" "[I") ∈ lw_all := lw_g (lw_at lw_m2 200 rfl) rfl
theorem q522 : (Jvm.Cond.soleField "BlackoutStart$Setup" "needs") ∈ lw_all := lw_g (lw_at lw_m2 201 rfl) rfl
theorem q523 : (Jvm.Cond.lays "BlackoutStart$Setup" "BlackoutStart$Setup" "script" "[I") ∈ lw_all := lw_g (lw_at lw_m2 202 rfl) rfl
theorem q524 : (Jvm.Cond.soleField "BlackoutStart$Setup" "script") ∈ lw_all := lw_g (lw_at lw_m2 203 rfl) rfl
theorem q525 : (Jvm.Cond.lays "BlackoutStart$Setup" "BlackoutStart$Setup" "needMany" "I") ∈ lw_all := lw_g (lw_at lw_m2 204 rfl) rfl
theorem q526 : (Jvm.Cond.soleField "BlackoutStart$Setup" "needMany") ∈ lw_all := lw_g (lw_at lw_m2 205 rfl) rfl
theorem q527 : (Jvm.Cond.lays "BlackoutStart$Setup" "BlackoutStart$Setup" "off" "I") ∈ lw_all := lw_g (lw_at lw_m2 206 rfl) rfl
theorem q528 : (Jvm.Cond.soleField "BlackoutStart$Setup" "off") ∈ lw_all := lw_g (lw_at lw_m2 207 rfl) rfl
theorem q529 : (Jvm.Cond.lays "BlackoutStart$Setup" "BlackoutStart$Setup" "patience" "I") ∈ lw_all := lw_g (lw_at lw_m2 208 rfl) rfl
theorem q530 : (Jvm.Cond.soleField "BlackoutStart$Setup" "patience") ∈ lw_all := lw_g (lw_at lw_m2 209 rfl) rfl
theorem q531 : (Jvm.Cond.lays "BlackoutStart$Setup" "BlackoutStart$Setup" "retry" "I") ∈ lw_all := lw_g (lw_at lw_m2 210 rfl) rfl
theorem q532 : (Jvm.Cond.soleField "BlackoutStart$Setup" "retry") ∈ lw_all := lw_g (lw_at lw_m2 211 rfl) rfl
theorem q533 : (Jvm.Cond.lays "BlackoutStart$Setup" "BlackoutStart$Setup" "fuse" "I") ∈ lw_all := lw_g (lw_at lw_m2 212 rfl) rfl
theorem q534 : (Jvm.Cond.soleField "BlackoutStart$Setup" "fuse") ∈ lw_all := lw_g (lw_at lw_m2 213 rfl) rfl
theorem q535 : (Jvm.Cond.lays "BlackoutStart$Setup" "BlackoutStart$Setup" "isStrict" "Z") ∈ lw_all := lw_g (lw_at lw_m2 214 rfl) rfl
theorem q536 : (Jvm.Cond.soleField "BlackoutStart$Setup" "isStrict") ∈ lw_all := lw_g (lw_at lw_m2 215 rfl) rfl
theorem q537 : (Jvm.Cond.superclass "BlackoutStart$Setup" "java/lang/Object") ∈ lw_all := lw_g (lw_at lw_m2 216 rfl) rfl
theorem q694 : (Jvm.Cond.instanceMethod ({ cls := "BlackoutStart$Setup", name := "size", desc := "()I" } : Jvm.MethodName)) ∈ lw_all := lw_g (lw_at lw_m3 133 rfl) rfl
theorem q695 : (Jvm.Cond.selects "BlackoutStart$Setup" ({ cls := "BlackoutStart$Setup", name := "size", desc := "()I" } : Jvm.MethodName) ({ cls := "BlackoutStart$Setup", name := "size", desc := "()I" } : Jvm.MethodName)) ∈ lw_all := lw_g (lw_at lw_m3 134 rfl) rfl
theorem q696 : (Jvm.Cond.code ({ cls := "BlackoutStart$Setup", name := "size", desc := "()I" } : Jvm.MethodName) prog_9_method_2_code (1 : Nat) (Option.some Jvm.ClassFile.FieldType.int)) ∈ lw_all := lw_g (lw_at lw_m3 135 rfl) rfl
theorem q697 : (Jvm.Cond.interfaceEntry "BlackoutStart$Setup" (40 : Nat)) ∈ lw_tbl := lw_at lw_m3 136 rfl
theorem q698 : (Jvm.Cond.methodLink "BlackoutStart$Setup" (40 : Nat) ({ cls := "java/util/List", name := "size", desc := "()I" } : Jvm.MethodName)) ∈ lw_all := lw_g (lw_at lw_m3 137 rfl) rfl
theorem q930 : (Jvm.Cond.selects "BlackoutStart$Setup" ({ cls := "java/lang/Object", name := "getClass", desc := "()Ljava/lang/Class;" } : Jvm.MethodName) ({ cls := "java/lang/Object", name := "getClass", desc := "()Ljava/lang/Class;" } : Jvm.MethodName)) ∈ lw_all := lw_g (lw_at lw_m4 129 rfl) rfl
theorem q1223 : (Jvm.Cond.instanceMethod ({ cls := "BlackoutStart$Setup", name := "find", desc := "(Ljava/lang/String;)I" } : Jvm.MethodName)) ∈ lw_all := lw_g (lw_at lw_m5 182 rfl) rfl
theorem q1224 : (Jvm.Cond.selects "BlackoutStart$Setup" ({ cls := "BlackoutStart$Setup", name := "find", desc := "(Ljava/lang/String;)I" } : Jvm.MethodName) ({ cls := "BlackoutStart$Setup", name := "find", desc := "(Ljava/lang/String;)I" } : Jvm.MethodName)) ∈ lw_all := lw_g (lw_at lw_m5 183 rfl) rfl
theorem q1225 : (Jvm.Cond.code ({ cls := "BlackoutStart$Setup", name := "find", desc := "(Ljava/lang/String;)I" } : Jvm.MethodName) prog_9_method_3_code (3 : Nat) (Option.some Jvm.ClassFile.FieldType.int)) ∈ lw_all := lw_g (lw_at lw_m5 184 rfl) rfl
theorem q1226 : (Jvm.Cond.methodLink "BlackoutStart$Setup" (46 : Nat) ({ cls := "BlackoutStart$Setup", name := "size", desc := "()I" } : Jvm.MethodName)) ∈ lw_all := lw_g (lw_at lw_m5 185 rfl) rfl
theorem q1227 : (Jvm.Cond.interfaceEntry "BlackoutStart$Setup" (47 : Nat)) ∈ lw_tbl := lw_at lw_m5 186 rfl
theorem q1228 : (Jvm.Cond.methodLink "BlackoutStart$Setup" (47 : Nat) ({ cls := "java/util/List", name := "get", desc := "(I)Ljava/lang/Object;" } : Jvm.MethodName)) ∈ lw_all := lw_g (lw_at lw_m5 187 rfl) rfl
theorem q1229 : (Jvm.Cond.classLink "BlackoutStart$Setup" (51 : Nat) "BlackoutStart$Outlet") ∈ lw_all := lw_g (lw_at lw_m5 188 rfl) rfl
theorem q1230 : (Jvm.Cond.methodLink "BlackoutStart$Setup" (57 : Nat) ({ cls := "java/lang/String", name := "equals", desc := "(Ljava/lang/Object;)Z" } : Jvm.MethodName)) ∈ lw_all := lw_g (lw_at lw_m5 189 rfl) rfl
theorem q1238 : (Jvm.Cond.fieldLinkNest "BlackoutStart$Setup" (53 : Nat) "BlackoutStart$Outlet" "name" "Ljava/lang/String;" "BlackoutStart") ∈ lw_tbl := lw_at lw_m5 197 rfl
theorem q2313 : (Jvm.Cond.castable "BlackoutStart$Setup" "java/lang/Object") ∈ lw_tbl := lw_at lw_m10 72 rfl
theorem in_X3 : ∀ w ∈ wsX30, w ∈ lw_all := lw_in wsX30 [517, 519, 521, 523, 525, 527, 529, 531, 533, 535] (by decide +kernel) (by decide +kernel)
/-! BlackoutStart$Order -/
set_option maxRecDepth 100000
def RX4 : String := "BlackoutStart$Order"
def TX4 : u_T := fun k => match k with
  | 0 => ("BlackoutStart$Order", "row", "[I", true)
  | _ => ("BlackoutStart$Order", "many", "I", false)
def tyX4 : Nat → FieldType := fun k => match k with
  | 0 => .array .int
  | _ => .int
abbrev wsX40 : List Cond := u_ws RX4 TX4 2
theorem nmX4 : ∀ a, a < 2 → ∀ b, b < 2 → a ≠ b → (TX4 a).2.1 ≠ (TX4 b).2.1 := by decide +kernel
theorem tyX4_ok : ∀ k, k < 2 → parseFieldDescriptor (TX4 k).2.2.1 = some (tyX4 k) := by decide +kernel
abbrev cX4_init : ByteArray := prog_6_method_1_code
def yX4_init : MethodName := ⟨RX4, "<init>", "()V"⟩
abbrev cX4_placeOf : ByteArray := prog_6_method_3_code
def yX4_placeOf : MethodName := ⟨RX4, "placeOf", "(I)I"⟩
abbrev cX4_add : ByteArray := prog_6_method_4_code
def yX4_add : MethodName := ⟨RX4, "add", "(I)V"⟩
abbrev cX4_become : ByteArray := prog_6_method_2_code
def yX4_become : MethodName := ⟨RX4, "become", "(LBlackoutStart$Order;)V"⟩
theorem q104 : (Jvm.Cond.initialized "BlackoutStart$Order") ∈ lw_all := lw_g (lw_at lw_m1 23 rfl) rfl
theorem q544 : (Jvm.Cond.instantiable "BlackoutStart$Order" (2 : Nat)) ∈ lw_all := lw_g (lw_at lw_m2 223 rfl) rfl
theorem q546 : (Jvm.Cond.instanceMethod ({ cls := "BlackoutStart$Order", name := "<init>", desc := "()V" } : Jvm.MethodName)) ∈ lw_all := lw_g (lw_at lw_m2 225 rfl) rfl
theorem q547 : (Jvm.Cond.code ({ cls := "BlackoutStart$Order", name := "<init>", desc := "()V" } : Jvm.MethodName) prog_6_method_1_code (1 : Nat) (Option.none : Option Jvm.ClassFile.FieldType)) ∈ lw_all := lw_g (lw_at lw_m2 226 rfl) rfl
theorem q548 : (Jvm.Cond.methodLink "BlackoutStart$Order" (3 : Nat) ({ cls := "java/lang/Object", name := "<init>", desc := "()V" } : Jvm.MethodName)) ∈ lw_all := lw_g (lw_at lw_m2 227 rfl) rfl
theorem q549 : (Jvm.Cond.fieldLink "BlackoutStart$Order" (9 : Nat) "BlackoutStart$Order" "row" "[I") ∈ lw_all := lw_g (lw_at lw_m2 228 rfl) rfl
theorem q552 : (Jvm.Cond.fieldLink "BlackoutStart$Order" (15 : Nat) "BlackoutStart$Order" "many" "I") ∈ lw_all := lw_g (lw_at lw_m2 231 rfl) rfl
theorem q555 : (Jvm.Cond.laysFinal "BlackoutStart$Order" "BlackoutStart$Order" "row" "[I") ∈ lw_all := lw_g (lw_at lw_m2 234 rfl) rfl
theorem q556 : (Jvm.Cond.soleField "BlackoutStart$Order" "row") ∈ lw_all := lw_g (lw_at lw_m2 235 rfl) rfl
theorem q557 : (Jvm.Cond.lays "BlackoutStart$Order" "BlackoutStart$Order" "many" "I") ∈ lw_all := lw_g (lw_at lw_m2 236 rfl) rfl
theorem q558 : (Jvm.Cond.soleField "BlackoutStart$Order" "many") ∈ lw_all := lw_g (lw_at lw_m2 237 rfl) rfl
theorem q559 : (Jvm.Cond.superclass "BlackoutStart$Order" "java/lang/Object") ∈ lw_all := lw_g (lw_at lw_m2 238 rfl) rfl
theorem q829 : (Jvm.Cond.instanceMethod ({ cls := "BlackoutStart$Order", name := "placeOf", desc := "(I)I" } : Jvm.MethodName)) ∈ lw_all := lw_g (lw_at lw_m4 28 rfl) rfl
theorem q830 : (Jvm.Cond.selects "BlackoutStart$Order" ({ cls := "BlackoutStart$Order", name := "placeOf", desc := "(I)I" } : Jvm.MethodName) ({ cls := "BlackoutStart$Order", name := "placeOf", desc := "(I)I" } : Jvm.MethodName)) ∈ lw_all := lw_g (lw_at lw_m4 29 rfl) rfl
theorem q831 : (Jvm.Cond.code ({ cls := "BlackoutStart$Order", name := "placeOf", desc := "(I)I" } : Jvm.MethodName) prog_6_method_3_code (3 : Nat) (Option.some Jvm.ClassFile.FieldType.int)) ∈ lw_all := lw_g (lw_at lw_m4 30 rfl) rfl
theorem q833 : (Jvm.Cond.instanceMethod ({ cls := "BlackoutStart$Order", name := "add", desc := "(I)V" } : Jvm.MethodName)) ∈ lw_all := lw_g (lw_at lw_m4 32 rfl) rfl
theorem q834 : (Jvm.Cond.selects "BlackoutStart$Order" ({ cls := "BlackoutStart$Order", name := "add", desc := "(I)V" } : Jvm.MethodName) ({ cls := "BlackoutStart$Order", name := "add", desc := "(I)V" } : Jvm.MethodName)) ∈ lw_all := lw_g (lw_at lw_m4 33 rfl) rfl
theorem q835 : (Jvm.Cond.code ({ cls := "BlackoutStart$Order", name := "add", desc := "(I)V" } : Jvm.MethodName) prog_6_method_4_code (2 : Nat) (Option.none : Option Jvm.ClassFile.FieldType)) ∈ lw_all := lw_g (lw_at lw_m4 34 rfl) rfl
theorem q836 : (Jvm.Cond.methodLink "BlackoutStart$Order" (25 : Nat) ({ cls := "BlackoutStart$Order", name := "placeOf", desc := "(I)I" } : Jvm.MethodName)) ∈ lw_all := lw_g (lw_at lw_m4 35 rfl) rfl
theorem q927 : (Jvm.Cond.selects "BlackoutStart$Order" ({ cls := "java/lang/Object", name := "getClass", desc := "()Ljava/lang/Class;" } : Jvm.MethodName) ({ cls := "java/lang/Object", name := "getClass", desc := "()Ljava/lang/Class;" } : Jvm.MethodName)) ∈ lw_all := lw_g (lw_at lw_m4 126 rfl) rfl
theorem q969 : (Jvm.Cond.instanceMethod ({ cls := "BlackoutStart$Order", name := "become", desc := "(LBlackoutStart$Order;)V" } : Jvm.MethodName)) ∈ lw_all := lw_g (lw_at lw_m4 168 rfl) rfl
theorem q970 : (Jvm.Cond.selects "BlackoutStart$Order" ({ cls := "BlackoutStart$Order", name := "become", desc := "(LBlackoutStart$Order;)V" } : Jvm.MethodName) ({ cls := "BlackoutStart$Order", name := "become", desc := "(LBlackoutStart$Order;)V" } : Jvm.MethodName)) ∈ lw_all := lw_g (lw_at lw_m4 169 rfl) rfl
theorem q971 : (Jvm.Cond.code ({ cls := "BlackoutStart$Order", name := "become", desc := "(LBlackoutStart$Order;)V" } : Jvm.MethodName) prog_6_method_2_code (2 : Nat) (Option.none : Option Jvm.ClassFile.FieldType)) ∈ lw_all := lw_g (lw_at lw_m4 170 rfl) rfl
theorem q972 : (Jvm.Cond.methodLink "BlackoutStart$Order" (19 : Nat) ({ cls := "java/lang/System", name := "arraycopy", desc := "(Ljava/lang/Object;ILjava/lang/Object;II)V" } : Jvm.MethodName)) ∈ lw_all := lw_g (lw_at lw_m4 171 rfl) rfl
theorem q2318 : (Jvm.Cond.castable "BlackoutStart$Order" "java/lang/Object") ∈ lw_tbl := lw_at lw_m10 77 rfl
theorem in_X4 : ∀ w ∈ wsX40, w ∈ lw_all := lw_in wsX40 [555, 557] (by decide +kernel) (by decide +kernel)
/-! BlackoutStart$Wire -/
set_option maxRecDepth 100000
def RX5 : String := "BlackoutStart$Wire"
def TX5 : u_T := fun k => match k with
  | 0 => ("BlackoutStart$Wire", "messages", "[I", true)
  | 1 => ("BlackoutStart$Wire", "sent", "[I", true)
  | 2 => ("BlackoutStart$Wire", "lost", "[I", true)
  | 3 => ("BlackoutStart$Wire", "many", "I", false)
  | _ => ("BlackoutStart$Wire", "script", "[I", false)
def tyX5 : Nat → FieldType := fun k => match k with
  | 0 => .array .int
  | 1 => .array .int
  | 2 => .array .int
  | 3 => .int
  | _ => .array .int
abbrev wsX50 : List Cond := u_ws RX5 TX5 5
theorem nmX5 : ∀ a, a < 5 → ∀ b, b < 5 → a ≠ b → (TX5 a).2.1 ≠ (TX5 b).2.1 := by decide +kernel
theorem tyX5_ok : ∀ k, k < 5 → parseFieldDescriptor (TX5 k).2.2.1 = some (tyX5 k) := by decide +kernel
abbrev cX5_init : ByteArray := prog_12_method_1_code
def yX5_init : MethodName := ⟨RX5, "<init>", "([I)V"⟩
abbrev cX5_become : ByteArray := prog_12_method_2_code
def yX5_become : MethodName := ⟨RX5, "become", "(LBlackoutStart$Wire;)V"⟩
abbrev cX5_sum : ByteArray := prog_12_method_3_code
def yX5_sum : MethodName := ⟨RX5, "sum", "([I)I"⟩
abbrev cX5_send : ByteArray := prog_12_method_4_code
def yX5_send : MethodName := ⟨RX5, "send", "(III)V"⟩
theorem q105 : (Jvm.Cond.initialized "BlackoutStart$Wire") ∈ lw_all := lw_g (lw_at lw_m1 24 rfl) rfl
theorem q561 : (Jvm.Cond.instantiable "BlackoutStart$Wire" (5 : Nat)) ∈ lw_all := lw_g (lw_at lw_m3 0 rfl) rfl
theorem q563 : (Jvm.Cond.instanceMethod ({ cls := "BlackoutStart$Wire", name := "<init>", desc := "([I)V" } : Jvm.MethodName)) ∈ lw_all := lw_g (lw_at lw_m3 2 rfl) rfl
theorem q564 : (Jvm.Cond.code ({ cls := "BlackoutStart$Wire", name := "<init>", desc := "([I)V" } : Jvm.MethodName) prog_12_method_1_code (2 : Nat) (Option.none : Option Jvm.ClassFile.FieldType)) ∈ lw_all := lw_g (lw_at lw_m3 3 rfl) rfl
theorem q565 : (Jvm.Cond.methodLink "BlackoutStart$Wire" (3 : Nat) ({ cls := "java/lang/Object", name := "<init>", desc := "()V" } : Jvm.MethodName)) ∈ lw_all := lw_g (lw_at lw_m3 4 rfl) rfl
theorem q566 : (Jvm.Cond.fieldLink "BlackoutStart$Wire" (9 : Nat) "BlackoutStart$Wire" "messages" "[I") ∈ lw_all := lw_g (lw_at lw_m3 5 rfl) rfl
theorem q569 : (Jvm.Cond.fieldLink "BlackoutStart$Wire" (15 : Nat) "BlackoutStart$Wire" "sent" "[I") ∈ lw_all := lw_g (lw_at lw_m3 8 rfl) rfl
theorem q571 : (Jvm.Cond.fieldLink "BlackoutStart$Wire" (18 : Nat) "BlackoutStart$Wire" "lost" "[I") ∈ lw_all := lw_g (lw_at lw_m3 10 rfl) rfl
theorem q573 : (Jvm.Cond.fieldLink "BlackoutStart$Wire" (24 : Nat) "BlackoutStart$Wire" "many" "I") ∈ lw_all := lw_g (lw_at lw_m3 12 rfl) rfl
theorem q576 : (Jvm.Cond.fieldLink "BlackoutStart$Wire" (21 : Nat) "BlackoutStart$Wire" "script" "[I") ∈ lw_all := lw_g (lw_at lw_m3 15 rfl) rfl
theorem q578 : (Jvm.Cond.laysFinal "BlackoutStart$Wire" "BlackoutStart$Wire" "messages" "[I") ∈ lw_all := lw_g (lw_at lw_m3 17 rfl) rfl
theorem q579 : (Jvm.Cond.soleField "BlackoutStart$Wire" "messages") ∈ lw_all := lw_g (lw_at lw_m3 18 rfl) rfl
theorem q580 : (Jvm.Cond.laysFinal "BlackoutStart$Wire" "BlackoutStart$Wire" "sent" "[I") ∈ lw_all := lw_g (lw_at lw_m3 19 rfl) rfl
theorem q581 : (Jvm.Cond.soleField "BlackoutStart$Wire" "sent") ∈ lw_all := lw_g (lw_at lw_m3 20 rfl) rfl
theorem q582 : (Jvm.Cond.laysFinal "BlackoutStart$Wire" "BlackoutStart$Wire" "lost" "[I") ∈ lw_all := lw_g (lw_at lw_m3 21 rfl) rfl
theorem q583 : (Jvm.Cond.soleField "BlackoutStart$Wire" "lost") ∈ lw_all := lw_g (lw_at lw_m3 22 rfl) rfl
theorem q584 : (Jvm.Cond.lays "BlackoutStart$Wire" "BlackoutStart$Wire" "many" "I") ∈ lw_all := lw_g (lw_at lw_m3 23 rfl) rfl
theorem q585 : (Jvm.Cond.soleField "BlackoutStart$Wire" "many") ∈ lw_all := lw_g (lw_at lw_m3 24 rfl) rfl
theorem q586 : (Jvm.Cond.lays "BlackoutStart$Wire" "BlackoutStart$Wire" "script" "[I") ∈ lw_all := lw_g (lw_at lw_m3 25 rfl) rfl
theorem q587 : (Jvm.Cond.soleField "BlackoutStart$Wire" "script") ∈ lw_all := lw_g (lw_at lw_m3 26 rfl) rfl
theorem q588 : (Jvm.Cond.superclass "BlackoutStart$Wire" "java/lang/Object") ∈ lw_all := lw_g (lw_at lw_m3 27 rfl) rfl
theorem q933 : (Jvm.Cond.selects "BlackoutStart$Wire" ({ cls := "java/lang/Object", name := "getClass", desc := "()Ljava/lang/Class;" } : Jvm.MethodName) ({ cls := "java/lang/Object", name := "getClass", desc := "()Ljava/lang/Class;" } : Jvm.MethodName)) ∈ lw_all := lw_g (lw_at lw_m4 132 rfl) rfl
theorem q964 : (Jvm.Cond.instanceMethod ({ cls := "BlackoutStart$Wire", name := "become", desc := "(LBlackoutStart$Wire;)V" } : Jvm.MethodName)) ∈ lw_all := lw_g (lw_at lw_m4 163 rfl) rfl
theorem q965 : (Jvm.Cond.selects "BlackoutStart$Wire" ({ cls := "BlackoutStart$Wire", name := "become", desc := "(LBlackoutStart$Wire;)V" } : Jvm.MethodName) ({ cls := "BlackoutStart$Wire", name := "become", desc := "(LBlackoutStart$Wire;)V" } : Jvm.MethodName)) ∈ lw_all := lw_g (lw_at lw_m4 164 rfl) rfl
theorem q966 : (Jvm.Cond.code ({ cls := "BlackoutStart$Wire", name := "become", desc := "(LBlackoutStart$Wire;)V" } : Jvm.MethodName) prog_12_method_2_code (2 : Nat) (Option.none : Option Jvm.ClassFile.FieldType)) ∈ lw_all := lw_g (lw_at lw_m4 165 rfl) rfl
theorem q967 : (Jvm.Cond.methodLink "BlackoutStart$Wire" (28 : Nat) ({ cls := "java/lang/System", name := "arraycopy", desc := "(Ljava/lang/Object;ILjava/lang/Object;II)V" } : Jvm.MethodName)) ∈ lw_all := lw_g (lw_at lw_m4 166 rfl) rfl
theorem q1491 : (Jvm.Cond.static ({ cls := "BlackoutStart$Wire", name := "sum", desc := "([I)I" } : Jvm.MethodName)) ∈ lw_all := lw_g (lw_at lw_m6 210 rfl) rfl
theorem q1492 : (Jvm.Cond.code ({ cls := "BlackoutStart$Wire", name := "sum", desc := "([I)I" } : Jvm.MethodName) prog_12_method_3_code (6 : Nat) (Option.some Jvm.ClassFile.FieldType.int)) ∈ lw_all := lw_g (lw_at lw_m6 211 rfl) rfl
theorem q1690 : (Jvm.Cond.instanceMethod ({ cls := "BlackoutStart$Wire", name := "send", desc := "(III)V" } : Jvm.MethodName)) ∈ lw_all := lw_g (lw_at lw_m7 169 rfl) rfl
theorem q1691 : (Jvm.Cond.selects "BlackoutStart$Wire" ({ cls := "BlackoutStart$Wire", name := "send", desc := "(III)V" } : Jvm.MethodName) ({ cls := "BlackoutStart$Wire", name := "send", desc := "(III)V" } : Jvm.MethodName)) ∈ lw_all := lw_g (lw_at lw_m7 170 rfl) rfl
theorem q1692 : (Jvm.Cond.code ({ cls := "BlackoutStart$Wire", name := "send", desc := "(III)V" } : Jvm.MethodName) prog_12_method_4_code (5 : Nat) (Option.none : Option Jvm.ClassFile.FieldType)) ∈ lw_all := lw_g (lw_at lw_m7 171 rfl) rfl
theorem q1693 : (Jvm.Cond.methodLink "BlackoutStart$Wire" (34 : Nat) ({ cls := "BlackoutStart$Wire", name := "sum", desc := "([I)I" } : Jvm.MethodName)) ∈ lw_all := lw_g (lw_at lw_m7 172 rfl) rfl
theorem q2319 : (Jvm.Cond.castable "BlackoutStart$Wire" "java/lang/Object") ∈ lw_tbl := lw_at lw_m10 78 rfl
theorem in_X5 : ∀ w ∈ wsX50, w ∈ lw_all := lw_in wsX50 [578, 580, 582, 584, 586] (by decide +kernel) (by decide +kernel)
/-! BlackoutStartModel -/
set_option maxRecDepth 100000
def RX6 : String := "BlackoutStartModel"
def TX6 : u_T := fun k => match k with
  | 0 => ("BlackoutStartModel", "thrown", "I", false)
  | 1 => ("BlackoutStartModel", "outlets", "I", false)
  | 2 => ("BlackoutStartModel", "needMany", "I", false)
  | 3 => ("BlackoutStartModel", "scriptMany", "I", false)
  | 4 => ("BlackoutStartModel", "darkMany", "I", false)
  | 5 => ("BlackoutStartModel", "told4", "[I", true)
  | 6 => ("BlackoutStartModel", "need", "[I", true)
  | 7 => ("BlackoutStartModel", "script", "[I", true)
  | 8 => ("BlackoutStartModel", "dark", "[I", true)
  | 9 => ("BlackoutStartModel", "name", "[I", true)
  | 10 => ("BlackoutStartModel", "now", "[I", true)
  | 11 => ("BlackoutStartModel", "then", "[I", true)
  | 12 => ("BlackoutStartModel", "past", "[I", true)
  | 13 => ("BlackoutStartModel", "slot", "[I", true)
  | 14 => ("BlackoutStartModel", "isSaved", "[Z", true)
  | 15 => ("BlackoutStartModel", "pastMany", "I", false)
  | 16 => ("BlackoutStartModel", "text", "[I", true)
  | 17 => ("BlackoutStartModel", "told", "[I", true)
  | 18 => ("BlackoutStartModel", "newFour", "[I", true)
  | 19 => ("BlackoutStartModel", "newNeed", "[I", true)
  | 20 => ("BlackoutStartModel", "newScript", "[I", true)
  | 21 => ("BlackoutStartModel", "newDark", "[I", true)
  | 22 => ("BlackoutStartModel", "newName", "[I", true)
  | 23 => ("BlackoutStartModel", "typed", "I", false)
  | 24 => ("BlackoutStartModel", "ended", "I", false)
  | 25 => ("BlackoutStartModel", "next", "I", false)
  | 26 => ("BlackoutStartModel", "begin", "I", false)
  | 27 => ("BlackoutStartModel", "sort", "I", false)
  | 28 => ("BlackoutStartModel", "errorCode", "I", false)
  | 29 => ("BlackoutStartModel", "errorAt", "I", false)
  | 30 => ("BlackoutStartModel", "newOutlets", "I", false)
  | 31 => ("BlackoutStartModel", "newNeeds", "I", false)
  | 32 => ("BlackoutStartModel", "newScriptMany", "I", false)
  | 33 => ("BlackoutStartModel", "newDarks", "I", false)
  | _ => ("BlackoutStartModel", "seen", "I", false)
def tyX6 : Nat → FieldType := fun k => match k with
  | 0 => .int
  | 1 => .int
  | 2 => .int
  | 3 => .int
  | 4 => .int
  | 5 => .array .int
  | 6 => .array .int
  | 7 => .array .int
  | 8 => .array .int
  | 9 => .array .int
  | 10 => .array .int
  | 11 => .array .int
  | 12 => .array .int
  | 13 => .array .int
  | 14 => .array .boolean
  | 15 => .int
  | 16 => .array .int
  | 17 => .array .int
  | 18 => .array .int
  | 19 => .array .int
  | 20 => .array .int
  | 21 => .array .int
  | 22 => .array .int
  | 23 => .int
  | 24 => .int
  | 25 => .int
  | 26 => .int
  | 27 => .int
  | 28 => .int
  | 29 => .int
  | 30 => .int
  | 31 => .int
  | 32 => .int
  | 33 => .int
  | _ => .int
abbrev wsX60 : List Cond := u_ws RX6 TX6 35
set_option maxRecDepth 100000 in
theorem nmX6 : ∀ a, a < 35 → ∀ b, b < 35 → a ≠ b → (TX6 a).2.1 ≠ (TX6 b).2.1 := by decide +kernel
set_option maxRecDepth 100000 in
theorem tyX6_ok : ∀ k, k < 35 → parseFieldDescriptor (TX6 k).2.2.1 = some (tyX6 k) := by decide +kernel
abbrev cX6_init : ByteArray := prog_14_method_1_code
def yX6_init : MethodName := ⟨RX6, "<init>", "()V"⟩
abbrev cX6_clearsTold : ByteArray := prog_14_method_26_code
def yX6_clearsTold : MethodName := ⟨RX6, "clearsTold", "()V"⟩
abbrev cX6_begins : ByteArray := prog_14_method_28_code
def yX6_begins : MethodName := ⟨RX6, "begins", "()V"⟩
abbrev cX6_at : ByteArray := prog_14_method_21_code
def yX6_at : MethodName := ⟨RX6, "at", "(II)I"⟩
abbrev cX6_thrown : ByteArray := prog_14_method_2_code
def yX6_thrown : MethodName := ⟨RX6, "thrown", "()I"⟩
abbrev cX6_append : ByteArray := prog_14_method_5_code
def yX6_append : MethodName := ⟨RX6, "append", "(IIIII)I"⟩
abbrev cX6_may : ByteArray := prog_14_method_4_code
def yX6_may : MethodName := ⟨RX6, "may", "(ZI)Z"⟩
abbrev cX6_truncate : ByteArray := prog_14_method_6_code
def yX6_truncate : MethodName := ⟨RX6, "truncate", "(I)I"⟩
abbrev cX6_isIn : ByteArray := prog_14_method_3_code
def yX6_isIn : MethodName := ⟨RX6, "isIn", "(JJJ)Z"⟩
abbrev cX6_load : ByteArray := prog_14_method_27_code
def yX6_load : MethodName := ⟨RX6, "load", "()I"⟩
abbrev cX6_token : ByteArray := prog_14_method_10_code
def yX6_token : MethodName := ⟨RX6, "token", "()V"⟩
abbrev cX6_byteAt : ByteArray := prog_14_method_7_code
def yX6_byteAt : MethodName := ⟨RX6, "byteAt", "(I)I"⟩
abbrev cX6_isLetter : ByteArray := prog_14_method_8_code
def yX6_isLetter : MethodName := ⟨RX6, "isLetter", "(I)Z"⟩
abbrev cX6_isDigit : ByteArray := prog_14_method_9_code
def yX6_isDigit : MethodName := ⟨RX6, "isDigit", "(I)Z"⟩
abbrev cX6_isWord : ByteArray := prog_14_method_13_code
def yX6_isWord : MethodName := ⟨RX6, "isWord", "(Ljava/lang/String;)Z"⟩
abbrev cX6_isWrong : ByteArray := prog_14_method_11_code
def yX6_isWrong : MethodName := ⟨RX6, "isWrong", "()Z"⟩
abbrev cX6_passes : ByteArray := prog_14_method_14_code
def yX6_passes : MethodName := ⟨RX6, "passes", "(Z)V"⟩
abbrev cX6_fails : ByteArray := prog_14_method_12_code
def yX6_fails : MethodName := ⟨RX6, "fails", "(I)V"⟩
abbrev cX6_figure : ByteArray := prog_14_method_16_code
def yX6_figure : MethodName := ⟨RX6, "figure", "(II)I"⟩
abbrev cX6_semicolon : ByteArray := prog_14_method_15_code
def yX6_semicolon : MethodName := ⟨RX6, "semicolon", "()V"⟩
abbrev cX6_outletLine : ByteArray := prog_14_method_22_code
def yX6_outletLine : MethodName := ⟨RX6, "outletLine", "()V"⟩
abbrev cX6_looksUp : ByteArray := prog_14_method_19_code
def yX6_looksUp : MethodName := ⟨RX6, "looksUp", "()I"⟩
abbrev cX6_isName : ByteArray := prog_14_method_18_code
def yX6_isName : MethodName := ⟨RX6, "isName", "()Z"⟩
abbrev cX6_whichOf : ByteArray := prog_14_method_17_code
def yX6_whichOf : MethodName := ⟨RX6, "whichOf", "([II[III)I"⟩
abbrev cX6_needLine : ByteArray := prog_14_method_23_code
def yX6_needLine : MethodName := ⟨RX6, "needLine", "()V"⟩
abbrev cX6_ruleLine : ByteArray := prog_14_method_25_code
def yX6_ruleLine : MethodName := ⟨RX6, "ruleLine", "()V"⟩
abbrev cX6_once : ByteArray := prog_14_method_20_code
def yX6_once : MethodName := ⟨RX6, "once", "(I)V"⟩
abbrev cX6_scriptHere : ByteArray := prog_14_method_24_code
def yX6_scriptHere : MethodName := ⟨RX6, "scriptHere", "()V"⟩
abbrev cX6_errorCode : ByteArray := prog_14_method_29_code
def yX6_errorCode : MethodName := ⟨RX6, "errorCode", "()I"⟩
abbrev cX6_errorPosition : ByteArray := prog_14_method_30_code
def yX6_errorPosition : MethodName := ⟨RX6, "errorPosition", "()I"⟩
abbrev cX6_find : ByteArray := prog_14_method_31_code
def yX6_find : MethodName := ⟨RX6, "find", "()I"⟩
abbrev cX6_count : ByteArray := prog_14_method_56_code
def yX6_count : MethodName := ⟨RX6, "count", "(I)I"⟩
abbrev cX6_isDark : ByteArray := prog_14_method_42_code
def yX6_isDark : MethodName := ⟨RX6, "isDark", "([I)Z"⟩
abbrev cX6_outlet : ByteArray := prog_14_method_57_code
def yX6_outlet : MethodName := ⟨RX6, "outlet", "(II)I"⟩
abbrev cX6_isOutlet : ByteArray := prog_14_method_55_code
def yX6_isOutlet : MethodName := ⟨RX6, "isOutlet", "(I)Z"⟩
abbrev cX6_known : ByteArray := prog_14_method_58_code
def yX6_known : MethodName := ⟨RX6, "known", "(II)I"⟩
abbrev cX6_expected : ByteArray := prog_14_method_37_code
def yX6_expected : MethodName := ⟨RX6, "expected", "([II)I"⟩
abbrev cX6_peak : ByteArray := prog_14_method_34_code
def yX6_peak : MethodName := ⟨RX6, "peak", "(I)I"⟩
abbrev cX6_inrush : ByteArray := prog_14_method_33_code
def yX6_inrush : MethodName := ⟨RX6, "inrush", "(I)I"⟩
abbrev cX6_reserved : ByteArray := prog_14_method_38_code
def yX6_reserved : MethodName := ⟨RX6, "reserved", "([II)I"⟩
abbrev cX6_steady : ByteArray := prog_14_method_32_code
def yX6_steady : MethodName := ⟨RX6, "steady", "(I)I"⟩
abbrev cX6_placeOf : ByteArray := prog_14_method_49_code
def yX6_placeOf : MethodName := ⟨RX6, "placeOf", "([II)I"⟩
abbrev cX6_needs : ByteArray := prog_14_method_59_code
def yX6_needs : MethodName := ⟨RX6, "needs", "(IZ)I"⟩
abbrev cX6_outletsWith : ByteArray := prog_14_method_60_code
def yX6_outletsWith : MethodName := ⟨RX6, "outletsWith", "(IZ)I"⟩
abbrev cX6_withState : ByteArray := prog_14_method_41_code
def yX6_withState : MethodName := ⟨RX6, "withState", "([III)I"⟩
abbrev cX6_rights : ByteArray := prog_14_method_61_code
def yX6_rights : MethodName := ⟨RX6, "rights", "()I"⟩
abbrev cX6_rightsOf : ByteArray := prog_14_method_40_code
def yX6_rightsOf : MethodName := ⟨RX6, "rightsOf", "([I)I"⟩
abbrev cX6_load_2 : ByteArray := prog_14_method_62_code
def yX6_load_2 : MethodName := ⟨RX6, "load", "(I)I"⟩
abbrev cX6_drawn : ByteArray := prog_14_method_36_code
def yX6_drawn : MethodName := ⟨RX6, "drawn", "([I)I"⟩
abbrev cX6_draw : ByteArray := prog_14_method_35_code
def yX6_draw : MethodName := ⟨RX6, "draw", "([II)I"⟩
abbrev cX6_reservedAll : ByteArray := prog_14_method_39_code
def yX6_reservedAll : MethodName := ⟨RX6, "reservedAll", "([I)I"⟩
abbrev cX6_strain : ByteArray := prog_14_method_63_code
def yX6_strain : MethodName := ⟨RX6, "strain", "()D"⟩
abbrev cX6_message : ByteArray := prog_14_method_64_code
def yX6_message : MethodName := ⟨RX6, "message", "(II)I"⟩
abbrev cX6_traffic : ByteArray := prog_14_method_65_code
def yX6_traffic : MethodName := ⟨RX6, "traffic", "(IZ)I"⟩
abbrev cX6_learned : ByteArray := prog_14_method_66_code
def yX6_learned : MethodName := ⟨RX6, "learned", "(I)I"⟩
abbrev cX6_grants : ByteArray := prog_14_method_67_code
def yX6_grants : MethodName := ⟨RX6, "grants", "()I"⟩
abbrev cX6_grantsOf : ByteArray := prog_14_method_52_code
def yX6_grantsOf : MethodName := ⟨RX6, "grantsOf", "([IZ)I"⟩
abbrev cX6_isAhead : ByteArray := prog_14_method_50_code
def yX6_isAhead : MethodName := ⟨RX6, "isAhead", "([III)Z"⟩
abbrev cX6_lacks : ByteArray := prog_14_method_51_code
def yX6_lacks : MethodName := ⟨RX6, "lacks", "([II)Z"⟩
abbrev cX6_sends : ByteArray := prog_14_method_43_code
def yX6_sends : MethodName := ⟨RX6, "sends", "([IIII)V"⟩
abbrev cX6_marks : ByteArray := prog_14_method_45_code
def yX6_marks : MethodName := ⟨RX6, "marks", "([III)V"⟩
abbrev cX6_why : ByteArray := prog_14_method_68_code
def yX6_why : MethodName := ⟨RX6, "why", "(I)I"⟩
abbrev cX6_runsIn : ByteArray := prog_14_method_71_code
def yX6_runsIn : MethodName := ⟨RX6, "runsIn", "(I)I"⟩
abbrev cX6_laysThen : ByteArray := prog_14_method_69_code
def yX6_laysThen : MethodName := ⟨RX6, "laysThen", "()V"⟩
abbrev cX6_until : ByteArray := prog_14_method_70_code
def yX6_until : MethodName := ⟨RX6, "until", "(I)I"⟩
abbrev cX6_ticks : ByteArray := prog_14_method_54_code
def yX6_ticks : MethodName := ⟨RX6, "ticks", "([I)I"⟩
abbrev cX6_darkens : ByteArray := prog_14_method_44_code
def yX6_darkens : MethodName := ⟨RX6, "darkens", "([II)V"⟩
abbrev cX6_receives : ByteArray := prog_14_method_46_code
def yX6_receives : MethodName := ⟨RX6, "receives", "([II)V"⟩
abbrev cX6_learns : ByteArray := prog_14_method_47_code
def yX6_learns : MethodName := ⟨RX6, "learns", "([I)V"⟩
abbrev cX6_acts : ByteArray := prog_14_method_48_code
def yX6_acts : MethodName := ⟨RX6, "acts", "([II)V"⟩
abbrev cX6_polls : ByteArray := prog_14_method_53_code
def yX6_polls : MethodName := ⟨RX6, "polls", "([I)V"⟩
abbrev cX6_allIn : ByteArray := prog_14_method_73_code
def yX6_allIn : MethodName := ⟨RX6, "allIn", "(I)I"⟩
abbrev cX6_forgets : ByteArray := prog_14_method_72_code
def yX6_forgets : MethodName := ⟨RX6, "forgets", "([I)I"⟩
abbrev cX6_peakIn : ByteArray := prog_14_method_75_code
def yX6_peakIn : MethodName := ⟨RX6, "peakIn", "(II)I"⟩
abbrev cX6_areTicks : ByteArray := prog_14_method_74_code
def yX6_areTicks : MethodName := ⟨RX6, "areTicks", "(I)Z"⟩
abbrev cX6_sentIn : ByteArray := prog_14_method_76_code
def yX6_sentIn : MethodName := ⟨RX6, "sentIn", "(II)I"⟩
abbrev cX6_run : ByteArray := prog_14_method_78_code
def yX6_run : MethodName := ⟨RX6, "run", "(I)I"⟩
abbrev cX6_keeps : ByteArray := prog_14_method_77_code
def yX6_keeps : MethodName := ⟨RX6, "keeps", "()V"⟩
abbrev cX6_blackout : ByteArray := prog_14_method_79_code
def yX6_blackout : MethodName := ⟨RX6, "blackout", "(I)I"⟩
abbrev cX6_want : ByteArray := prog_14_method_80_code
def yX6_want : MethodName := ⟨RX6, "want", "(IZ)Z"⟩
abbrev cX6_setFuse : ByteArray := prog_14_method_81_code
def yX6_setFuse : MethodName := ⟨RX6, "setFuse", "(I)I"⟩
abbrev cX6_setPriority : ByteArray := prog_14_method_82_code
def yX6_setPriority : MethodName := ⟨RX6, "setPriority", "(II)I"⟩
abbrev cX6_forget : ByteArray := prog_14_method_83_code
def yX6_forget : MethodName := ⟨RX6, "forget", "()I"⟩
abbrev cX6_undo : ByteArray := prog_14_method_84_code
def yX6_undo : MethodName := ⟨RX6, "undo", "()I"⟩
abbrev cX6_save : ByteArray := prog_14_method_86_code
def yX6_save : MethodName := ⟨RX6, "save", "(I)V"⟩
abbrev cX6_isSlot : ByteArray := prog_14_method_85_code
def yX6_isSlot : MethodName := ⟨RX6, "isSlot", "(I)Z"⟩
abbrev cX6_restore : ByteArray := prog_14_method_87_code
def yX6_restore : MethodName := ⟨RX6, "restore", "(I)V"⟩
theorem q108 : (Jvm.Cond.initialized "BlackoutStartModel") ∈ lw_all := lw_g (lw_at lw_m1 27 rfl) rfl
theorem q934 : (Jvm.Cond.selects "BlackoutStartModel" ({ cls := "java/lang/Object", name := "getClass", desc := "()Ljava/lang/Class;" } : Jvm.MethodName) ({ cls := "java/lang/Object", name := "getClass", desc := "()Ljava/lang/Class;" } : Jvm.MethodName)) ∈ lw_all := lw_g (lw_at lw_m4 133 rfl) rfl
theorem q1817 : (Jvm.Cond.instantiable "BlackoutStartModel" (35 : Nat)) ∈ lw_all := lw_g (lw_at lw_m8 56 rfl) rfl
theorem q1819 : (Jvm.Cond.instanceMethod ({ cls := "BlackoutStartModel", name := "<init>", desc := "()V" } : Jvm.MethodName)) ∈ lw_all := lw_g (lw_at lw_m8 58 rfl) rfl
theorem q1820 : (Jvm.Cond.code ({ cls := "BlackoutStartModel", name := "<init>", desc := "()V" } : Jvm.MethodName) prog_14_method_1_code (1 : Nat) (Option.none : Option Jvm.ClassFile.FieldType)) ∈ lw_all := lw_g (lw_at lw_m8 59 rfl) rfl
theorem q1821 : (Jvm.Cond.methodLink "BlackoutStartModel" (1 : Nat) ({ cls := "java/lang/Object", name := "<init>", desc := "()V" } : Jvm.MethodName)) ∈ lw_all := lw_g (lw_at lw_m8 60 rfl) rfl
theorem q1822 : (Jvm.Cond.methodLink "BlackoutStartModel" (66 : Nat) ({ cls := "BlackoutStartModel", name := "clearsTold", desc := "()V" } : Jvm.MethodName)) ∈ lw_all := lw_g (lw_at lw_m8 61 rfl) rfl
theorem q1823 : (Jvm.Cond.privateMethod ({ cls := "BlackoutStartModel", name := "clearsTold", desc := "()V" } : Jvm.MethodName)) ∈ lw_tbl := lw_at lw_m8 62 rfl
theorem q1824 : (Jvm.Cond.instanceMethod ({ cls := "BlackoutStartModel", name := "clearsTold", desc := "()V" } : Jvm.MethodName)) ∈ lw_all := lw_g (lw_at lw_m8 63 rfl) rfl
theorem q1825 : (Jvm.Cond.code ({ cls := "BlackoutStartModel", name := "clearsTold", desc := "()V" } : Jvm.MethodName) prog_14_method_26_code (2 : Nat) (Option.none : Option Jvm.ClassFile.FieldType)) ∈ lw_all := lw_g (lw_at lw_m8 64 rfl) rfl
theorem q1826 : (Jvm.Cond.methodLink "BlackoutStartModel" (69 : Nat) ({ cls := "BlackoutStartModel", name := "begins", desc := "()V" } : Jvm.MethodName)) ∈ lw_all := lw_g (lw_at lw_m8 65 rfl) rfl
theorem q1827 : (Jvm.Cond.privateMethod ({ cls := "BlackoutStartModel", name := "begins", desc := "()V" } : Jvm.MethodName)) ∈ lw_tbl := lw_at lw_m8 66 rfl
theorem q1828 : (Jvm.Cond.instanceMethod ({ cls := "BlackoutStartModel", name := "begins", desc := "()V" } : Jvm.MethodName)) ∈ lw_all := lw_g (lw_at lw_m8 67 rfl) rfl
theorem q1829 : (Jvm.Cond.code ({ cls := "BlackoutStartModel", name := "begins", desc := "()V" } : Jvm.MethodName) prog_14_method_28_code (2 : Nat) (Option.none : Option Jvm.ClassFile.FieldType)) ∈ lw_all := lw_g (lw_at lw_m8 68 rfl) rfl
theorem q1830 : (Jvm.Cond.methodLink "BlackoutStartModel" (157 : Nat) ({ cls := "BlackoutStartModel", name := "at", desc := "(II)I" } : Jvm.MethodName)) ∈ lw_all := lw_g (lw_at lw_m8 69 rfl) rfl
theorem q1831 : (Jvm.Cond.static ({ cls := "BlackoutStartModel", name := "at", desc := "(II)I" } : Jvm.MethodName)) ∈ lw_all := lw_g (lw_at lw_m8 70 rfl) rfl
theorem q1832 : (Jvm.Cond.code ({ cls := "BlackoutStartModel", name := "at", desc := "(II)I" } : Jvm.MethodName) prog_14_method_21_code (2 : Nat) (Option.some Jvm.ClassFile.FieldType.int)) ∈ lw_all := lw_g (lw_at lw_m8 71 rfl) rfl
theorem q1833 : (Jvm.Cond.fieldLink "BlackoutStartModel" (72 : Nat) "BlackoutStartModel" "thrown" "I") ∈ lw_all := lw_g (lw_at lw_m8 72 rfl) rfl
theorem q1834 : (Jvm.Cond.fieldLink "BlackoutStartModel" (207 : Nat) "BlackoutStartModel" "outlets" "I") ∈ lw_all := lw_g (lw_at lw_m8 73 rfl) rfl
theorem q1835 : (Jvm.Cond.fieldLink "BlackoutStartModel" (210 : Nat) "BlackoutStartModel" "needMany" "I") ∈ lw_all := lw_g (lw_at lw_m8 74 rfl) rfl
theorem q1836 : (Jvm.Cond.fieldLink "BlackoutStartModel" (213 : Nat) "BlackoutStartModel" "scriptMany" "I") ∈ lw_all := lw_g (lw_at lw_m8 75 rfl) rfl
theorem q1837 : (Jvm.Cond.fieldLink "BlackoutStartModel" (216 : Nat) "BlackoutStartModel" "darkMany" "I") ∈ lw_all := lw_g (lw_at lw_m8 76 rfl) rfl
theorem q1838 : (Jvm.Cond.fieldLink "BlackoutStartModel" (7 : Nat) "BlackoutStartModel" "told4" "[I") ∈ lw_all := lw_g (lw_at lw_m8 77 rfl) rfl
theorem q1839 : (Jvm.Cond.fieldLink "BlackoutStartModel" (13 : Nat) "BlackoutStartModel" "need" "[I") ∈ lw_all := lw_g (lw_at lw_m8 78 rfl) rfl
theorem q1840 : (Jvm.Cond.fieldLink "BlackoutStartModel" (16 : Nat) "BlackoutStartModel" "script" "[I") ∈ lw_all := lw_g (lw_at lw_m8 79 rfl) rfl
theorem q1841 : (Jvm.Cond.fieldLink "BlackoutStartModel" (19 : Nat) "BlackoutStartModel" "dark" "[I") ∈ lw_all := lw_g (lw_at lw_m8 80 rfl) rfl
theorem q1842 : (Jvm.Cond.fieldLink "BlackoutStartModel" (22 : Nat) "BlackoutStartModel" "name" "[I") ∈ lw_all := lw_g (lw_at lw_m8 81 rfl) rfl
theorem q1843 : (Jvm.Cond.fieldLink "BlackoutStartModel" (25 : Nat) "BlackoutStartModel" "now" "[I") ∈ lw_all := lw_g (lw_at lw_m8 82 rfl) rfl
theorem q1844 : (Jvm.Cond.fieldLink "BlackoutStartModel" (28 : Nat) "BlackoutStartModel" "then" "[I") ∈ lw_all := lw_g (lw_at lw_m8 83 rfl) rfl
theorem q1845 : (Jvm.Cond.fieldLink "BlackoutStartModel" (31 : Nat) "BlackoutStartModel" "past" "[I") ∈ lw_all := lw_g (lw_at lw_m8 84 rfl) rfl
theorem q1846 : (Jvm.Cond.fieldLink "BlackoutStartModel" (34 : Nat) "BlackoutStartModel" "slot" "[I") ∈ lw_all := lw_g (lw_at lw_m8 85 rfl) rfl
theorem q1847 : (Jvm.Cond.fieldLink "BlackoutStartModel" (37 : Nat) "BlackoutStartModel" "isSaved" "[Z") ∈ lw_all := lw_g (lw_at lw_m8 86 rfl) rfl
theorem q1848 : (Jvm.Cond.fieldLink "BlackoutStartModel" (219 : Nat) "BlackoutStartModel" "pastMany" "I") ∈ lw_all := lw_g (lw_at lw_m8 87 rfl) rfl
theorem q1849 : (Jvm.Cond.fieldLink "BlackoutStartModel" (41 : Nat) "BlackoutStartModel" "text" "[I") ∈ lw_all := lw_g (lw_at lw_m8 88 rfl) rfl
theorem q1850 : (Jvm.Cond.fieldLink "BlackoutStartModel" (44 : Nat) "BlackoutStartModel" "told" "[I") ∈ lw_all := lw_g (lw_at lw_m8 89 rfl) rfl
theorem q1851 : (Jvm.Cond.fieldLink "BlackoutStartModel" (47 : Nat) "BlackoutStartModel" "newFour" "[I") ∈ lw_all := lw_g (lw_at lw_m8 90 rfl) rfl
theorem q1852 : (Jvm.Cond.fieldLink "BlackoutStartModel" (50 : Nat) "BlackoutStartModel" "newNeed" "[I") ∈ lw_all := lw_g (lw_at lw_m8 91 rfl) rfl
theorem q1853 : (Jvm.Cond.fieldLink "BlackoutStartModel" (53 : Nat) "BlackoutStartModel" "newScript" "[I") ∈ lw_all := lw_g (lw_at lw_m8 92 rfl) rfl
theorem q1854 : (Jvm.Cond.fieldLink "BlackoutStartModel" (56 : Nat) "BlackoutStartModel" "newDark" "[I") ∈ lw_all := lw_g (lw_at lw_m8 93 rfl) rfl
theorem q1855 : (Jvm.Cond.fieldLink "BlackoutStartModel" (59 : Nat) "BlackoutStartModel" "newName" "[I") ∈ lw_all := lw_g (lw_at lw_m8 94 rfl) rfl
theorem q1856 : (Jvm.Cond.fieldLink "BlackoutStartModel" (75 : Nat) "BlackoutStartModel" "typed" "I") ∈ lw_all := lw_g (lw_at lw_m8 95 rfl) rfl
theorem q1857 : (Jvm.Cond.fieldLink "BlackoutStartModel" (86 : Nat) "BlackoutStartModel" "ended" "I") ∈ lw_all := lw_g (lw_at lw_m8 96 rfl) rfl
theorem q1858 : (Jvm.Cond.fieldLink "BlackoutStartModel" (89 : Nat) "BlackoutStartModel" "next" "I") ∈ lw_all := lw_g (lw_at lw_m8 97 rfl) rfl
theorem q1859 : (Jvm.Cond.fieldLink "BlackoutStartModel" (96 : Nat) "BlackoutStartModel" "begin" "I") ∈ lw_all := lw_g (lw_at lw_m8 98 rfl) rfl
theorem q1860 : (Jvm.Cond.fieldLink "BlackoutStartModel" (99 : Nat) "BlackoutStartModel" "sort" "I") ∈ lw_all := lw_g (lw_at lw_m8 99 rfl) rfl
theorem q1861 : (Jvm.Cond.fieldLink "BlackoutStartModel" (109 : Nat) "BlackoutStartModel" "errorCode" "I") ∈ lw_all := lw_g (lw_at lw_m8 100 rfl) rfl
theorem q1862 : (Jvm.Cond.fieldLink "BlackoutStartModel" (62 : Nat) "BlackoutStartModel" "errorAt" "I") ∈ lw_all := lw_g (lw_at lw_m8 101 rfl) rfl
theorem q1863 : (Jvm.Cond.fieldLink "BlackoutStartModel" (140 : Nat) "BlackoutStartModel" "newOutlets" "I") ∈ lw_all := lw_g (lw_at lw_m8 102 rfl) rfl
theorem q1864 : (Jvm.Cond.fieldLink "BlackoutStartModel" (163 : Nat) "BlackoutStartModel" "newNeeds" "I") ∈ lw_all := lw_g (lw_at lw_m8 103 rfl) rfl
theorem q1865 : (Jvm.Cond.fieldLink "BlackoutStartModel" (166 : Nat) "BlackoutStartModel" "newScriptMany" "I") ∈ lw_all := lw_g (lw_at lw_m8 104 rfl) rfl
theorem q1866 : (Jvm.Cond.fieldLink "BlackoutStartModel" (190 : Nat) "BlackoutStartModel" "newDarks" "I") ∈ lw_all := lw_g (lw_at lw_m8 105 rfl) rfl
theorem q1867 : (Jvm.Cond.fieldLink "BlackoutStartModel" (147 : Nat) "BlackoutStartModel" "seen" "I") ∈ lw_all := lw_g (lw_at lw_m8 106 rfl) rfl
theorem q1868 : (Jvm.Cond.lays "BlackoutStartModel" "BlackoutStartModel" "thrown" "I") ∈ lw_all := lw_g (lw_at lw_m8 107 rfl) rfl
theorem q1869 : (Jvm.Cond.soleField "BlackoutStartModel" "thrown") ∈ lw_all := lw_g (lw_at lw_m8 108 rfl) rfl
theorem q1870 : (Jvm.Cond.lays "BlackoutStartModel" "BlackoutStartModel" "outlets" "I") ∈ lw_all := lw_g (lw_at lw_m8 109 rfl) rfl
theorem q1871 : (Jvm.Cond.soleField "BlackoutStartModel" "outlets") ∈ lw_all := lw_g (lw_at lw_m8 110 rfl) rfl
theorem q1872 : (Jvm.Cond.lays "BlackoutStartModel" "BlackoutStartModel" "needMany" "I") ∈ lw_all := lw_g (lw_at lw_m8 111 rfl) rfl
theorem q1873 : (Jvm.Cond.soleField "BlackoutStartModel" "needMany") ∈ lw_all := lw_g (lw_at lw_m8 112 rfl) rfl
theorem q1874 : (Jvm.Cond.lays "BlackoutStartModel" "BlackoutStartModel" "scriptMany" "I") ∈ lw_all := lw_g (lw_at lw_m8 113 rfl) rfl
theorem q1875 : (Jvm.Cond.soleField "BlackoutStartModel" "scriptMany") ∈ lw_all := lw_g (lw_at lw_m8 114 rfl) rfl
theorem q1876 : (Jvm.Cond.lays "BlackoutStartModel" "BlackoutStartModel" "darkMany" "I") ∈ lw_all := lw_g (lw_at lw_m8 115 rfl) rfl
theorem q1877 : (Jvm.Cond.soleField "BlackoutStartModel" "darkMany") ∈ lw_all := lw_g (lw_at lw_m8 116 rfl) rfl
theorem q1878 : (Jvm.Cond.laysFinal "BlackoutStartModel" "BlackoutStartModel" "told4" "[I") ∈ lw_all := lw_g (lw_at lw_m8 117 rfl) rfl
theorem q1879 : (Jvm.Cond.soleField "BlackoutStartModel" "told4") ∈ lw_all := lw_g (lw_at lw_m8 118 rfl) rfl
theorem q1880 : (Jvm.Cond.laysFinal "BlackoutStartModel" "BlackoutStartModel" "need" "[I") ∈ lw_all := lw_g (lw_at lw_m8 119 rfl) rfl
theorem q1881 : (Jvm.Cond.soleField "BlackoutStartModel" "need") ∈ lw_all := lw_g (lw_at lw_m8 120 rfl) rfl
theorem q1882 : (Jvm.Cond.laysFinal "BlackoutStartModel" "BlackoutStartModel" "script" "[I") ∈ lw_all := lw_g (lw_at lw_m8 121 rfl) rfl
theorem q1883 : (Jvm.Cond.soleField "BlackoutStartModel" "script") ∈ lw_all := lw_g (lw_at lw_m8 122 rfl) rfl
theorem q1884 : (Jvm.Cond.laysFinal "BlackoutStartModel" "BlackoutStartModel" "dark" "[I") ∈ lw_all := lw_g (lw_at lw_m8 123 rfl) rfl
theorem q1885 : (Jvm.Cond.soleField "BlackoutStartModel" "dark") ∈ lw_all := lw_g (lw_at lw_m8 124 rfl) rfl
theorem q1886 : (Jvm.Cond.laysFinal "BlackoutStartModel" "BlackoutStartModel" "name" "[I") ∈ lw_all := lw_g (lw_at lw_m8 125 rfl) rfl
theorem q1887 : (Jvm.Cond.soleField "BlackoutStartModel" "name") ∈ lw_all := lw_g (lw_at lw_m8 126 rfl) rfl
theorem q1888 : (Jvm.Cond.laysFinal "BlackoutStartModel" "BlackoutStartModel" "now" "[I") ∈ lw_all := lw_g (lw_at lw_m8 127 rfl) rfl
theorem q1889 : (Jvm.Cond.soleField "BlackoutStartModel" "now") ∈ lw_all := lw_g (lw_at lw_m8 128 rfl) rfl
theorem q1890 : (Jvm.Cond.laysFinal "BlackoutStartModel" "BlackoutStartModel" "then" "[I") ∈ lw_all := lw_g (lw_at lw_m8 129 rfl) rfl
theorem q1891 : (Jvm.Cond.soleField "BlackoutStartModel" "then") ∈ lw_all := lw_g (lw_at lw_m8 130 rfl) rfl
theorem q1892 : (Jvm.Cond.laysFinal "BlackoutStartModel" "BlackoutStartModel" "past" "[I") ∈ lw_all := lw_g (lw_at lw_m8 131 rfl) rfl
theorem q1893 : (Jvm.Cond.soleField "BlackoutStartModel" "past") ∈ lw_all := lw_g (lw_at lw_m8 132 rfl) rfl
theorem q1894 : (Jvm.Cond.laysFinal "BlackoutStartModel" "BlackoutStartModel" "slot" "[I") ∈ lw_all := lw_g (lw_at lw_m8 133 rfl) rfl
theorem q1895 : (Jvm.Cond.soleField "BlackoutStartModel" "slot") ∈ lw_all := lw_g (lw_at lw_m8 134 rfl) rfl
theorem q1896 : (Jvm.Cond.laysFinal "BlackoutStartModel" "BlackoutStartModel" "isSaved" "[Z") ∈ lw_all := lw_g (lw_at lw_m8 135 rfl) rfl
theorem q1897 : (Jvm.Cond.soleField "BlackoutStartModel" "isSaved") ∈ lw_all := lw_g (lw_at lw_m8 136 rfl) rfl
theorem q1898 : (Jvm.Cond.lays "BlackoutStartModel" "BlackoutStartModel" "pastMany" "I") ∈ lw_all := lw_g (lw_at lw_m8 137 rfl) rfl
theorem q1899 : (Jvm.Cond.soleField "BlackoutStartModel" "pastMany") ∈ lw_all := lw_g (lw_at lw_m8 138 rfl) rfl
theorem q1900 : (Jvm.Cond.laysFinal "BlackoutStartModel" "BlackoutStartModel" "text" "[I") ∈ lw_all := lw_g (lw_at lw_m8 139 rfl) rfl
theorem q1901 : (Jvm.Cond.soleField "BlackoutStartModel" "text") ∈ lw_all := lw_g (lw_at lw_m8 140 rfl) rfl
theorem q1902 : (Jvm.Cond.laysFinal "BlackoutStartModel" "BlackoutStartModel" "told" "[I") ∈ lw_all := lw_g (lw_at lw_m8 141 rfl) rfl
theorem q1903 : (Jvm.Cond.soleField "BlackoutStartModel" "told") ∈ lw_all := lw_g (lw_at lw_m8 142 rfl) rfl
theorem q1904 : (Jvm.Cond.laysFinal "BlackoutStartModel" "BlackoutStartModel" "newFour" "[I") ∈ lw_all := lw_g (lw_at lw_m8 143 rfl) rfl
theorem q1905 : (Jvm.Cond.soleField "BlackoutStartModel" "newFour") ∈ lw_all := lw_g (lw_at lw_m8 144 rfl) rfl
theorem q1906 : (Jvm.Cond.laysFinal "BlackoutStartModel" "BlackoutStartModel" "newNeed" "[I") ∈ lw_all := lw_g (lw_at lw_m8 145 rfl) rfl
theorem q1907 : (Jvm.Cond.soleField "BlackoutStartModel" "newNeed") ∈ lw_all := lw_g (lw_at lw_m8 146 rfl) rfl
theorem q1908 : (Jvm.Cond.laysFinal "BlackoutStartModel" "BlackoutStartModel" "newScript" "[I") ∈ lw_all := lw_g (lw_at lw_m8 147 rfl) rfl
theorem q1909 : (Jvm.Cond.soleField "BlackoutStartModel" "newScript") ∈ lw_all := lw_g (lw_at lw_m8 148 rfl) rfl
theorem q1910 : (Jvm.Cond.laysFinal "BlackoutStartModel" "BlackoutStartModel" "newDark" "[I") ∈ lw_all := lw_g (lw_at lw_m8 149 rfl) rfl
theorem q1911 : (Jvm.Cond.soleField "BlackoutStartModel" "newDark") ∈ lw_all := lw_g (lw_at lw_m8 150 rfl) rfl
theorem q1912 : (Jvm.Cond.laysFinal "BlackoutStartModel" "BlackoutStartModel" "newName" "[I") ∈ lw_all := lw_g (lw_at lw_m8 151 rfl) rfl
theorem q1913 : (Jvm.Cond.soleField "BlackoutStartModel" "newName") ∈ lw_all := lw_g (lw_at lw_m8 152 rfl) rfl
theorem q1914 : (Jvm.Cond.lays "BlackoutStartModel" "BlackoutStartModel" "typed" "I") ∈ lw_all := lw_g (lw_at lw_m8 153 rfl) rfl
theorem q1915 : (Jvm.Cond.soleField "BlackoutStartModel" "typed") ∈ lw_all := lw_g (lw_at lw_m8 154 rfl) rfl
theorem q1916 : (Jvm.Cond.lays "BlackoutStartModel" "BlackoutStartModel" "ended" "I") ∈ lw_all := lw_g (lw_at lw_m8 155 rfl) rfl
theorem q1917 : (Jvm.Cond.soleField "BlackoutStartModel" "ended") ∈ lw_all := lw_g (lw_at lw_m8 156 rfl) rfl
theorem q1918 : (Jvm.Cond.lays "BlackoutStartModel" "BlackoutStartModel" "next" "I") ∈ lw_all := lw_g (lw_at lw_m8 157 rfl) rfl
theorem q1919 : (Jvm.Cond.soleField "BlackoutStartModel" "next") ∈ lw_all := lw_g (lw_at lw_m8 158 rfl) rfl
theorem q1920 : (Jvm.Cond.lays "BlackoutStartModel" "BlackoutStartModel" "begin" "I") ∈ lw_all := lw_g (lw_at lw_m8 159 rfl) rfl
theorem q1921 : (Jvm.Cond.soleField "BlackoutStartModel" "begin") ∈ lw_all := lw_g (lw_at lw_m8 160 rfl) rfl
theorem q1922 : (Jvm.Cond.lays "BlackoutStartModel" "BlackoutStartModel" "sort" "I") ∈ lw_all := lw_g (lw_at lw_m8 161 rfl) rfl
theorem q1923 : (Jvm.Cond.soleField "BlackoutStartModel" "sort") ∈ lw_all := lw_g (lw_at lw_m8 162 rfl) rfl
theorem q1924 : (Jvm.Cond.lays "BlackoutStartModel" "BlackoutStartModel" "errorCode" "I") ∈ lw_all := lw_g (lw_at lw_m8 163 rfl) rfl
theorem q1925 : (Jvm.Cond.soleField "BlackoutStartModel" "errorCode") ∈ lw_all := lw_g (lw_at lw_m8 164 rfl) rfl
theorem q1926 : (Jvm.Cond.lays "BlackoutStartModel" "BlackoutStartModel" "errorAt" "I") ∈ lw_all := lw_g (lw_at lw_m8 165 rfl) rfl
theorem q1927 : (Jvm.Cond.soleField "BlackoutStartModel" "errorAt") ∈ lw_all := lw_g (lw_at lw_m8 166 rfl) rfl
theorem q1928 : (Jvm.Cond.lays "BlackoutStartModel" "BlackoutStartModel" "newOutlets" "I") ∈ lw_all := lw_g (lw_at lw_m8 167 rfl) rfl
theorem q1929 : (Jvm.Cond.soleField "BlackoutStartModel" "newOutlets") ∈ lw_all := lw_g (lw_at lw_m8 168 rfl) rfl
theorem q1930 : (Jvm.Cond.lays "BlackoutStartModel" "BlackoutStartModel" "newNeeds" "I") ∈ lw_all := lw_g (lw_at lw_m8 169 rfl) rfl
theorem q1931 : (Jvm.Cond.soleField "BlackoutStartModel" "newNeeds") ∈ lw_all := lw_g (lw_at lw_m8 170 rfl) rfl
theorem q1932 : (Jvm.Cond.lays "BlackoutStartModel" "BlackoutStartModel" "newScriptMany" "I") ∈ lw_all := lw_g (lw_at lw_m8 171 rfl) rfl
theorem q1933 : (Jvm.Cond.soleField "BlackoutStartModel" "newScriptMany") ∈ lw_all := lw_g (lw_at lw_m8 172 rfl) rfl
theorem q1934 : (Jvm.Cond.lays "BlackoutStartModel" "BlackoutStartModel" "newDarks" "I") ∈ lw_all := lw_g (lw_at lw_m8 173 rfl) rfl
theorem q1935 : (Jvm.Cond.soleField "BlackoutStartModel" "newDarks") ∈ lw_all := lw_g (lw_at lw_m8 174 rfl) rfl
theorem q1936 : (Jvm.Cond.lays "BlackoutStartModel" "BlackoutStartModel" "seen" "I") ∈ lw_all := lw_g (lw_at lw_m8 175 rfl) rfl
theorem q1937 : (Jvm.Cond.soleField "BlackoutStartModel" "seen") ∈ lw_all := lw_g (lw_at lw_m8 176 rfl) rfl
theorem q1938 : (Jvm.Cond.superclass "BlackoutStartModel" "java/lang/Object") ∈ lw_all := lw_g (lw_at lw_m8 177 rfl) rfl
theorem q1941 : (Jvm.Cond.instanceMethod ({ cls := "BlackoutStartModel", name := "thrown", desc := "()I" } : Jvm.MethodName)) ∈ lw_all := lw_g (lw_at lw_m8 180 rfl) rfl
theorem q1942 : (Jvm.Cond.selects "BlackoutStartModel" ({ cls := "BlackoutStartModel", name := "thrown", desc := "()I" } : Jvm.MethodName) ({ cls := "BlackoutStartModel", name := "thrown", desc := "()I" } : Jvm.MethodName)) ∈ lw_all := lw_g (lw_at lw_m8 181 rfl) rfl
theorem q1943 : (Jvm.Cond.code ({ cls := "BlackoutStartModel", name := "thrown", desc := "()I" } : Jvm.MethodName) prog_14_method_2_code (1 : Nat) (Option.some Jvm.ClassFile.FieldType.int)) ∈ lw_all := lw_g (lw_at lw_m8 182 rfl) rfl
theorem q1945 : (Jvm.Cond.instanceMethod ({ cls := "BlackoutStartModel", name := "append", desc := "(IIIII)I" } : Jvm.MethodName)) ∈ lw_all := lw_g (lw_at lw_m8 184 rfl) rfl
theorem q1946 : (Jvm.Cond.selects "BlackoutStartModel" ({ cls := "BlackoutStartModel", name := "append", desc := "(IIIII)I" } : Jvm.MethodName) ({ cls := "BlackoutStartModel", name := "append", desc := "(IIIII)I" } : Jvm.MethodName)) ∈ lw_all := lw_g (lw_at lw_m8 185 rfl) rfl
theorem q1947 : (Jvm.Cond.code ({ cls := "BlackoutStartModel", name := "append", desc := "(IIIII)I" } : Jvm.MethodName) prog_14_method_5_code (8 : Nat) (Option.some Jvm.ClassFile.FieldType.int)) ∈ lw_all := lw_g (lw_at lw_m8 186 rfl) rfl
theorem q1948 : (Jvm.Cond.methodLink "BlackoutStartModel" (78 : Nat) ({ cls := "BlackoutStartModel", name := "may", desc := "(ZI)Z" } : Jvm.MethodName)) ∈ lw_all := lw_g (lw_at lw_m8 187 rfl) rfl
theorem q1949 : (Jvm.Cond.privateMethod ({ cls := "BlackoutStartModel", name := "may", desc := "(ZI)Z" } : Jvm.MethodName)) ∈ lw_tbl := lw_at lw_m8 188 rfl
theorem q1950 : (Jvm.Cond.instanceMethod ({ cls := "BlackoutStartModel", name := "may", desc := "(ZI)Z" } : Jvm.MethodName)) ∈ lw_all := lw_g (lw_at lw_m8 189 rfl) rfl
theorem q1951 : (Jvm.Cond.code ({ cls := "BlackoutStartModel", name := "may", desc := "(ZI)Z" } : Jvm.MethodName) prog_14_method_4_code (3 : Nat) (Option.some Jvm.ClassFile.FieldType.boolean)) ∈ lw_all := lw_g (lw_at lw_m8 190 rfl) rfl
theorem q1953 : (Jvm.Cond.instanceMethod ({ cls := "BlackoutStartModel", name := "truncate", desc := "(I)I" } : Jvm.MethodName)) ∈ lw_all := lw_g (lw_at lw_m8 192 rfl) rfl
theorem q1954 : (Jvm.Cond.selects "BlackoutStartModel" ({ cls := "BlackoutStartModel", name := "truncate", desc := "(I)I" } : Jvm.MethodName) ({ cls := "BlackoutStartModel", name := "truncate", desc := "(I)I" } : Jvm.MethodName)) ∈ lw_all := lw_g (lw_at lw_m8 193 rfl) rfl
theorem q1955 : (Jvm.Cond.code ({ cls := "BlackoutStartModel", name := "truncate", desc := "(I)I" } : Jvm.MethodName) prog_14_method_6_code (2 : Nat) (Option.some Jvm.ClassFile.FieldType.int)) ∈ lw_all := lw_g (lw_at lw_m8 194 rfl) rfl
theorem q1956 : (Jvm.Cond.methodLink "BlackoutStartModel" (82 : Nat) ({ cls := "BlackoutStartModel", name := "isIn", desc := "(JJJ)Z" } : Jvm.MethodName)) ∈ lw_all := lw_g (lw_at lw_m8 195 rfl) rfl
theorem q1957 : (Jvm.Cond.static ({ cls := "BlackoutStartModel", name := "isIn", desc := "(JJJ)Z" } : Jvm.MethodName)) ∈ lw_all := lw_g (lw_at lw_m8 196 rfl) rfl
theorem q1958 : (Jvm.Cond.code ({ cls := "BlackoutStartModel", name := "isIn", desc := "(JJJ)Z" } : Jvm.MethodName) prog_14_method_3_code (6 : Nat) (Option.some Jvm.ClassFile.FieldType.boolean)) ∈ lw_all := lw_g (lw_at lw_m8 197 rfl) rfl
theorem q1960 : (Jvm.Cond.instanceMethod ({ cls := "BlackoutStartModel", name := "load", desc := "()I" } : Jvm.MethodName)) ∈ lw_all := lw_g (lw_at lw_m8 199 rfl) rfl
theorem q1961 : (Jvm.Cond.selects "BlackoutStartModel" ({ cls := "BlackoutStartModel", name := "load", desc := "()I" } : Jvm.MethodName) ({ cls := "BlackoutStartModel", name := "load", desc := "()I" } : Jvm.MethodName)) ∈ lw_all := lw_g (lw_at lw_m8 200 rfl) rfl
theorem q1962 : (Jvm.Cond.code ({ cls := "BlackoutStartModel", name := "load", desc := "()I" } : Jvm.MethodName) prog_14_method_27_code (1 : Nat) (Option.some Jvm.ClassFile.FieldType.int)) ∈ lw_all := lw_g (lw_at lw_m8 201 rfl) rfl
theorem q1963 : (Jvm.Cond.methodLink "BlackoutStartModel" (130 : Nat) ({ cls := "BlackoutStartModel", name := "token", desc := "()V" } : Jvm.MethodName)) ∈ lw_all := lw_g (lw_at lw_m8 202 rfl) rfl
theorem q1964 : (Jvm.Cond.privateMethod ({ cls := "BlackoutStartModel", name := "token", desc := "()V" } : Jvm.MethodName)) ∈ lw_tbl := lw_at lw_m8 203 rfl
theorem q1965 : (Jvm.Cond.instanceMethod ({ cls := "BlackoutStartModel", name := "token", desc := "()V" } : Jvm.MethodName)) ∈ lw_all := lw_g (lw_at lw_m8 204 rfl) rfl
theorem q1966 : (Jvm.Cond.code ({ cls := "BlackoutStartModel", name := "token", desc := "()V" } : Jvm.MethodName) prog_14_method_10_code (2 : Nat) (Option.none : Option Jvm.ClassFile.FieldType)) ∈ lw_all := lw_g (lw_at lw_m8 205 rfl) rfl
theorem q1967 : (Jvm.Cond.methodLink "BlackoutStartModel" (92 : Nat) ({ cls := "BlackoutStartModel", name := "byteAt", desc := "(I)I" } : Jvm.MethodName)) ∈ lw_all := lw_g (lw_at lw_m8 206 rfl) rfl
theorem q1968 : (Jvm.Cond.privateMethod ({ cls := "BlackoutStartModel", name := "byteAt", desc := "(I)I" } : Jvm.MethodName)) ∈ lw_tbl := lw_at lw_m8 207 rfl
theorem q1969 : (Jvm.Cond.instanceMethod ({ cls := "BlackoutStartModel", name := "byteAt", desc := "(I)I" } : Jvm.MethodName)) ∈ lw_all := lw_g (lw_at lw_m8 208 rfl) rfl
theorem q1970 : (Jvm.Cond.code ({ cls := "BlackoutStartModel", name := "byteAt", desc := "(I)I" } : Jvm.MethodName) prog_14_method_7_code (2 : Nat) (Option.some Jvm.ClassFile.FieldType.int)) ∈ lw_all := lw_g (lw_at lw_m8 209 rfl) rfl
theorem q1971 : (Jvm.Cond.methodLink "BlackoutStartModel" (102 : Nat) ({ cls := "BlackoutStartModel", name := "isLetter", desc := "(I)Z" } : Jvm.MethodName)) ∈ lw_all := lw_g (lw_at lw_m8 210 rfl) rfl
theorem q1972 : (Jvm.Cond.static ({ cls := "BlackoutStartModel", name := "isLetter", desc := "(I)Z" } : Jvm.MethodName)) ∈ lw_all := lw_g (lw_at lw_m8 211 rfl) rfl
theorem q1973 : (Jvm.Cond.code ({ cls := "BlackoutStartModel", name := "isLetter", desc := "(I)Z" } : Jvm.MethodName) prog_14_method_8_code (1 : Nat) (Option.some Jvm.ClassFile.FieldType.boolean)) ∈ lw_all := lw_g (lw_at lw_m8 212 rfl) rfl
theorem q1974 : (Jvm.Cond.methodLink "BlackoutStartModel" (106 : Nat) ({ cls := "BlackoutStartModel", name := "isDigit", desc := "(I)Z" } : Jvm.MethodName)) ∈ lw_all := lw_g (lw_at lw_m8 213 rfl) rfl
theorem q1975 : (Jvm.Cond.static ({ cls := "BlackoutStartModel", name := "isDigit", desc := "(I)Z" } : Jvm.MethodName)) ∈ lw_all := lw_g (lw_at lw_m8 214 rfl) rfl
theorem q1976 : (Jvm.Cond.code ({ cls := "BlackoutStartModel", name := "isDigit", desc := "(I)Z" } : Jvm.MethodName) prog_14_method_9_code (1 : Nat) (Option.some Jvm.ClassFile.FieldType.boolean)) ∈ lw_all := lw_g (lw_at lw_m8 215 rfl) rfl
theorem q1977 : (Jvm.Cond.stringRef "BlackoutStartModel" (193 : Nat) "fuse") ∈ lw_tbl := lw_at lw_m8 216 rfl
theorem q1978 : (Jvm.Cond.methodLink "BlackoutStartModel" (171 : Nat) ({ cls := "BlackoutStartModel", name := "isWord", desc := "(Ljava/lang/String;)Z" } : Jvm.MethodName)) ∈ lw_all := lw_g (lw_at lw_m8 217 rfl) rfl
theorem q1979 : (Jvm.Cond.privateMethod ({ cls := "BlackoutStartModel", name := "isWord", desc := "(Ljava/lang/String;)Z" } : Jvm.MethodName)) ∈ lw_tbl := lw_at lw_m8 218 rfl
theorem q1980 : (Jvm.Cond.instanceMethod ({ cls := "BlackoutStartModel", name := "isWord", desc := "(Ljava/lang/String;)Z" } : Jvm.MethodName)) ∈ lw_all := lw_g (lw_at lw_m8 219 rfl) rfl
theorem q1981 : (Jvm.Cond.code ({ cls := "BlackoutStartModel", name := "isWord", desc := "(Ljava/lang/String;)Z" } : Jvm.MethodName) prog_14_method_13_code (3 : Nat) (Option.some Jvm.ClassFile.FieldType.boolean)) ∈ lw_all := lw_g (lw_at lw_m8 220 rfl) rfl
theorem q1982 : (Jvm.Cond.methodLink "BlackoutStartModel" (112 : Nat) ({ cls := "BlackoutStartModel", name := "isWrong", desc := "()Z" } : Jvm.MethodName)) ∈ lw_all := lw_g (lw_at lw_m8 221 rfl) rfl
theorem q1983 : (Jvm.Cond.privateMethod ({ cls := "BlackoutStartModel", name := "isWrong", desc := "()Z" } : Jvm.MethodName)) ∈ lw_tbl := lw_at lw_m8 222 rfl
theorem q1984 : (Jvm.Cond.instanceMethod ({ cls := "BlackoutStartModel", name := "isWrong", desc := "()Z" } : Jvm.MethodName)) ∈ lw_all := lw_g (lw_at lw_m8 223 rfl) rfl
theorem q1985 : (Jvm.Cond.code ({ cls := "BlackoutStartModel", name := "isWrong", desc := "()Z" } : Jvm.MethodName) prog_14_method_11_code (1 : Nat) (Option.some Jvm.ClassFile.FieldType.boolean)) ∈ lw_all := lw_g (lw_at lw_m8 224 rfl) rfl
theorem q1986 : (Jvm.Cond.methodLink "BlackoutStartModel" (116 : Nat) ({ cls := "java/lang/String", name := "length", desc := "()I" } : Jvm.MethodName)) ∈ lw_all := lw_g (lw_at lw_m8 225 rfl) rfl
theorem q1987 : (Jvm.Cond.methodLink "BlackoutStartModel" (122 : Nat) ({ cls := "java/lang/String", name := "charAt", desc := "(I)C" } : Jvm.MethodName)) ∈ lw_all := lw_g (lw_at lw_m8 226 rfl) rfl
theorem q1998 : (Jvm.Cond.methodLink "BlackoutStartModel" (133 : Nat) ({ cls := "BlackoutStartModel", name := "passes", desc := "(Z)V" } : Jvm.MethodName)) ∈ lw_all := lw_g (lw_at lw_m8 237 rfl) rfl
theorem q1999 : (Jvm.Cond.privateMethod ({ cls := "BlackoutStartModel", name := "passes", desc := "(Z)V" } : Jvm.MethodName)) ∈ lw_tbl := lw_at lw_m8 238 rfl
theorem q2000 : (Jvm.Cond.instanceMethod ({ cls := "BlackoutStartModel", name := "passes", desc := "(Z)V" } : Jvm.MethodName)) ∈ lw_all := lw_g (lw_at lw_m8 239 rfl) rfl
theorem q2001 : (Jvm.Cond.code ({ cls := "BlackoutStartModel", name := "passes", desc := "(Z)V" } : Jvm.MethodName) prog_14_method_14_code (2 : Nat) (Option.none : Option Jvm.ClassFile.FieldType)) ∈ lw_all := lw_g (lw_at lw_m9 0 rfl) rfl
theorem q2002 : (Jvm.Cond.methodLink "BlackoutStartModel" (126 : Nat) ({ cls := "BlackoutStartModel", name := "fails", desc := "(I)V" } : Jvm.MethodName)) ∈ lw_all := lw_g (lw_at lw_m9 1 rfl) rfl
theorem q2003 : (Jvm.Cond.privateMethod ({ cls := "BlackoutStartModel", name := "fails", desc := "(I)V" } : Jvm.MethodName)) ∈ lw_tbl := lw_at lw_m9 2 rfl
theorem q2004 : (Jvm.Cond.instanceMethod ({ cls := "BlackoutStartModel", name := "fails", desc := "(I)V" } : Jvm.MethodName)) ∈ lw_all := lw_g (lw_at lw_m9 3 rfl) rfl
theorem q2005 : (Jvm.Cond.code ({ cls := "BlackoutStartModel", name := "fails", desc := "(I)V" } : Jvm.MethodName) prog_14_method_12_code (2 : Nat) (Option.none : Option Jvm.ClassFile.FieldType)) ∈ lw_all := lw_g (lw_at lw_m9 4 rfl) rfl
theorem q2006 : (Jvm.Cond.methodLink "BlackoutStartModel" (153 : Nat) ({ cls := "BlackoutStartModel", name := "figure", desc := "(II)I" } : Jvm.MethodName)) ∈ lw_all := lw_g (lw_at lw_m9 5 rfl) rfl
theorem q2007 : (Jvm.Cond.privateMethod ({ cls := "BlackoutStartModel", name := "figure", desc := "(II)I" } : Jvm.MethodName)) ∈ lw_tbl := lw_at lw_m9 6 rfl
theorem q2008 : (Jvm.Cond.instanceMethod ({ cls := "BlackoutStartModel", name := "figure", desc := "(II)I" } : Jvm.MethodName)) ∈ lw_all := lw_g (lw_at lw_m9 7 rfl) rfl
theorem q2009 : (Jvm.Cond.code ({ cls := "BlackoutStartModel", name := "figure", desc := "(II)I" } : Jvm.MethodName) prog_14_method_16_code (5 : Nat) (Option.some Jvm.ClassFile.FieldType.int)) ∈ lw_all := lw_g (lw_at lw_m9 8 rfl) rfl
theorem q2010 : (Jvm.Cond.methodLink "BlackoutStartModel" (160 : Nat) ({ cls := "BlackoutStartModel", name := "semicolon", desc := "()V" } : Jvm.MethodName)) ∈ lw_all := lw_g (lw_at lw_m9 9 rfl) rfl
theorem q2011 : (Jvm.Cond.privateMethod ({ cls := "BlackoutStartModel", name := "semicolon", desc := "()V" } : Jvm.MethodName)) ∈ lw_tbl := lw_at lw_m9 10 rfl
theorem q2012 : (Jvm.Cond.instanceMethod ({ cls := "BlackoutStartModel", name := "semicolon", desc := "()V" } : Jvm.MethodName)) ∈ lw_all := lw_g (lw_at lw_m9 11 rfl) rfl
theorem q2013 : (Jvm.Cond.code ({ cls := "BlackoutStartModel", name := "semicolon", desc := "()V" } : Jvm.MethodName) prog_14_method_15_code (1 : Nat) (Option.none : Option Jvm.ClassFile.FieldType)) ∈ lw_all := lw_g (lw_at lw_m9 12 rfl) rfl
theorem q2014 : (Jvm.Cond.stringRef "BlackoutStartModel" (195 : Nat) "outlet") ∈ lw_tbl := lw_at lw_m9 13 rfl
theorem q2015 : (Jvm.Cond.methodLink "BlackoutStartModel" (197 : Nat) ({ cls := "BlackoutStartModel", name := "outletLine", desc := "()V" } : Jvm.MethodName)) ∈ lw_all := lw_g (lw_at lw_m9 14 rfl) rfl
theorem q2016 : (Jvm.Cond.privateMethod ({ cls := "BlackoutStartModel", name := "outletLine", desc := "()V" } : Jvm.MethodName)) ∈ lw_tbl := lw_at lw_m9 15 rfl
theorem q2017 : (Jvm.Cond.instanceMethod ({ cls := "BlackoutStartModel", name := "outletLine", desc := "()V" } : Jvm.MethodName)) ∈ lw_all := lw_g (lw_at lw_m9 16 rfl) rfl
theorem q2018 : (Jvm.Cond.code ({ cls := "BlackoutStartModel", name := "outletLine", desc := "()V" } : Jvm.MethodName) prog_14_method_22_code (3 : Nat) (Option.none : Option Jvm.ClassFile.FieldType)) ∈ lw_all := lw_g (lw_at lw_m9 17 rfl) rfl
theorem q2019 : (Jvm.Cond.methodLink "BlackoutStartModel" (150 : Nat) ({ cls := "BlackoutStartModel", name := "looksUp", desc := "()I" } : Jvm.MethodName)) ∈ lw_all := lw_g (lw_at lw_m9 18 rfl) rfl
theorem q2020 : (Jvm.Cond.privateMethod ({ cls := "BlackoutStartModel", name := "looksUp", desc := "()I" } : Jvm.MethodName)) ∈ lw_tbl := lw_at lw_m9 19 rfl
theorem q2021 : (Jvm.Cond.instanceMethod ({ cls := "BlackoutStartModel", name := "looksUp", desc := "()I" } : Jvm.MethodName)) ∈ lw_all := lw_g (lw_at lw_m9 20 rfl) rfl
theorem q2022 : (Jvm.Cond.code ({ cls := "BlackoutStartModel", name := "looksUp", desc := "()I" } : Jvm.MethodName) prog_14_method_19_code (1 : Nat) (Option.some Jvm.ClassFile.FieldType.int)) ∈ lw_all := lw_g (lw_at lw_m9 21 rfl) rfl
theorem q2023 : (Jvm.Cond.methodLink "BlackoutStartModel" (137 : Nat) ({ cls := "BlackoutStartModel", name := "isName", desc := "()Z" } : Jvm.MethodName)) ∈ lw_all := lw_g (lw_at lw_m9 22 rfl) rfl
theorem q2024 : (Jvm.Cond.privateMethod ({ cls := "BlackoutStartModel", name := "isName", desc := "()Z" } : Jvm.MethodName)) ∈ lw_tbl := lw_at lw_m9 23 rfl
theorem q2025 : (Jvm.Cond.instanceMethod ({ cls := "BlackoutStartModel", name := "isName", desc := "()Z" } : Jvm.MethodName)) ∈ lw_all := lw_g (lw_at lw_m9 24 rfl) rfl
theorem q2026 : (Jvm.Cond.code ({ cls := "BlackoutStartModel", name := "isName", desc := "()Z" } : Jvm.MethodName) prog_14_method_18_code (1 : Nat) (Option.some Jvm.ClassFile.FieldType.boolean)) ∈ lw_all := lw_g (lw_at lw_m9 25 rfl) rfl
theorem q2027 : (Jvm.Cond.methodLink "BlackoutStartModel" (143 : Nat) ({ cls := "BlackoutStartModel", name := "whichOf", desc := "([II[III)I" } : Jvm.MethodName)) ∈ lw_all := lw_g (lw_at lw_m9 26 rfl) rfl
theorem q2028 : (Jvm.Cond.static ({ cls := "BlackoutStartModel", name := "whichOf", desc := "([II[III)I" } : Jvm.MethodName)) ∈ lw_all := lw_g (lw_at lw_m9 27 rfl) rfl
theorem q2029 : (Jvm.Cond.code ({ cls := "BlackoutStartModel", name := "whichOf", desc := "([II[III)I" } : Jvm.MethodName) prog_14_method_17_code (8 : Nat) (Option.some Jvm.ClassFile.FieldType.int)) ∈ lw_all := lw_g (lw_at lw_m9 28 rfl) rfl
theorem q2030 : (Jvm.Cond.stringRef "BlackoutStartModel" (200 : Nat) "need") ∈ lw_tbl := lw_at lw_m9 29 rfl
theorem q2031 : (Jvm.Cond.methodLink "BlackoutStartModel" (201 : Nat) ({ cls := "BlackoutStartModel", name := "needLine", desc := "()V" } : Jvm.MethodName)) ∈ lw_all := lw_g (lw_at lw_m9 30 rfl) rfl
theorem q2032 : (Jvm.Cond.privateMethod ({ cls := "BlackoutStartModel", name := "needLine", desc := "()V" } : Jvm.MethodName)) ∈ lw_tbl := lw_at lw_m9 31 rfl
theorem q2033 : (Jvm.Cond.instanceMethod ({ cls := "BlackoutStartModel", name := "needLine", desc := "()V" } : Jvm.MethodName)) ∈ lw_all := lw_g (lw_at lw_m9 32 rfl) rfl
theorem q2034 : (Jvm.Cond.code ({ cls := "BlackoutStartModel", name := "needLine", desc := "()V" } : Jvm.MethodName) prog_14_method_23_code (3 : Nat) (Option.none : Option Jvm.ClassFile.FieldType)) ∈ lw_all := lw_g (lw_at lw_m9 33 rfl) rfl
theorem q2035 : (Jvm.Cond.methodLink "BlackoutStartModel" (204 : Nat) ({ cls := "BlackoutStartModel", name := "ruleLine", desc := "()V" } : Jvm.MethodName)) ∈ lw_all := lw_g (lw_at lw_m9 34 rfl) rfl
theorem q2036 : (Jvm.Cond.privateMethod ({ cls := "BlackoutStartModel", name := "ruleLine", desc := "()V" } : Jvm.MethodName)) ∈ lw_tbl := lw_at lw_m9 35 rfl
theorem q2037 : (Jvm.Cond.instanceMethod ({ cls := "BlackoutStartModel", name := "ruleLine", desc := "()V" } : Jvm.MethodName)) ∈ lw_all := lw_g (lw_at lw_m9 36 rfl) rfl
theorem q2038 : (Jvm.Cond.code ({ cls := "BlackoutStartModel", name := "ruleLine", desc := "()V" } : Jvm.MethodName) prog_14_method_25_code (2 : Nat) (Option.none : Option Jvm.ClassFile.FieldType)) ∈ lw_all := lw_g (lw_at lw_m9 37 rfl) rfl
theorem q2039 : (Jvm.Cond.stringRef "BlackoutStartModel" (169 : Nat) "loss") ∈ lw_tbl := lw_at lw_m9 38 rfl
theorem q2040 : (Jvm.Cond.methodLink "BlackoutStartModel" (175 : Nat) ({ cls := "BlackoutStartModel", name := "once", desc := "(I)V" } : Jvm.MethodName)) ∈ lw_all := lw_g (lw_at lw_m9 39 rfl) rfl
theorem q2041 : (Jvm.Cond.privateMethod ({ cls := "BlackoutStartModel", name := "once", desc := "(I)V" } : Jvm.MethodName)) ∈ lw_tbl := lw_at lw_m9 40 rfl
theorem q2042 : (Jvm.Cond.instanceMethod ({ cls := "BlackoutStartModel", name := "once", desc := "(I)V" } : Jvm.MethodName)) ∈ lw_all := lw_g (lw_at lw_m9 41 rfl) rfl
theorem q2043 : (Jvm.Cond.code ({ cls := "BlackoutStartModel", name := "once", desc := "(I)V" } : Jvm.MethodName) prog_14_method_20_code (2 : Nat) (Option.none : Option Jvm.ClassFile.FieldType)) ∈ lw_all := lw_g (lw_at lw_m9 42 rfl) rfl
theorem q2044 : (Jvm.Cond.methodLink "BlackoutStartModel" (178 : Nat) ({ cls := "BlackoutStartModel", name := "scriptHere", desc := "()V" } : Jvm.MethodName)) ∈ lw_all := lw_g (lw_at lw_m9 43 rfl) rfl
theorem q2045 : (Jvm.Cond.privateMethod ({ cls := "BlackoutStartModel", name := "scriptHere", desc := "()V" } : Jvm.MethodName)) ∈ lw_tbl := lw_at lw_m9 44 rfl
theorem q2046 : (Jvm.Cond.instanceMethod ({ cls := "BlackoutStartModel", name := "scriptHere", desc := "()V" } : Jvm.MethodName)) ∈ lw_all := lw_g (lw_at lw_m9 45 rfl) rfl
theorem q2047 : (Jvm.Cond.code ({ cls := "BlackoutStartModel", name := "scriptHere", desc := "()V" } : Jvm.MethodName) prog_14_method_24_code (3 : Nat) (Option.none : Option Jvm.ClassFile.FieldType)) ∈ lw_all := lw_g (lw_at lw_m9 46 rfl) rfl
theorem q2048 : (Jvm.Cond.stringRef "BlackoutStartModel" (181 : Nat) "retry") ∈ lw_tbl := lw_at lw_m9 47 rfl
theorem q2049 : (Jvm.Cond.stringRef "BlackoutStartModel" (183 : Nat) "patience") ∈ lw_tbl := lw_at lw_m9 48 rfl
theorem q2050 : (Jvm.Cond.stringRef "BlackoutStartModel" (185 : Nat) "strict") ∈ lw_tbl := lw_at lw_m9 49 rfl
theorem q2051 : (Jvm.Cond.stringRef "BlackoutStartModel" (187 : Nat) "off") ∈ lw_tbl := lw_at lw_m9 50 rfl
theorem q2052 : (Jvm.Cond.stringRef "BlackoutStartModel" (189 : Nat) "dark") ∈ lw_tbl := lw_at lw_m9 51 rfl
theorem q2054 : (Jvm.Cond.instanceMethod ({ cls := "BlackoutStartModel", name := "errorCode", desc := "()I" } : Jvm.MethodName)) ∈ lw_all := lw_g (lw_at lw_m9 53 rfl) rfl
theorem q2055 : (Jvm.Cond.selects "BlackoutStartModel" ({ cls := "BlackoutStartModel", name := "errorCode", desc := "()I" } : Jvm.MethodName) ({ cls := "BlackoutStartModel", name := "errorCode", desc := "()I" } : Jvm.MethodName)) ∈ lw_all := lw_g (lw_at lw_m9 54 rfl) rfl
theorem q2056 : (Jvm.Cond.code ({ cls := "BlackoutStartModel", name := "errorCode", desc := "()I" } : Jvm.MethodName) prog_14_method_29_code (1 : Nat) (Option.some Jvm.ClassFile.FieldType.int)) ∈ lw_all := lw_g (lw_at lw_m9 55 rfl) rfl
theorem q2058 : (Jvm.Cond.instanceMethod ({ cls := "BlackoutStartModel", name := "errorPosition", desc := "()I" } : Jvm.MethodName)) ∈ lw_all := lw_g (lw_at lw_m9 57 rfl) rfl
theorem q2059 : (Jvm.Cond.selects "BlackoutStartModel" ({ cls := "BlackoutStartModel", name := "errorPosition", desc := "()I" } : Jvm.MethodName) ({ cls := "BlackoutStartModel", name := "errorPosition", desc := "()I" } : Jvm.MethodName)) ∈ lw_all := lw_g (lw_at lw_m9 58 rfl) rfl
theorem q2060 : (Jvm.Cond.code ({ cls := "BlackoutStartModel", name := "errorPosition", desc := "()I" } : Jvm.MethodName) prog_14_method_30_code (1 : Nat) (Option.some Jvm.ClassFile.FieldType.int)) ∈ lw_all := lw_g (lw_at lw_m9 59 rfl) rfl
theorem q2062 : (Jvm.Cond.instanceMethod ({ cls := "BlackoutStartModel", name := "find", desc := "()I" } : Jvm.MethodName)) ∈ lw_all := lw_g (lw_at lw_m9 61 rfl) rfl
theorem q2063 : (Jvm.Cond.selects "BlackoutStartModel" ({ cls := "BlackoutStartModel", name := "find", desc := "()I" } : Jvm.MethodName) ({ cls := "BlackoutStartModel", name := "find", desc := "()I" } : Jvm.MethodName)) ∈ lw_all := lw_g (lw_at lw_m9 62 rfl) rfl
theorem q2064 : (Jvm.Cond.code ({ cls := "BlackoutStartModel", name := "find", desc := "()I" } : Jvm.MethodName) prog_14_method_31_code (3 : Nat) (Option.some Jvm.ClassFile.FieldType.int)) ∈ lw_all := lw_g (lw_at lw_m9 63 rfl) rfl
theorem q2066 : (Jvm.Cond.instanceMethod ({ cls := "BlackoutStartModel", name := "count", desc := "(I)I" } : Jvm.MethodName)) ∈ lw_all := lw_g (lw_at lw_m9 65 rfl) rfl
theorem q2067 : (Jvm.Cond.selects "BlackoutStartModel" ({ cls := "BlackoutStartModel", name := "count", desc := "(I)I" } : Jvm.MethodName) ({ cls := "BlackoutStartModel", name := "count", desc := "(I)I" } : Jvm.MethodName)) ∈ lw_all := lw_g (lw_at lw_m9 66 rfl) rfl
theorem q2068 : (Jvm.Cond.code ({ cls := "BlackoutStartModel", name := "count", desc := "(I)I" } : Jvm.MethodName) prog_14_method_56_code (2 : Nat) (Option.some Jvm.ClassFile.FieldType.int)) ∈ lw_all := lw_g (lw_at lw_m9 67 rfl) rfl
theorem q2069 : (Jvm.Cond.constantLong "BlackoutStartModel" (299 : Nat) (13 : Int64)) ∈ lw_all := lw_g (lw_at lw_m9 68 rfl) rfl
theorem q2070 : (Jvm.Cond.methodLink "BlackoutStartModel" (275 : Nat) ({ cls := "BlackoutStartModel", name := "isDark", desc := "([I)Z" } : Jvm.MethodName)) ∈ lw_all := lw_g (lw_at lw_m9 69 rfl) rfl
theorem q2071 : (Jvm.Cond.privateMethod ({ cls := "BlackoutStartModel", name := "isDark", desc := "([I)Z" } : Jvm.MethodName)) ∈ lw_tbl := lw_at lw_m9 70 rfl
theorem q2072 : (Jvm.Cond.instanceMethod ({ cls := "BlackoutStartModel", name := "isDark", desc := "([I)Z" } : Jvm.MethodName)) ∈ lw_all := lw_g (lw_at lw_m9 71 rfl) rfl
theorem q2073 : (Jvm.Cond.code ({ cls := "BlackoutStartModel", name := "isDark", desc := "([I)Z" } : Jvm.MethodName) prog_14_method_42_code (2 : Nat) (Option.some Jvm.ClassFile.FieldType.boolean)) ∈ lw_all := lw_g (lw_at lw_m9 72 rfl) rfl
theorem q2075 : (Jvm.Cond.instanceMethod ({ cls := "BlackoutStartModel", name := "outlet", desc := "(II)I" } : Jvm.MethodName)) ∈ lw_all := lw_g (lw_at lw_m9 74 rfl) rfl
theorem q2076 : (Jvm.Cond.selects "BlackoutStartModel" ({ cls := "BlackoutStartModel", name := "outlet", desc := "(II)I" } : Jvm.MethodName) ({ cls := "BlackoutStartModel", name := "outlet", desc := "(II)I" } : Jvm.MethodName)) ∈ lw_all := lw_g (lw_at lw_m9 75 rfl) rfl
theorem q2077 : (Jvm.Cond.code ({ cls := "BlackoutStartModel", name := "outlet", desc := "(II)I" } : Jvm.MethodName) prog_14_method_57_code (3 : Nat) (Option.some Jvm.ClassFile.FieldType.int)) ∈ lw_all := lw_g (lw_at lw_m9 76 rfl) rfl
theorem q2078 : (Jvm.Cond.methodLink "BlackoutStartModel" (301 : Nat) ({ cls := "BlackoutStartModel", name := "isOutlet", desc := "(I)Z" } : Jvm.MethodName)) ∈ lw_all := lw_g (lw_at lw_m9 77 rfl) rfl
theorem q2079 : (Jvm.Cond.privateMethod ({ cls := "BlackoutStartModel", name := "isOutlet", desc := "(I)Z" } : Jvm.MethodName)) ∈ lw_tbl := lw_at lw_m9 78 rfl
theorem q2080 : (Jvm.Cond.instanceMethod ({ cls := "BlackoutStartModel", name := "isOutlet", desc := "(I)Z" } : Jvm.MethodName)) ∈ lw_all := lw_g (lw_at lw_m9 79 rfl) rfl
theorem q2081 : (Jvm.Cond.code ({ cls := "BlackoutStartModel", name := "isOutlet", desc := "(I)Z" } : Jvm.MethodName) prog_14_method_55_code (2 : Nat) (Option.some Jvm.ClassFile.FieldType.boolean)) ∈ lw_all := lw_g (lw_at lw_m9 80 rfl) rfl
theorem q2082 : (Jvm.Cond.constantLong "BlackoutStartModel" (304 : Nat) (9 : Int64)) ∈ lw_all := lw_g (lw_at lw_m9 81 rfl) rfl
theorem q2084 : (Jvm.Cond.instanceMethod ({ cls := "BlackoutStartModel", name := "known", desc := "(II)I" } : Jvm.MethodName)) ∈ lw_all := lw_g (lw_at lw_m9 83 rfl) rfl
theorem q2085 : (Jvm.Cond.selects "BlackoutStartModel" ({ cls := "BlackoutStartModel", name := "known", desc := "(II)I" } : Jvm.MethodName) ({ cls := "BlackoutStartModel", name := "known", desc := "(II)I" } : Jvm.MethodName)) ∈ lw_all := lw_g (lw_at lw_m9 84 rfl) rfl
theorem q2086 : (Jvm.Cond.code ({ cls := "BlackoutStartModel", name := "known", desc := "(II)I" } : Jvm.MethodName) prog_14_method_58_code (3 : Nat) (Option.some Jvm.ClassFile.FieldType.int)) ∈ lw_all := lw_g (lw_at lw_m9 85 rfl) rfl
theorem q2087 : (Jvm.Cond.constantLong "BlackoutStartModel" (306 : Nat) (5 : Int64)) ∈ lw_all := lw_g (lw_at lw_m9 86 rfl) rfl
theorem q2088 : (Jvm.Cond.methodLink "BlackoutStartModel" (235 : Nat) ({ cls := "BlackoutStartModel", name := "expected", desc := "([II)I" } : Jvm.MethodName)) ∈ lw_all := lw_g (lw_at lw_m9 87 rfl) rfl
theorem q2089 : (Jvm.Cond.privateMethod ({ cls := "BlackoutStartModel", name := "expected", desc := "([II)I" } : Jvm.MethodName)) ∈ lw_tbl := lw_at lw_m9 88 rfl
theorem q2090 : (Jvm.Cond.instanceMethod ({ cls := "BlackoutStartModel", name := "expected", desc := "([II)I" } : Jvm.MethodName)) ∈ lw_all := lw_g (lw_at lw_m9 89 rfl) rfl
theorem q2091 : (Jvm.Cond.code ({ cls := "BlackoutStartModel", name := "expected", desc := "([II)I" } : Jvm.MethodName) prog_14_method_37_code (3 : Nat) (Option.some Jvm.ClassFile.FieldType.int)) ∈ lw_all := lw_g (lw_at lw_m9 90 rfl) rfl
theorem q2092 : (Jvm.Cond.methodLink "BlackoutStartModel" (222 : Nat) ({ cls := "BlackoutStartModel", name := "peak", desc := "(I)I" } : Jvm.MethodName)) ∈ lw_all := lw_g (lw_at lw_m9 91 rfl) rfl
theorem q2093 : (Jvm.Cond.privateMethod ({ cls := "BlackoutStartModel", name := "peak", desc := "(I)I" } : Jvm.MethodName)) ∈ lw_tbl := lw_at lw_m9 92 rfl
theorem q2094 : (Jvm.Cond.instanceMethod ({ cls := "BlackoutStartModel", name := "peak", desc := "(I)I" } : Jvm.MethodName)) ∈ lw_all := lw_g (lw_at lw_m9 93 rfl) rfl
theorem q2095 : (Jvm.Cond.code ({ cls := "BlackoutStartModel", name := "peak", desc := "(I)I" } : Jvm.MethodName) prog_14_method_34_code (2 : Nat) (Option.some Jvm.ClassFile.FieldType.int)) ∈ lw_all := lw_g (lw_at lw_m9 94 rfl) rfl
theorem q2096 : (Jvm.Cond.methodLink "BlackoutStartModel" (232 : Nat) ({ cls := "BlackoutStartModel", name := "inrush", desc := "(I)I" } : Jvm.MethodName)) ∈ lw_all := lw_g (lw_at lw_m9 95 rfl) rfl
theorem q2097 : (Jvm.Cond.privateMethod ({ cls := "BlackoutStartModel", name := "inrush", desc := "(I)I" } : Jvm.MethodName)) ∈ lw_tbl := lw_at lw_m9 96 rfl
theorem q2098 : (Jvm.Cond.instanceMethod ({ cls := "BlackoutStartModel", name := "inrush", desc := "(I)I" } : Jvm.MethodName)) ∈ lw_all := lw_g (lw_at lw_m9 97 rfl) rfl
theorem q2099 : (Jvm.Cond.code ({ cls := "BlackoutStartModel", name := "inrush", desc := "(I)I" } : Jvm.MethodName) prog_14_method_33_code (2 : Nat) (Option.some Jvm.ClassFile.FieldType.int)) ∈ lw_all := lw_g (lw_at lw_m9 98 rfl) rfl
theorem q2100 : (Jvm.Cond.methodLink "BlackoutStartModel" (238 : Nat) ({ cls := "BlackoutStartModel", name := "reserved", desc := "([II)I" } : Jvm.MethodName)) ∈ lw_all := lw_g (lw_at lw_m9 99 rfl) rfl
theorem q2101 : (Jvm.Cond.privateMethod ({ cls := "BlackoutStartModel", name := "reserved", desc := "([II)I" } : Jvm.MethodName)) ∈ lw_tbl := lw_at lw_m9 100 rfl
theorem q2102 : (Jvm.Cond.instanceMethod ({ cls := "BlackoutStartModel", name := "reserved", desc := "([II)I" } : Jvm.MethodName)) ∈ lw_all := lw_g (lw_at lw_m9 101 rfl) rfl
theorem q2103 : (Jvm.Cond.code ({ cls := "BlackoutStartModel", name := "reserved", desc := "([II)I" } : Jvm.MethodName) prog_14_method_38_code (4 : Nat) (Option.some Jvm.ClassFile.FieldType.int)) ∈ lw_all := lw_g (lw_at lw_m9 102 rfl) rfl
theorem q2104 : (Jvm.Cond.methodLink "BlackoutStartModel" (225 : Nat) ({ cls := "BlackoutStartModel", name := "steady", desc := "(I)I" } : Jvm.MethodName)) ∈ lw_all := lw_g (lw_at lw_m9 103 rfl) rfl
theorem q2105 : (Jvm.Cond.privateMethod ({ cls := "BlackoutStartModel", name := "steady", desc := "(I)I" } : Jvm.MethodName)) ∈ lw_tbl := lw_at lw_m9 104 rfl
theorem q2106 : (Jvm.Cond.instanceMethod ({ cls := "BlackoutStartModel", name := "steady", desc := "(I)I" } : Jvm.MethodName)) ∈ lw_all := lw_g (lw_at lw_m9 105 rfl) rfl
theorem q2107 : (Jvm.Cond.code ({ cls := "BlackoutStartModel", name := "steady", desc := "(I)I" } : Jvm.MethodName) prog_14_method_32_code (2 : Nat) (Option.some Jvm.ClassFile.FieldType.int)) ∈ lw_all := lw_g (lw_at lw_m9 106 rfl) rfl
theorem q2108 : (Jvm.Cond.methodLink "BlackoutStartModel" (257 : Nat) ({ cls := "BlackoutStartModel", name := "placeOf", desc := "([II)I" } : Jvm.MethodName)) ∈ lw_all := lw_g (lw_at lw_m9 107 rfl) rfl
theorem q2109 : (Jvm.Cond.privateMethod ({ cls := "BlackoutStartModel", name := "placeOf", desc := "([II)I" } : Jvm.MethodName)) ∈ lw_tbl := lw_at lw_m9 108 rfl
theorem q2110 : (Jvm.Cond.instanceMethod ({ cls := "BlackoutStartModel", name := "placeOf", desc := "([II)I" } : Jvm.MethodName)) ∈ lw_all := lw_g (lw_at lw_m9 109 rfl) rfl
theorem q2111 : (Jvm.Cond.code ({ cls := "BlackoutStartModel", name := "placeOf", desc := "([II)I" } : Jvm.MethodName) prog_14_method_49_code (4 : Nat) (Option.some Jvm.ClassFile.FieldType.int)) ∈ lw_all := lw_g (lw_at lw_m9 110 rfl) rfl
theorem q2113 : (Jvm.Cond.instanceMethod ({ cls := "BlackoutStartModel", name := "needs", desc := "(IZ)I" } : Jvm.MethodName)) ∈ lw_all := lw_g (lw_at lw_m9 112 rfl) rfl
theorem q2114 : (Jvm.Cond.selects "BlackoutStartModel" ({ cls := "BlackoutStartModel", name := "needs", desc := "(IZ)I" } : Jvm.MethodName) ({ cls := "BlackoutStartModel", name := "needs", desc := "(IZ)I" } : Jvm.MethodName)) ∈ lw_all := lw_g (lw_at lw_m9 113 rfl) rfl
theorem q2115 : (Jvm.Cond.code ({ cls := "BlackoutStartModel", name := "needs", desc := "(IZ)I" } : Jvm.MethodName) prog_14_method_59_code (5 : Nat) (Option.some Jvm.ClassFile.FieldType.int)) ∈ lw_all := lw_g (lw_at lw_m9 114 rfl) rfl
theorem q2117 : (Jvm.Cond.instanceMethod ({ cls := "BlackoutStartModel", name := "outletsWith", desc := "(IZ)I" } : Jvm.MethodName)) ∈ lw_all := lw_g (lw_at lw_m9 116 rfl) rfl
theorem q2118 : (Jvm.Cond.selects "BlackoutStartModel" ({ cls := "BlackoutStartModel", name := "outletsWith", desc := "(IZ)I" } : Jvm.MethodName) ({ cls := "BlackoutStartModel", name := "outletsWith", desc := "(IZ)I" } : Jvm.MethodName)) ∈ lw_all := lw_g (lw_at lw_m9 117 rfl) rfl
theorem q2119 : (Jvm.Cond.code ({ cls := "BlackoutStartModel", name := "outletsWith", desc := "(IZ)I" } : Jvm.MethodName) prog_14_method_60_code (3 : Nat) (Option.some Jvm.ClassFile.FieldType.int)) ∈ lw_all := lw_g (lw_at lw_m9 118 rfl) rfl
theorem q2120 : (Jvm.Cond.constantLong "BlackoutStartModel" (308 : Nat) (3 : Int64)) ∈ lw_all := lw_g (lw_at lw_m9 119 rfl) rfl
theorem q2121 : (Jvm.Cond.methodLink "BlackoutStartModel" (249 : Nat) ({ cls := "BlackoutStartModel", name := "withState", desc := "([III)I" } : Jvm.MethodName)) ∈ lw_all := lw_g (lw_at lw_m9 120 rfl) rfl
theorem q2122 : (Jvm.Cond.privateMethod ({ cls := "BlackoutStartModel", name := "withState", desc := "([III)I" } : Jvm.MethodName)) ∈ lw_tbl := lw_at lw_m9 121 rfl
theorem q2123 : (Jvm.Cond.instanceMethod ({ cls := "BlackoutStartModel", name := "withState", desc := "([III)I" } : Jvm.MethodName)) ∈ lw_all := lw_g (lw_at lw_m9 122 rfl) rfl
theorem q2124 : (Jvm.Cond.code ({ cls := "BlackoutStartModel", name := "withState", desc := "([III)I" } : Jvm.MethodName) prog_14_method_41_code (6 : Nat) (Option.some Jvm.ClassFile.FieldType.int)) ∈ lw_all := lw_g (lw_at lw_m9 123 rfl) rfl
theorem q2126 : (Jvm.Cond.instanceMethod ({ cls := "BlackoutStartModel", name := "rights", desc := "()I" } : Jvm.MethodName)) ∈ lw_all := lw_g (lw_at lw_m9 125 rfl) rfl
theorem q2127 : (Jvm.Cond.selects "BlackoutStartModel" ({ cls := "BlackoutStartModel", name := "rights", desc := "()I" } : Jvm.MethodName) ({ cls := "BlackoutStartModel", name := "rights", desc := "()I" } : Jvm.MethodName)) ∈ lw_all := lw_g (lw_at lw_m9 126 rfl) rfl
theorem q2128 : (Jvm.Cond.code ({ cls := "BlackoutStartModel", name := "rights", desc := "()I" } : Jvm.MethodName) prog_14_method_61_code (1 : Nat) (Option.some Jvm.ClassFile.FieldType.int)) ∈ lw_all := lw_g (lw_at lw_m9 127 rfl) rfl
theorem q2129 : (Jvm.Cond.methodLink "BlackoutStartModel" (245 : Nat) ({ cls := "BlackoutStartModel", name := "rightsOf", desc := "([I)I" } : Jvm.MethodName)) ∈ lw_all := lw_g (lw_at lw_m9 128 rfl) rfl
theorem q2130 : (Jvm.Cond.privateMethod ({ cls := "BlackoutStartModel", name := "rightsOf", desc := "([I)I" } : Jvm.MethodName)) ∈ lw_tbl := lw_at lw_m9 129 rfl
theorem q2131 : (Jvm.Cond.instanceMethod ({ cls := "BlackoutStartModel", name := "rightsOf", desc := "([I)I" } : Jvm.MethodName)) ∈ lw_all := lw_g (lw_at lw_m9 130 rfl) rfl
theorem q2132 : (Jvm.Cond.code ({ cls := "BlackoutStartModel", name := "rightsOf", desc := "([I)I" } : Jvm.MethodName) prog_14_method_40_code (5 : Nat) (Option.some Jvm.ClassFile.FieldType.int)) ∈ lw_all := lw_g (lw_at lw_m9 131 rfl) rfl
theorem q2134 : (Jvm.Cond.instanceMethod ({ cls := "BlackoutStartModel", name := "load", desc := "(I)I" } : Jvm.MethodName)) ∈ lw_all := lw_g (lw_at lw_m9 133 rfl) rfl
theorem q2135 : (Jvm.Cond.selects "BlackoutStartModel" ({ cls := "BlackoutStartModel", name := "load", desc := "(I)I" } : Jvm.MethodName) ({ cls := "BlackoutStartModel", name := "load", desc := "(I)I" } : Jvm.MethodName)) ∈ lw_all := lw_g (lw_at lw_m9 134 rfl) rfl
theorem q2136 : (Jvm.Cond.code ({ cls := "BlackoutStartModel", name := "load", desc := "(I)I" } : Jvm.MethodName) prog_14_method_62_code (2 : Nat) (Option.some Jvm.ClassFile.FieldType.int)) ∈ lw_all := lw_g (lw_at lw_m9 135 rfl) rfl
theorem q2137 : (Jvm.Cond.constantLong "BlackoutStartModel" (310 : Nat) (2 : Int64)) ∈ lw_all := lw_g (lw_at lw_m9 136 rfl) rfl
theorem q2138 : (Jvm.Cond.methodLink "BlackoutStartModel" (296 : Nat) ({ cls := "BlackoutStartModel", name := "drawn", desc := "([I)I" } : Jvm.MethodName)) ∈ lw_all := lw_g (lw_at lw_m9 137 rfl) rfl
theorem q2139 : (Jvm.Cond.privateMethod ({ cls := "BlackoutStartModel", name := "drawn", desc := "([I)I" } : Jvm.MethodName)) ∈ lw_tbl := lw_at lw_m9 138 rfl
theorem q2140 : (Jvm.Cond.instanceMethod ({ cls := "BlackoutStartModel", name := "drawn", desc := "([I)I" } : Jvm.MethodName)) ∈ lw_all := lw_g (lw_at lw_m9 139 rfl) rfl
theorem q2141 : (Jvm.Cond.code ({ cls := "BlackoutStartModel", name := "drawn", desc := "([I)I" } : Jvm.MethodName) prog_14_method_36_code (4 : Nat) (Option.some Jvm.ClassFile.FieldType.int)) ∈ lw_all := lw_g (lw_at lw_m9 140 rfl) rfl
theorem q2142 : (Jvm.Cond.methodLink "BlackoutStartModel" (228 : Nat) ({ cls := "BlackoutStartModel", name := "draw", desc := "([II)I" } : Jvm.MethodName)) ∈ lw_all := lw_g (lw_at lw_m9 141 rfl) rfl
theorem q2143 : (Jvm.Cond.privateMethod ({ cls := "BlackoutStartModel", name := "draw", desc := "([II)I" } : Jvm.MethodName)) ∈ lw_tbl := lw_at lw_m9 142 rfl
theorem q2144 : (Jvm.Cond.instanceMethod ({ cls := "BlackoutStartModel", name := "draw", desc := "([II)I" } : Jvm.MethodName)) ∈ lw_all := lw_g (lw_at lw_m9 143 rfl) rfl
theorem q2145 : (Jvm.Cond.code ({ cls := "BlackoutStartModel", name := "draw", desc := "([II)I" } : Jvm.MethodName) prog_14_method_35_code (4 : Nat) (Option.some Jvm.ClassFile.FieldType.int)) ∈ lw_all := lw_g (lw_at lw_m9 144 rfl) rfl
theorem q2146 : (Jvm.Cond.methodLink "BlackoutStartModel" (260 : Nat) ({ cls := "BlackoutStartModel", name := "reservedAll", desc := "([I)I" } : Jvm.MethodName)) ∈ lw_all := lw_g (lw_at lw_m9 145 rfl) rfl
theorem q2147 : (Jvm.Cond.privateMethod ({ cls := "BlackoutStartModel", name := "reservedAll", desc := "([I)I" } : Jvm.MethodName)) ∈ lw_tbl := lw_at lw_m9 146 rfl
theorem q2148 : (Jvm.Cond.instanceMethod ({ cls := "BlackoutStartModel", name := "reservedAll", desc := "([I)I" } : Jvm.MethodName)) ∈ lw_all := lw_g (lw_at lw_m9 147 rfl) rfl
theorem q2149 : (Jvm.Cond.code ({ cls := "BlackoutStartModel", name := "reservedAll", desc := "([I)I" } : Jvm.MethodName) prog_14_method_39_code (4 : Nat) (Option.some Jvm.ClassFile.FieldType.int)) ∈ lw_all := lw_g (lw_at lw_m9 148 rfl) rfl
theorem q2151 : (Jvm.Cond.instanceMethod ({ cls := "BlackoutStartModel", name := "strain", desc := "()D" } : Jvm.MethodName)) ∈ lw_all := lw_g (lw_at lw_m9 150 rfl) rfl
theorem q2152 : (Jvm.Cond.selects "BlackoutStartModel" ({ cls := "BlackoutStartModel", name := "strain", desc := "()D" } : Jvm.MethodName) ({ cls := "BlackoutStartModel", name := "strain", desc := "()D" } : Jvm.MethodName)) ∈ lw_all := lw_g (lw_at lw_m9 151 rfl) rfl
theorem q2153 : (Jvm.Cond.code ({ cls := "BlackoutStartModel", name := "strain", desc := "()D" } : Jvm.MethodName) prog_14_method_63_code (1 : Nat) (Option.some Jvm.ClassFile.FieldType.double)) ∈ lw_all := lw_g (lw_at lw_m9 152 rfl) rfl
theorem q2155 : (Jvm.Cond.instanceMethod ({ cls := "BlackoutStartModel", name := "message", desc := "(II)I" } : Jvm.MethodName)) ∈ lw_all := lw_g (lw_at lw_m9 154 rfl) rfl
theorem q2156 : (Jvm.Cond.selects "BlackoutStartModel" ({ cls := "BlackoutStartModel", name := "message", desc := "(II)I" } : Jvm.MethodName) ({ cls := "BlackoutStartModel", name := "message", desc := "(II)I" } : Jvm.MethodName)) ∈ lw_all := lw_g (lw_at lw_m9 155 rfl) rfl
theorem q2157 : (Jvm.Cond.code ({ cls := "BlackoutStartModel", name := "message", desc := "(II)I" } : Jvm.MethodName) prog_14_method_64_code (3 : Nat) (Option.some Jvm.ClassFile.FieldType.int)) ∈ lw_all := lw_g (lw_at lw_m9 156 rfl) rfl
theorem q2159 : (Jvm.Cond.instanceMethod ({ cls := "BlackoutStartModel", name := "traffic", desc := "(IZ)I" } : Jvm.MethodName)) ∈ lw_all := lw_g (lw_at lw_m9 158 rfl) rfl
theorem q2160 : (Jvm.Cond.selects "BlackoutStartModel" ({ cls := "BlackoutStartModel", name := "traffic", desc := "(IZ)I" } : Jvm.MethodName) ({ cls := "BlackoutStartModel", name := "traffic", desc := "(IZ)I" } : Jvm.MethodName)) ∈ lw_all := lw_g (lw_at lw_m9 159 rfl) rfl
theorem q2161 : (Jvm.Cond.code ({ cls := "BlackoutStartModel", name := "traffic", desc := "(IZ)I" } : Jvm.MethodName) prog_14_method_65_code (3 : Nat) (Option.some Jvm.ClassFile.FieldType.int)) ∈ lw_all := lw_g (lw_at lw_m9 160 rfl) rfl
theorem q2163 : (Jvm.Cond.instanceMethod ({ cls := "BlackoutStartModel", name := "learned", desc := "(I)I" } : Jvm.MethodName)) ∈ lw_all := lw_g (lw_at lw_m9 162 rfl) rfl
theorem q2164 : (Jvm.Cond.selects "BlackoutStartModel" ({ cls := "BlackoutStartModel", name := "learned", desc := "(I)I" } : Jvm.MethodName) ({ cls := "BlackoutStartModel", name := "learned", desc := "(I)I" } : Jvm.MethodName)) ∈ lw_all := lw_g (lw_at lw_m9 163 rfl) rfl
theorem q2165 : (Jvm.Cond.code ({ cls := "BlackoutStartModel", name := "learned", desc := "(I)I" } : Jvm.MethodName) prog_14_method_66_code (2 : Nat) (Option.some Jvm.ClassFile.FieldType.int)) ∈ lw_all := lw_g (lw_at lw_m9 164 rfl) rfl
theorem q2167 : (Jvm.Cond.instanceMethod ({ cls := "BlackoutStartModel", name := "grants", desc := "()I" } : Jvm.MethodName)) ∈ lw_all := lw_g (lw_at lw_m9 166 rfl) rfl
theorem q2168 : (Jvm.Cond.selects "BlackoutStartModel" ({ cls := "BlackoutStartModel", name := "grants", desc := "()I" } : Jvm.MethodName) ({ cls := "BlackoutStartModel", name := "grants", desc := "()I" } : Jvm.MethodName)) ∈ lw_all := lw_g (lw_at lw_m9 167 rfl) rfl
theorem q2169 : (Jvm.Cond.code ({ cls := "BlackoutStartModel", name := "grants", desc := "()I" } : Jvm.MethodName) prog_14_method_67_code (1 : Nat) (Option.some Jvm.ClassFile.FieldType.int)) ∈ lw_all := lw_g (lw_at lw_m9 168 rfl) rfl
theorem q2170 : (Jvm.Cond.methodLink "BlackoutStartModel" (292 : Nat) ({ cls := "BlackoutStartModel", name := "grantsOf", desc := "([IZ)I" } : Jvm.MethodName)) ∈ lw_all := lw_g (lw_at lw_m9 169 rfl) rfl
theorem q2171 : (Jvm.Cond.privateMethod ({ cls := "BlackoutStartModel", name := "grantsOf", desc := "([IZ)I" } : Jvm.MethodName)) ∈ lw_tbl := lw_at lw_m9 170 rfl
theorem q2172 : (Jvm.Cond.instanceMethod ({ cls := "BlackoutStartModel", name := "grantsOf", desc := "([IZ)I" } : Jvm.MethodName)) ∈ lw_all := lw_g (lw_at lw_m9 171 rfl) rfl
theorem q2173 : (Jvm.Cond.code ({ cls := "BlackoutStartModel", name := "grantsOf", desc := "([IZ)I" } : Jvm.MethodName) prog_14_method_52_code (8 : Nat) (Option.some Jvm.ClassFile.FieldType.int)) ∈ lw_all := lw_g (lw_at lw_m9 172 rfl) rfl
theorem q2174 : (Jvm.Cond.methodLink "BlackoutStartModel" (263 : Nat) ({ cls := "BlackoutStartModel", name := "isAhead", desc := "([III)Z" } : Jvm.MethodName)) ∈ lw_all := lw_g (lw_at lw_m9 173 rfl) rfl
theorem q2175 : (Jvm.Cond.privateMethod ({ cls := "BlackoutStartModel", name := "isAhead", desc := "([III)Z" } : Jvm.MethodName)) ∈ lw_tbl := lw_at lw_m9 174 rfl
theorem q2176 : (Jvm.Cond.instanceMethod ({ cls := "BlackoutStartModel", name := "isAhead", desc := "([III)Z" } : Jvm.MethodName)) ∈ lw_all := lw_g (lw_at lw_m9 175 rfl) rfl
theorem q2177 : (Jvm.Cond.code ({ cls := "BlackoutStartModel", name := "isAhead", desc := "([III)Z" } : Jvm.MethodName) prog_14_method_50_code (6 : Nat) (Option.some Jvm.ClassFile.FieldType.boolean)) ∈ lw_all := lw_g (lw_at lw_m9 176 rfl) rfl
theorem q2178 : (Jvm.Cond.methodLink "BlackoutStartModel" (267 : Nat) ({ cls := "BlackoutStartModel", name := "lacks", desc := "([II)Z" } : Jvm.MethodName)) ∈ lw_all := lw_g (lw_at lw_m9 177 rfl) rfl
theorem q2179 : (Jvm.Cond.privateMethod ({ cls := "BlackoutStartModel", name := "lacks", desc := "([II)Z" } : Jvm.MethodName)) ∈ lw_tbl := lw_at lw_m9 178 rfl
theorem q2180 : (Jvm.Cond.instanceMethod ({ cls := "BlackoutStartModel", name := "lacks", desc := "([II)Z" } : Jvm.MethodName)) ∈ lw_all := lw_g (lw_at lw_m9 179 rfl) rfl
theorem q2181 : (Jvm.Cond.code ({ cls := "BlackoutStartModel", name := "lacks", desc := "([II)Z" } : Jvm.MethodName) prog_14_method_51_code (3 : Nat) (Option.some Jvm.ClassFile.FieldType.boolean)) ∈ lw_all := lw_g (lw_at lw_m9 180 rfl) rfl
theorem q2182 : (Jvm.Cond.methodLink "BlackoutStartModel" (253 : Nat) ({ cls := "BlackoutStartModel", name := "sends", desc := "([IIII)V" } : Jvm.MethodName)) ∈ lw_all := lw_g (lw_at lw_m9 181 rfl) rfl
theorem q2183 : (Jvm.Cond.privateMethod ({ cls := "BlackoutStartModel", name := "sends", desc := "([IIII)V" } : Jvm.MethodName)) ∈ lw_tbl := lw_at lw_m9 182 rfl
theorem q2184 : (Jvm.Cond.instanceMethod ({ cls := "BlackoutStartModel", name := "sends", desc := "([IIII)V" } : Jvm.MethodName)) ∈ lw_all := lw_g (lw_at lw_m9 183 rfl) rfl
theorem q2185 : (Jvm.Cond.code ({ cls := "BlackoutStartModel", name := "sends", desc := "([IIII)V" } : Jvm.MethodName) prog_14_method_43_code (7 : Nat) (Option.none : Option Jvm.ClassFile.FieldType)) ∈ lw_all := lw_g (lw_at lw_m9 184 rfl) rfl
theorem q2186 : (Jvm.Cond.methodLink "BlackoutStartModel" (241 : Nat) ({ cls := "BlackoutStartModel", name := "marks", desc := "([III)V" } : Jvm.MethodName)) ∈ lw_all := lw_g (lw_at lw_m9 185 rfl) rfl
theorem q2187 : (Jvm.Cond.privateMethod ({ cls := "BlackoutStartModel", name := "marks", desc := "([III)V" } : Jvm.MethodName)) ∈ lw_tbl := lw_at lw_m9 186 rfl
theorem q2188 : (Jvm.Cond.instanceMethod ({ cls := "BlackoutStartModel", name := "marks", desc := "([III)V" } : Jvm.MethodName)) ∈ lw_all := lw_g (lw_at lw_m9 187 rfl) rfl
theorem q2189 : (Jvm.Cond.code ({ cls := "BlackoutStartModel", name := "marks", desc := "([III)V" } : Jvm.MethodName) prog_14_method_45_code (5 : Nat) (Option.none : Option Jvm.ClassFile.FieldType)) ∈ lw_all := lw_g (lw_at lw_m9 188 rfl) rfl
theorem q2191 : (Jvm.Cond.instanceMethod ({ cls := "BlackoutStartModel", name := "why", desc := "(I)I" } : Jvm.MethodName)) ∈ lw_all := lw_g (lw_at lw_m9 190 rfl) rfl
theorem q2192 : (Jvm.Cond.selects "BlackoutStartModel" ({ cls := "BlackoutStartModel", name := "why", desc := "(I)I" } : Jvm.MethodName) ({ cls := "BlackoutStartModel", name := "why", desc := "(I)I" } : Jvm.MethodName)) ∈ lw_all := lw_g (lw_at lw_m9 191 rfl) rfl
theorem q2193 : (Jvm.Cond.code ({ cls := "BlackoutStartModel", name := "why", desc := "(I)I" } : Jvm.MethodName) prog_14_method_68_code (2 : Nat) (Option.some Jvm.ClassFile.FieldType.int)) ∈ lw_all := lw_g (lw_at lw_m9 192 rfl) rfl
theorem q2195 : (Jvm.Cond.instanceMethod ({ cls := "BlackoutStartModel", name := "runsIn", desc := "(I)I" } : Jvm.MethodName)) ∈ lw_all := lw_g (lw_at lw_m9 194 rfl) rfl
theorem q2196 : (Jvm.Cond.selects "BlackoutStartModel" ({ cls := "BlackoutStartModel", name := "runsIn", desc := "(I)I" } : Jvm.MethodName) ({ cls := "BlackoutStartModel", name := "runsIn", desc := "(I)I" } : Jvm.MethodName)) ∈ lw_all := lw_g (lw_at lw_m9 195 rfl) rfl
theorem q2197 : (Jvm.Cond.code ({ cls := "BlackoutStartModel", name := "runsIn", desc := "(I)I" } : Jvm.MethodName) prog_14_method_71_code (3 : Nat) (Option.some Jvm.ClassFile.FieldType.int)) ∈ lw_all := lw_g (lw_at lw_m9 196 rfl) rfl
theorem q2198 : (Jvm.Cond.methodLink "BlackoutStartModel" (315 : Nat) ({ cls := "BlackoutStartModel", name := "laysThen", desc := "()V" } : Jvm.MethodName)) ∈ lw_all := lw_g (lw_at lw_m9 197 rfl) rfl
theorem q2199 : (Jvm.Cond.privateMethod ({ cls := "BlackoutStartModel", name := "laysThen", desc := "()V" } : Jvm.MethodName)) ∈ lw_tbl := lw_at lw_m9 198 rfl
theorem q2200 : (Jvm.Cond.instanceMethod ({ cls := "BlackoutStartModel", name := "laysThen", desc := "()V" } : Jvm.MethodName)) ∈ lw_all := lw_g (lw_at lw_m9 199 rfl) rfl
theorem q2201 : (Jvm.Cond.code ({ cls := "BlackoutStartModel", name := "laysThen", desc := "()V" } : Jvm.MethodName) prog_14_method_69_code (2 : Nat) (Option.none : Option Jvm.ClassFile.FieldType)) ∈ lw_all := lw_g (lw_at lw_m9 200 rfl) rfl
theorem q2202 : (Jvm.Cond.methodLink "BlackoutStartModel" (318 : Nat) ({ cls := "BlackoutStartModel", name := "until", desc := "(I)I" } : Jvm.MethodName)) ∈ lw_all := lw_g (lw_at lw_m9 201 rfl) rfl
theorem q2203 : (Jvm.Cond.privateMethod ({ cls := "BlackoutStartModel", name := "until", desc := "(I)I" } : Jvm.MethodName)) ∈ lw_tbl := lw_at lw_m9 202 rfl
theorem q2204 : (Jvm.Cond.instanceMethod ({ cls := "BlackoutStartModel", name := "until", desc := "(I)I" } : Jvm.MethodName)) ∈ lw_all := lw_g (lw_at lw_m9 203 rfl) rfl
theorem q2205 : (Jvm.Cond.code ({ cls := "BlackoutStartModel", name := "until", desc := "(I)I" } : Jvm.MethodName) prog_14_method_70_code (4 : Nat) (Option.some Jvm.ClassFile.FieldType.int)) ∈ lw_all := lw_g (lw_at lw_m9 204 rfl) rfl
theorem q2206 : (Jvm.Cond.methodLink "BlackoutStartModel" (312 : Nat) ({ cls := "BlackoutStartModel", name := "ticks", desc := "([I)I" } : Jvm.MethodName)) ∈ lw_all := lw_g (lw_at lw_m9 205 rfl) rfl
theorem q2207 : (Jvm.Cond.privateMethod ({ cls := "BlackoutStartModel", name := "ticks", desc := "([I)I" } : Jvm.MethodName)) ∈ lw_tbl := lw_at lw_m9 206 rfl
theorem q2208 : (Jvm.Cond.instanceMethod ({ cls := "BlackoutStartModel", name := "ticks", desc := "([I)I" } : Jvm.MethodName)) ∈ lw_all := lw_g (lw_at lw_m9 207 rfl) rfl
theorem q2209 : (Jvm.Cond.code ({ cls := "BlackoutStartModel", name := "ticks", desc := "([I)I" } : Jvm.MethodName) prog_14_method_54_code (6 : Nat) (Option.some Jvm.ClassFile.FieldType.int)) ∈ lw_all := lw_g (lw_at lw_m9 208 rfl) rfl
theorem q2210 : (Jvm.Cond.methodLink "BlackoutStartModel" (271 : Nat) ({ cls := "BlackoutStartModel", name := "darkens", desc := "([II)V" } : Jvm.MethodName)) ∈ lw_all := lw_g (lw_at lw_m9 209 rfl) rfl
theorem q2211 : (Jvm.Cond.privateMethod ({ cls := "BlackoutStartModel", name := "darkens", desc := "([II)V" } : Jvm.MethodName)) ∈ lw_tbl := lw_at lw_m9 210 rfl
theorem q2212 : (Jvm.Cond.instanceMethod ({ cls := "BlackoutStartModel", name := "darkens", desc := "([II)V" } : Jvm.MethodName)) ∈ lw_all := lw_g (lw_at lw_m9 211 rfl) rfl
theorem q2213 : (Jvm.Cond.code ({ cls := "BlackoutStartModel", name := "darkens", desc := "([II)V" } : Jvm.MethodName) prog_14_method_44_code (5 : Nat) (Option.none : Option Jvm.ClassFile.FieldType)) ∈ lw_all := lw_g (lw_at lw_m9 212 rfl) rfl
theorem q2214 : (Jvm.Cond.methodLink "BlackoutStartModel" (279 : Nat) ({ cls := "BlackoutStartModel", name := "receives", desc := "([II)V" } : Jvm.MethodName)) ∈ lw_all := lw_g (lw_at lw_m9 213 rfl) rfl
theorem q2215 : (Jvm.Cond.privateMethod ({ cls := "BlackoutStartModel", name := "receives", desc := "([II)V" } : Jvm.MethodName)) ∈ lw_tbl := lw_at lw_m9 214 rfl
theorem q2216 : (Jvm.Cond.instanceMethod ({ cls := "BlackoutStartModel", name := "receives", desc := "([II)V" } : Jvm.MethodName)) ∈ lw_all := lw_g (lw_at lw_m9 215 rfl) rfl
theorem q2217 : (Jvm.Cond.code ({ cls := "BlackoutStartModel", name := "receives", desc := "([II)V" } : Jvm.MethodName) prog_14_method_46_code (5 : Nat) (Option.none : Option Jvm.ClassFile.FieldType)) ∈ lw_all := lw_g (lw_at lw_m9 216 rfl) rfl
theorem q2218 : (Jvm.Cond.methodLink "BlackoutStartModel" (282 : Nat) ({ cls := "BlackoutStartModel", name := "learns", desc := "([I)V" } : Jvm.MethodName)) ∈ lw_all := lw_g (lw_at lw_m9 217 rfl) rfl
theorem q2219 : (Jvm.Cond.privateMethod ({ cls := "BlackoutStartModel", name := "learns", desc := "([I)V" } : Jvm.MethodName)) ∈ lw_tbl := lw_at lw_m9 218 rfl
theorem q2220 : (Jvm.Cond.instanceMethod ({ cls := "BlackoutStartModel", name := "learns", desc := "([I)V" } : Jvm.MethodName)) ∈ lw_all := lw_g (lw_at lw_m9 219 rfl) rfl
theorem q2221 : (Jvm.Cond.code ({ cls := "BlackoutStartModel", name := "learns", desc := "([I)V" } : Jvm.MethodName) prog_14_method_47_code (4 : Nat) (Option.none : Option Jvm.ClassFile.FieldType)) ∈ lw_all := lw_g (lw_at lw_m9 220 rfl) rfl
theorem q2222 : (Jvm.Cond.methodLink "BlackoutStartModel" (286 : Nat) ({ cls := "BlackoutStartModel", name := "acts", desc := "([II)V" } : Jvm.MethodName)) ∈ lw_all := lw_g (lw_at lw_m9 221 rfl) rfl
theorem q2223 : (Jvm.Cond.privateMethod ({ cls := "BlackoutStartModel", name := "acts", desc := "([II)V" } : Jvm.MethodName)) ∈ lw_tbl := lw_at lw_m9 222 rfl
theorem q2224 : (Jvm.Cond.instanceMethod ({ cls := "BlackoutStartModel", name := "acts", desc := "([II)V" } : Jvm.MethodName)) ∈ lw_all := lw_g (lw_at lw_m9 223 rfl) rfl
theorem q2225 : (Jvm.Cond.code ({ cls := "BlackoutStartModel", name := "acts", desc := "([II)V" } : Jvm.MethodName) prog_14_method_48_code (4 : Nat) (Option.none : Option Jvm.ClassFile.FieldType)) ∈ lw_all := lw_g (lw_at lw_m9 224 rfl) rfl
theorem q2226 : (Jvm.Cond.methodLink "BlackoutStartModel" (289 : Nat) ({ cls := "BlackoutStartModel", name := "polls", desc := "([I)V" } : Jvm.MethodName)) ∈ lw_all := lw_g (lw_at lw_m9 225 rfl) rfl
theorem q2227 : (Jvm.Cond.privateMethod ({ cls := "BlackoutStartModel", name := "polls", desc := "([I)V" } : Jvm.MethodName)) ∈ lw_tbl := lw_at lw_m9 226 rfl
theorem q2228 : (Jvm.Cond.instanceMethod ({ cls := "BlackoutStartModel", name := "polls", desc := "([I)V" } : Jvm.MethodName)) ∈ lw_all := lw_g (lw_at lw_m9 227 rfl) rfl
theorem q2229 : (Jvm.Cond.code ({ cls := "BlackoutStartModel", name := "polls", desc := "([I)V" } : Jvm.MethodName) prog_14_method_53_code (5 : Nat) (Option.none : Option Jvm.ClassFile.FieldType)) ∈ lw_all := lw_g (lw_at lw_m9 228 rfl) rfl
theorem q2231 : (Jvm.Cond.instanceMethod ({ cls := "BlackoutStartModel", name := "allIn", desc := "(I)I" } : Jvm.MethodName)) ∈ lw_all := lw_g (lw_at lw_m9 230 rfl) rfl
theorem q2232 : (Jvm.Cond.selects "BlackoutStartModel" ({ cls := "BlackoutStartModel", name := "allIn", desc := "(I)I" } : Jvm.MethodName) ({ cls := "BlackoutStartModel", name := "allIn", desc := "(I)I" } : Jvm.MethodName)) ∈ lw_all := lw_g (lw_at lw_m9 231 rfl) rfl
theorem q2233 : (Jvm.Cond.code ({ cls := "BlackoutStartModel", name := "allIn", desc := "(I)I" } : Jvm.MethodName) prog_14_method_73_code (4 : Nat) (Option.some Jvm.ClassFile.FieldType.int)) ∈ lw_all := lw_g (lw_at lw_m9 232 rfl) rfl
theorem q2234 : (Jvm.Cond.methodLink "BlackoutStartModel" (321 : Nat) ({ cls := "BlackoutStartModel", name := "forgets", desc := "([I)I" } : Jvm.MethodName)) ∈ lw_all := lw_g (lw_at lw_m9 233 rfl) rfl
theorem q2235 : (Jvm.Cond.static ({ cls := "BlackoutStartModel", name := "forgets", desc := "([I)I" } : Jvm.MethodName)) ∈ lw_all := lw_g (lw_at lw_m9 234 rfl) rfl
theorem q2236 : (Jvm.Cond.code ({ cls := "BlackoutStartModel", name := "forgets", desc := "([I)I" } : Jvm.MethodName) prog_14_method_72_code (3 : Nat) (Option.some Jvm.ClassFile.FieldType.int)) ∈ lw_all := lw_g (lw_at lw_m9 235 rfl) rfl
theorem q2238 : (Jvm.Cond.instanceMethod ({ cls := "BlackoutStartModel", name := "peakIn", desc := "(II)I" } : Jvm.MethodName)) ∈ lw_all := lw_g (lw_at lw_m9 237 rfl) rfl
theorem q2239 : (Jvm.Cond.selects "BlackoutStartModel" ({ cls := "BlackoutStartModel", name := "peakIn", desc := "(II)I" } : Jvm.MethodName) ({ cls := "BlackoutStartModel", name := "peakIn", desc := "(II)I" } : Jvm.MethodName)) ∈ lw_all := lw_g (lw_at lw_m9 238 rfl) rfl
theorem q2240 : (Jvm.Cond.code ({ cls := "BlackoutStartModel", name := "peakIn", desc := "(II)I" } : Jvm.MethodName) prog_14_method_75_code (6 : Nat) (Option.some Jvm.ClassFile.FieldType.int)) ∈ lw_all := lw_g (lw_at lw_m9 239 rfl) rfl
theorem q2241 : (Jvm.Cond.methodLink "BlackoutStartModel" (326 : Nat) ({ cls := "BlackoutStartModel", name := "areTicks", desc := "(I)Z" } : Jvm.MethodName)) ∈ lw_all := lw_g (lw_at lw_m10 0 rfl) rfl
theorem q2242 : (Jvm.Cond.static ({ cls := "BlackoutStartModel", name := "areTicks", desc := "(I)Z" } : Jvm.MethodName)) ∈ lw_all := lw_g (lw_at lw_m10 1 rfl) rfl
theorem q2243 : (Jvm.Cond.code ({ cls := "BlackoutStartModel", name := "areTicks", desc := "(I)Z" } : Jvm.MethodName) prog_14_method_74_code (1 : Nat) (Option.some Jvm.ClassFile.FieldType.boolean)) ∈ lw_all := lw_g (lw_at lw_m10 2 rfl) rfl
theorem q2244 : (Jvm.Cond.constantLong "BlackoutStartModel" (324 : Nat) (500 : Int64)) ∈ lw_all := lw_g (lw_at lw_m10 3 rfl) rfl
theorem q2245 : (Jvm.Cond.constantLong "BlackoutStartModel" (329 : Nat) (9999 : Int64)) ∈ lw_all := lw_g (lw_at lw_m10 4 rfl) rfl
theorem q2247 : (Jvm.Cond.instanceMethod ({ cls := "BlackoutStartModel", name := "sentIn", desc := "(II)I" } : Jvm.MethodName)) ∈ lw_all := lw_g (lw_at lw_m10 6 rfl) rfl
theorem q2248 : (Jvm.Cond.selects "BlackoutStartModel" ({ cls := "BlackoutStartModel", name := "sentIn", desc := "(II)I" } : Jvm.MethodName) ({ cls := "BlackoutStartModel", name := "sentIn", desc := "(II)I" } : Jvm.MethodName)) ∈ lw_all := lw_g (lw_at lw_m10 7 rfl) rfl
theorem q2249 : (Jvm.Cond.code ({ cls := "BlackoutStartModel", name := "sentIn", desc := "(II)I" } : Jvm.MethodName) prog_14_method_76_code (5 : Nat) (Option.some Jvm.ClassFile.FieldType.int)) ∈ lw_all := lw_g (lw_at lw_m10 8 rfl) rfl
theorem q2250 : (Jvm.Cond.constantLong "BlackoutStartModel" (331 : Nat) (20 : Int64)) ∈ lw_all := lw_g (lw_at lw_m10 9 rfl) rfl
theorem q2252 : (Jvm.Cond.instanceMethod ({ cls := "BlackoutStartModel", name := "run", desc := "(I)I" } : Jvm.MethodName)) ∈ lw_all := lw_g (lw_at lw_m10 11 rfl) rfl
theorem q2253 : (Jvm.Cond.selects "BlackoutStartModel" ({ cls := "BlackoutStartModel", name := "run", desc := "(I)I" } : Jvm.MethodName) ({ cls := "BlackoutStartModel", name := "run", desc := "(I)I" } : Jvm.MethodName)) ∈ lw_all := lw_g (lw_at lw_m10 12 rfl) rfl
theorem q2254 : (Jvm.Cond.code ({ cls := "BlackoutStartModel", name := "run", desc := "(I)I" } : Jvm.MethodName) prog_14_method_78_code (4 : Nat) (Option.some Jvm.ClassFile.FieldType.int)) ∈ lw_all := lw_g (lw_at lw_m10 13 rfl) rfl
theorem q2255 : (Jvm.Cond.constantLong "BlackoutStartModel" (333 : Nat) (200 : Int64)) ∈ lw_all := lw_g (lw_at lw_m10 14 rfl) rfl
theorem q2256 : (Jvm.Cond.methodLink "BlackoutStartModel" (335 : Nat) ({ cls := "BlackoutStartModel", name := "keeps", desc := "()V" } : Jvm.MethodName)) ∈ lw_all := lw_g (lw_at lw_m10 15 rfl) rfl
theorem q2257 : (Jvm.Cond.privateMethod ({ cls := "BlackoutStartModel", name := "keeps", desc := "()V" } : Jvm.MethodName)) ∈ lw_tbl := lw_at lw_m10 16 rfl
theorem q2258 : (Jvm.Cond.instanceMethod ({ cls := "BlackoutStartModel", name := "keeps", desc := "()V" } : Jvm.MethodName)) ∈ lw_all := lw_g (lw_at lw_m10 17 rfl) rfl
theorem q2259 : (Jvm.Cond.code ({ cls := "BlackoutStartModel", name := "keeps", desc := "()V" } : Jvm.MethodName) prog_14_method_77_code (2 : Nat) (Option.none : Option Jvm.ClassFile.FieldType)) ∈ lw_all := lw_g (lw_at lw_m10 18 rfl) rfl
theorem q2261 : (Jvm.Cond.instanceMethod ({ cls := "BlackoutStartModel", name := "blackout", desc := "(I)I" } : Jvm.MethodName)) ∈ lw_all := lw_g (lw_at lw_m10 20 rfl) rfl
theorem q2262 : (Jvm.Cond.selects "BlackoutStartModel" ({ cls := "BlackoutStartModel", name := "blackout", desc := "(I)I" } : Jvm.MethodName) ({ cls := "BlackoutStartModel", name := "blackout", desc := "(I)I" } : Jvm.MethodName)) ∈ lw_all := lw_g (lw_at lw_m10 21 rfl) rfl
theorem q2263 : (Jvm.Cond.code ({ cls := "BlackoutStartModel", name := "blackout", desc := "(I)I" } : Jvm.MethodName) prog_14_method_79_code (2 : Nat) (Option.some Jvm.ClassFile.FieldType.int)) ∈ lw_all := lw_g (lw_at lw_m10 22 rfl) rfl
theorem q2264 : (Jvm.Cond.constantLong "BlackoutStartModel" (338 : Nat) (50 : Int64)) ∈ lw_all := lw_g (lw_at lw_m10 23 rfl) rfl
theorem q2266 : (Jvm.Cond.instanceMethod ({ cls := "BlackoutStartModel", name := "want", desc := "(IZ)Z" } : Jvm.MethodName)) ∈ lw_all := lw_g (lw_at lw_m10 25 rfl) rfl
theorem q2267 : (Jvm.Cond.selects "BlackoutStartModel" ({ cls := "BlackoutStartModel", name := "want", desc := "(IZ)Z" } : Jvm.MethodName) ({ cls := "BlackoutStartModel", name := "want", desc := "(IZ)Z" } : Jvm.MethodName)) ∈ lw_all := lw_g (lw_at lw_m10 26 rfl) rfl
theorem q2268 : (Jvm.Cond.code ({ cls := "BlackoutStartModel", name := "want", desc := "(IZ)Z" } : Jvm.MethodName) prog_14_method_80_code (4 : Nat) (Option.some Jvm.ClassFile.FieldType.boolean)) ∈ lw_all := lw_g (lw_at lw_m10 27 rfl) rfl
theorem q2270 : (Jvm.Cond.instanceMethod ({ cls := "BlackoutStartModel", name := "setFuse", desc := "(I)I" } : Jvm.MethodName)) ∈ lw_all := lw_g (lw_at lw_m10 29 rfl) rfl
theorem q2271 : (Jvm.Cond.selects "BlackoutStartModel" ({ cls := "BlackoutStartModel", name := "setFuse", desc := "(I)I" } : Jvm.MethodName) ({ cls := "BlackoutStartModel", name := "setFuse", desc := "(I)I" } : Jvm.MethodName)) ∈ lw_all := lw_g (lw_at lw_m10 30 rfl) rfl
theorem q2272 : (Jvm.Cond.code ({ cls := "BlackoutStartModel", name := "setFuse", desc := "(I)I" } : Jvm.MethodName) prog_14_method_81_code (3 : Nat) (Option.some Jvm.ClassFile.FieldType.int)) ∈ lw_all := lw_g (lw_at lw_m10 31 rfl) rfl
theorem q2274 : (Jvm.Cond.instanceMethod ({ cls := "BlackoutStartModel", name := "setPriority", desc := "(II)I" } : Jvm.MethodName)) ∈ lw_all := lw_g (lw_at lw_m10 33 rfl) rfl
theorem q2275 : (Jvm.Cond.selects "BlackoutStartModel" ({ cls := "BlackoutStartModel", name := "setPriority", desc := "(II)I" } : Jvm.MethodName) ({ cls := "BlackoutStartModel", name := "setPriority", desc := "(II)I" } : Jvm.MethodName)) ∈ lw_all := lw_g (lw_at lw_m10 34 rfl) rfl
theorem q2276 : (Jvm.Cond.code ({ cls := "BlackoutStartModel", name := "setPriority", desc := "(II)I" } : Jvm.MethodName) prog_14_method_82_code (4 : Nat) (Option.some Jvm.ClassFile.FieldType.int)) ∈ lw_all := lw_g (lw_at lw_m10 35 rfl) rfl
theorem q2278 : (Jvm.Cond.instanceMethod ({ cls := "BlackoutStartModel", name := "forget", desc := "()I" } : Jvm.MethodName)) ∈ lw_all := lw_g (lw_at lw_m10 37 rfl) rfl
theorem q2279 : (Jvm.Cond.selects "BlackoutStartModel" ({ cls := "BlackoutStartModel", name := "forget", desc := "()I" } : Jvm.MethodName) ({ cls := "BlackoutStartModel", name := "forget", desc := "()I" } : Jvm.MethodName)) ∈ lw_all := lw_g (lw_at lw_m10 38 rfl) rfl
theorem q2280 : (Jvm.Cond.code ({ cls := "BlackoutStartModel", name := "forget", desc := "()I" } : Jvm.MethodName) prog_14_method_83_code (1 : Nat) (Option.some Jvm.ClassFile.FieldType.int)) ∈ lw_all := lw_g (lw_at lw_m10 39 rfl) rfl
theorem q2282 : (Jvm.Cond.instanceMethod ({ cls := "BlackoutStartModel", name := "undo", desc := "()I" } : Jvm.MethodName)) ∈ lw_all := lw_g (lw_at lw_m10 41 rfl) rfl
theorem q2283 : (Jvm.Cond.selects "BlackoutStartModel" ({ cls := "BlackoutStartModel", name := "undo", desc := "()I" } : Jvm.MethodName) ({ cls := "BlackoutStartModel", name := "undo", desc := "()I" } : Jvm.MethodName)) ∈ lw_all := lw_g (lw_at lw_m10 42 rfl) rfl
theorem q2284 : (Jvm.Cond.code ({ cls := "BlackoutStartModel", name := "undo", desc := "()I" } : Jvm.MethodName) prog_14_method_84_code (2 : Nat) (Option.some Jvm.ClassFile.FieldType.int)) ∈ lw_all := lw_g (lw_at lw_m10 43 rfl) rfl
theorem q2286 : (Jvm.Cond.instanceMethod ({ cls := "BlackoutStartModel", name := "save", desc := "(I)V" } : Jvm.MethodName)) ∈ lw_all := lw_g (lw_at lw_m10 45 rfl) rfl
theorem q2287 : (Jvm.Cond.selects "BlackoutStartModel" ({ cls := "BlackoutStartModel", name := "save", desc := "(I)V" } : Jvm.MethodName) ({ cls := "BlackoutStartModel", name := "save", desc := "(I)V" } : Jvm.MethodName)) ∈ lw_all := lw_g (lw_at lw_m10 46 rfl) rfl
theorem q2288 : (Jvm.Cond.code ({ cls := "BlackoutStartModel", name := "save", desc := "(I)V" } : Jvm.MethodName) prog_14_method_86_code (3 : Nat) (Option.none : Option Jvm.ClassFile.FieldType)) ∈ lw_all := lw_g (lw_at lw_m10 47 rfl) rfl
theorem q2289 : (Jvm.Cond.methodLink "BlackoutStartModel" (340 : Nat) ({ cls := "BlackoutStartModel", name := "isSlot", desc := "(I)Z" } : Jvm.MethodName)) ∈ lw_all := lw_g (lw_at lw_m10 48 rfl) rfl
theorem q2290 : (Jvm.Cond.static ({ cls := "BlackoutStartModel", name := "isSlot", desc := "(I)Z" } : Jvm.MethodName)) ∈ lw_all := lw_g (lw_at lw_m10 49 rfl) rfl
theorem q2291 : (Jvm.Cond.code ({ cls := "BlackoutStartModel", name := "isSlot", desc := "(I)Z" } : Jvm.MethodName) prog_14_method_85_code (1 : Nat) (Option.some Jvm.ClassFile.FieldType.boolean)) ∈ lw_all := lw_g (lw_at lw_m10 50 rfl) rfl
theorem q2293 : (Jvm.Cond.instanceMethod ({ cls := "BlackoutStartModel", name := "restore", desc := "(I)V" } : Jvm.MethodName)) ∈ lw_all := lw_g (lw_at lw_m10 52 rfl) rfl
theorem q2294 : (Jvm.Cond.selects "BlackoutStartModel" ({ cls := "BlackoutStartModel", name := "restore", desc := "(I)V" } : Jvm.MethodName) ({ cls := "BlackoutStartModel", name := "restore", desc := "(I)V" } : Jvm.MethodName)) ∈ lw_all := lw_g (lw_at lw_m10 53 rfl) rfl
theorem q2295 : (Jvm.Cond.code ({ cls := "BlackoutStartModel", name := "restore", desc := "(I)V" } : Jvm.MethodName) prog_14_method_87_code (3 : Nat) (Option.none : Option Jvm.ClassFile.FieldType)) ∈ lw_all := lw_g (lw_at lw_m10 54 rfl) rfl
theorem q2321 : (Jvm.Cond.castable "BlackoutStartModel" "java/lang/Object") ∈ lw_tbl := lw_at lw_m10 80 rfl
theorem in_X6 : ∀ w ∈ wsX60, w ∈ lw_all := lw_in wsX60 [1868, 1870, 1872, 1874, 1876, 1878, 1880, 1882, 1884, 1886, 1888, 1890, 1892, 1894, 1896, 1898, 1900, 1902, 1904, 1906, 1908, 1910, 1912, 1914, 1916, 1918, 1920, 1922, 1924, 1926, 1928, 1930, 1932, 1934, 1936] (by decide +kernel) (by decide +kernel)
/-! BlackoutStart$Parser -/
set_option maxRecDepth 100000
def RX7 : String := "BlackoutStart$Parser"
def TX7 : u_T := fun k => match k with
  | 0 => ("BlackoutStart$Parser", "setup", "LBlackoutStart$Setup;", true)
  | 1 => ("BlackoutStart$Parser", "at", "I", false)
  | 2 => ("BlackoutStart$Parser", "start", "I", false)
  | 3 => ("BlackoutStart$Parser", "hasLoss", "Z", false)
  | 4 => ("BlackoutStart$Parser", "hasRetry", "Z", false)
  | 5 => ("BlackoutStart$Parser", "hasPatience", "Z", false)
  | _ => ("BlackoutStart$Parser", "this$0", "LBlackoutStart;", true)
def tyX7 : Nat → FieldType := fun k => match k with
  | 0 => .object "BlackoutStart$Setup"
  | 1 => .int
  | 2 => .int
  | 3 => .boolean
  | 4 => .boolean
  | 5 => .boolean
  | _ => .object "BlackoutStart"
abbrev wsX70 : List Cond := u_ws RX7 TX7 7
theorem nmX7 : ∀ a, a < 7 → ∀ b, b < 7 → a ≠ b → (TX7 a).2.1 ≠ (TX7 b).2.1 := by decide +kernel
theorem tyX7_ok : ∀ k, k < 7 → parseFieldDescriptor (TX7 k).2.2.1 = some (tyX7 k) := by decide +kernel
abbrev cX7_init : ByteArray := prog_8_method_1_code
def yX7_init : MethodName := ⟨RX7, "<init>", "(LBlackoutStart;)V"⟩
abbrev cX7_parse : ByteArray := prog_8_method_18_code
def yX7_parse : MethodName := ⟨RX7, "parse", "()LBlackoutStart$Setup;"⟩
abbrev cX7_all : ByteArray := prog_8_method_17_code
def yX7_all : MethodName := ⟨RX7, "all", "()V"⟩
abbrev cX7_takes : ByteArray := prog_8_method_6_code
def yX7_takes : MethodName := ⟨RX7, "takes", "(Ljava/lang/String;)Z"⟩
abbrev cX7_word : ByteArray := prog_8_method_5_code
def yX7_word : MethodName := ⟨RX7, "word", "()Ljava/lang/String;"⟩
abbrev cX7_peek : ByteArray := prog_8_method_2_code
def yX7_peek : MethodName := ⟨RX7, "peek", "()I"⟩
abbrev cX7_expect : ByteArray := prog_8_method_3_code
def yX7_expect : MethodName := ⟨RX7, "expect", "(Z)V"⟩
abbrev cX7_number : ByteArray := prog_8_method_8_code
def yX7_number : MethodName := ⟨RX7, "number", "(II)I"⟩
abbrev cX7_require : ByteArray := prog_8_method_4_code
def yX7_require : MethodName := ⟨RX7, "require", "(ZI)V"⟩
abbrev cX7_end : ByteArray := prog_8_method_7_code
def yX7_end : MethodName := ⟨RX7, "end", "()V"⟩
abbrev cX7_outlet : ByteArray := prog_8_method_12_code
def yX7_outlet : MethodName := ⟨RX7, "outlet", "(Ljava/lang/String;)V"⟩
abbrev cX7_name : ByteArray := prog_8_method_9_code
def yX7_name : MethodName := ⟨RX7, "name", "()Ljava/lang/String;"⟩
abbrev cX7_need : ByteArray := prog_8_method_13_code
def yX7_need : MethodName := ⟨RX7, "need", "(Ljava/lang/String;)V"⟩
abbrev cX7_known : ByteArray := prog_8_method_10_code
def yX7_known : MethodName := ⟨RX7, "known", "()I"⟩
abbrev cX7_passed : ByteArray := prog_8_method_11_code
def yX7_passed : MethodName := ⟨RX7, "passed", "(I)I"⟩
abbrev cX7_rule : ByteArray := prog_8_method_16_code
def yX7_rule : MethodName := ⟨RX7, "rule", "(Ljava/lang/String;)Z"⟩
abbrev cX7_once : ByteArray := prog_8_method_15_code
def yX7_once : MethodName := ⟨RX7, "once", "(Z)V"⟩
abbrev cX7_script : ByteArray := prog_8_method_14_code
def yX7_script : MethodName := ⟨RX7, "script", "()[I"⟩
theorem q112 : (Jvm.Cond.initialized "BlackoutStart$Parser") ∈ lw_all := lw_g (lw_at lw_m1 31 rfl) rfl
theorem q490 : (Jvm.Cond.fieldLinkNest "BlackoutStart$Parser" (102 : Nat) "BlackoutStart$Setup" "outlets" "Ljava/util/List;" "BlackoutStart") ∈ lw_tbl := lw_at lw_m2 169 rfl
theorem q492 : (Jvm.Cond.fieldLinkNest "BlackoutStart$Parser" (191 : Nat) "BlackoutStart$Setup" "darks" "Ljava/util/List;" "BlackoutStart") ∈ lw_tbl := lw_at lw_m2 171 rfl
theorem q496 : (Jvm.Cond.fieldLinkNest "BlackoutStart$Parser" (140 : Nat) "BlackoutStart$Setup" "needs" "[I" "BlackoutStart") ∈ lw_tbl := lw_at lw_m2 175 rfl
theorem q500 : (Jvm.Cond.fieldLinkNest "BlackoutStart$Parser" (174 : Nat) "BlackoutStart$Setup" "script" "[I" "BlackoutStart") ∈ lw_tbl := lw_at lw_m2 179 rfl
theorem q501 : (Jvm.Cond.fieldLinkNest "BlackoutStart$Parser" (130 : Nat) "BlackoutStart$Setup" "needMany" "I" "BlackoutStart") ∈ lw_tbl := lw_at lw_m2 180 rfl
theorem q504 : (Jvm.Cond.fieldLinkNest "BlackoutStart$Parser" (189 : Nat) "BlackoutStart$Setup" "off" "I" "BlackoutStart") ∈ lw_tbl := lw_at lw_m2 183 rfl
theorem q507 : (Jvm.Cond.fieldLinkNest "BlackoutStart$Parser" (184 : Nat) "BlackoutStart$Setup" "patience" "I" "BlackoutStart") ∈ lw_tbl := lw_at lw_m2 186 rfl
theorem q511 : (Jvm.Cond.fieldLinkNest "BlackoutStart$Parser" (179 : Nat) "BlackoutStart$Setup" "retry" "I" "BlackoutStart") ∈ lw_tbl := lw_at lw_m2 190 rfl
theorem q514 : (Jvm.Cond.fieldLinkNest "BlackoutStart$Parser" (204 : Nat) "BlackoutStart$Setup" "fuse" "I" "BlackoutStart") ∈ lw_tbl := lw_at lw_m2 193 rfl
theorem q516 : (Jvm.Cond.fieldLinkNest "BlackoutStart$Parser" (186 : Nat) "BlackoutStart$Setup" "isStrict" "Z" "BlackoutStart") ∈ lw_tbl := lw_at lw_m2 195 rfl
theorem q748 : (Jvm.Cond.fieldLinkNest "BlackoutStart$Parser" (29 : Nat) "BlackoutStart" "buffer" "[B" "BlackoutStart") ∈ lw_tbl := lw_at lw_m3 187 rfl
theorem q750 : (Jvm.Cond.fieldLinkNest "BlackoutStart$Parser" (26 : Nat) "BlackoutStart" "buffered" "I" "BlackoutStart") ∈ lw_tbl := lw_at lw_m3 189 rfl
theorem q929 : (Jvm.Cond.selects "BlackoutStart$Parser" ({ cls := "java/lang/Object", name := "getClass", desc := "()Ljava/lang/Class;" } : Jvm.MethodName) ({ cls := "java/lang/Object", name := "getClass", desc := "()Ljava/lang/Class;" } : Jvm.MethodName)) ∈ lw_all := lw_g (lw_at lw_m4 128 rfl) rfl
theorem q1060 : (Jvm.Cond.instantiable "BlackoutStart$Parser" (7 : Nat)) ∈ lw_all := lw_g (lw_at lw_m5 19 rfl) rfl
theorem q1062 : (Jvm.Cond.instanceMethod ({ cls := "BlackoutStart$Parser", name := "<init>", desc := "(LBlackoutStart;)V" } : Jvm.MethodName)) ∈ lw_all := lw_g (lw_at lw_m5 21 rfl) rfl
theorem q1063 : (Jvm.Cond.code ({ cls := "BlackoutStart$Parser", name := "<init>", desc := "(LBlackoutStart;)V" } : Jvm.MethodName) prog_8_method_1_code (2 : Nat) (Option.none : Option Jvm.ClassFile.FieldType)) ∈ lw_all := lw_g (lw_at lw_m5 22 rfl) rfl
theorem q1064 : (Jvm.Cond.methodLink "BlackoutStart$Parser" (9 : Nat) ({ cls := "java/lang/Object", name := "<init>", desc := "()V" } : Jvm.MethodName)) ∈ lw_all := lw_g (lw_at lw_m5 23 rfl) rfl
theorem q1065 : (Jvm.Cond.classLink "BlackoutStart$Parser" (15 : Nat) "BlackoutStart$Setup") ∈ lw_all := lw_g (lw_at lw_m5 24 rfl) rfl
theorem q1066 : (Jvm.Cond.methodLinkNest "BlackoutStart$Parser" (17 : Nat) ({ cls := "BlackoutStart$Setup", name := "<init>", desc := "()V" } : Jvm.MethodName) "BlackoutStart") ∈ lw_tbl := lw_at lw_m5 25 rfl
theorem q1067 : (Jvm.Cond.fieldLink "BlackoutStart$Parser" (18 : Nat) "BlackoutStart$Parser" "setup" "LBlackoutStart$Setup;") ∈ lw_all := lw_g (lw_at lw_m5 26 rfl) rfl
theorem q1068 : (Jvm.Cond.fieldLink "BlackoutStart$Parser" (22 : Nat) "BlackoutStart$Parser" "at" "I") ∈ lw_all := lw_g (lw_at lw_m5 27 rfl) rfl
theorem q1069 : (Jvm.Cond.fieldLink "BlackoutStart$Parser" (33 : Nat) "BlackoutStart$Parser" "start" "I") ∈ lw_all := lw_g (lw_at lw_m5 28 rfl) rfl
theorem q1070 : (Jvm.Cond.fieldLink "BlackoutStart$Parser" (163 : Nat) "BlackoutStart$Parser" "hasLoss" "Z") ∈ lw_all := lw_g (lw_at lw_m5 29 rfl) rfl
theorem q1071 : (Jvm.Cond.fieldLink "BlackoutStart$Parser" (176 : Nat) "BlackoutStart$Parser" "hasRetry" "Z") ∈ lw_all := lw_g (lw_at lw_m5 30 rfl) rfl
theorem q1072 : (Jvm.Cond.fieldLink "BlackoutStart$Parser" (181 : Nat) "BlackoutStart$Parser" "hasPatience" "Z") ∈ lw_all := lw_g (lw_at lw_m5 31 rfl) rfl
theorem q1073 : (Jvm.Cond.fieldLink "BlackoutStart$Parser" (3 : Nat) "BlackoutStart$Parser" "this$0" "LBlackoutStart;") ∈ lw_all := lw_g (lw_at lw_m5 32 rfl) rfl
theorem q1074 : (Jvm.Cond.laysFinal "BlackoutStart$Parser" "BlackoutStart$Parser" "setup" "LBlackoutStart$Setup;") ∈ lw_all := lw_g (lw_at lw_m5 33 rfl) rfl
theorem q1075 : (Jvm.Cond.soleField "BlackoutStart$Parser" "setup") ∈ lw_all := lw_g (lw_at lw_m5 34 rfl) rfl
theorem q1076 : (Jvm.Cond.lays "BlackoutStart$Parser" "BlackoutStart$Parser" "at" "I") ∈ lw_all := lw_g (lw_at lw_m5 35 rfl) rfl
theorem q1077 : (Jvm.Cond.soleField "BlackoutStart$Parser" "at") ∈ lw_all := lw_g (lw_at lw_m5 36 rfl) rfl
theorem q1078 : (Jvm.Cond.lays "BlackoutStart$Parser" "BlackoutStart$Parser" "start" "I") ∈ lw_all := lw_g (lw_at lw_m5 37 rfl) rfl
theorem q1079 : (Jvm.Cond.soleField "BlackoutStart$Parser" "start") ∈ lw_all := lw_g (lw_at lw_m5 38 rfl) rfl
theorem q1080 : (Jvm.Cond.lays "BlackoutStart$Parser" "BlackoutStart$Parser" "hasLoss" "Z") ∈ lw_all := lw_g (lw_at lw_m5 39 rfl) rfl
theorem q1081 : (Jvm.Cond.soleField "BlackoutStart$Parser" "hasLoss") ∈ lw_all := lw_g (lw_at lw_m5 40 rfl) rfl
theorem q1082 : (Jvm.Cond.lays "BlackoutStart$Parser" "BlackoutStart$Parser" "hasRetry" "Z") ∈ lw_all := lw_g (lw_at lw_m5 41 rfl) rfl
theorem q1083 : (Jvm.Cond.soleField "BlackoutStart$Parser" "hasRetry") ∈ lw_all := lw_g (lw_at lw_m5 42 rfl) rfl
theorem q1084 : (Jvm.Cond.lays "BlackoutStart$Parser" "BlackoutStart$Parser" "hasPatience" "Z") ∈ lw_all := lw_g (lw_at lw_m5 43 rfl) rfl
theorem q1085 : (Jvm.Cond.soleField "BlackoutStart$Parser" "hasPatience") ∈ lw_all := lw_g (lw_at lw_m5 44 rfl) rfl
theorem q1086 : (Jvm.Cond.laysFinal "BlackoutStart$Parser" "BlackoutStart$Parser" "this$0" "LBlackoutStart;") ∈ lw_all := lw_g (lw_at lw_m5 45 rfl) rfl
theorem q1087 : (Jvm.Cond.soleField "BlackoutStart$Parser" "this$0") ∈ lw_all := lw_g (lw_at lw_m5 46 rfl) rfl
theorem q1088 : (Jvm.Cond.superclass "BlackoutStart$Parser" "java/lang/Object") ∈ lw_all := lw_g (lw_at lw_m5 47 rfl) rfl
theorem q1090 : (Jvm.Cond.instanceMethod ({ cls := "BlackoutStart$Parser", name := "parse", desc := "()LBlackoutStart$Setup;" } : Jvm.MethodName)) ∈ lw_all := lw_g (lw_at lw_m5 49 rfl) rfl
theorem q1091 : (Jvm.Cond.selects "BlackoutStart$Parser" ({ cls := "BlackoutStart$Parser", name := "parse", desc := "()LBlackoutStart$Setup;" } : Jvm.MethodName) ({ cls := "BlackoutStart$Parser", name := "parse", desc := "()LBlackoutStart$Setup;" } : Jvm.MethodName)) ∈ lw_all := lw_g (lw_at lw_m5 50 rfl) rfl
theorem q1092 : (Jvm.Cond.codeWith ({ cls := "BlackoutStart$Parser", name := "parse", desc := "()LBlackoutStart$Setup;" } : Jvm.MethodName) prog_8_method_18_code (2 : Nat) (Option.some (Jvm.ClassFile.FieldType.object "BlackoutStart$Setup")) [((0 : Nat), (8 : Nat), (9 : Nat), (36 : Nat)), ((0 : Nat), (8 : Nat), (9 : Nat), (41 : Nat))]) ∈ lw_all := lw_g (lw_at lw_m5 51 rfl) rfl
theorem q1093 : (Jvm.Cond.classLink "BlackoutStart$Parser" (36 : Nat) "BlackoutStart$BadToken") ∈ lw_all := lw_g (lw_at lw_m5 52 rfl) rfl
theorem q1094 : (Jvm.Cond.classLink "BlackoutStart$Parser" (41 : Nat) "BlackoutStart$BadMeaning") ∈ lw_all := lw_g (lw_at lw_m5 53 rfl) rfl
theorem q1095 : (Jvm.Cond.methodLink "BlackoutStart$Parser" (221 : Nat) ({ cls := "BlackoutStart$Parser", name := "all", desc := "()V" } : Jvm.MethodName)) ∈ lw_all := lw_g (lw_at lw_m5 54 rfl) rfl
theorem q1096 : (Jvm.Cond.privateMethod ({ cls := "BlackoutStart$Parser", name := "all", desc := "()V" } : Jvm.MethodName)) ∈ lw_tbl := lw_at lw_m5 55 rfl
theorem q1097 : (Jvm.Cond.instanceMethod ({ cls := "BlackoutStart$Parser", name := "all", desc := "()V" } : Jvm.MethodName)) ∈ lw_all := lw_g (lw_at lw_m5 56 rfl) rfl
theorem q1098 : (Jvm.Cond.code ({ cls := "BlackoutStart$Parser", name := "all", desc := "()V" } : Jvm.MethodName) prog_8_method_17_code (3 : Nat) (Option.none : Option Jvm.ClassFile.FieldType)) ∈ lw_all := lw_g (lw_at lw_m5 57 rfl) rfl
theorem q1099 : (Jvm.Cond.stringRef "BlackoutStart$Parser" (198 : Nat) "fuse") ∈ lw_tbl := lw_at lw_m5 58 rfl
theorem q1100 : (Jvm.Cond.methodLink "BlackoutStart$Parser" (200 : Nat) ({ cls := "BlackoutStart$Parser", name := "takes", desc := "(Ljava/lang/String;)Z" } : Jvm.MethodName)) ∈ lw_all := lw_g (lw_at lw_m5 59 rfl) rfl
theorem q1101 : (Jvm.Cond.privateMethod ({ cls := "BlackoutStart$Parser", name := "takes", desc := "(Ljava/lang/String;)Z" } : Jvm.MethodName)) ∈ lw_tbl := lw_at lw_m5 60 rfl
theorem q1102 : (Jvm.Cond.instanceMethod ({ cls := "BlackoutStart$Parser", name := "takes", desc := "(Ljava/lang/String;)Z" } : Jvm.MethodName)) ∈ lw_all := lw_g (lw_at lw_m5 61 rfl) rfl
theorem q1103 : (Jvm.Cond.code ({ cls := "BlackoutStart$Parser", name := "takes", desc := "(Ljava/lang/String;)Z" } : Jvm.MethodName) prog_8_method_6_code (3 : Nat) (Option.some Jvm.ClassFile.FieldType.boolean)) ∈ lw_all := lw_g (lw_at lw_m5 62 rfl) rfl
theorem q1104 : (Jvm.Cond.methodLink "BlackoutStart$Parser" (69 : Nat) ({ cls := "BlackoutStart$Parser", name := "word", desc := "()Ljava/lang/String;" } : Jvm.MethodName)) ∈ lw_all := lw_g (lw_at lw_m5 63 rfl) rfl
theorem q1105 : (Jvm.Cond.privateMethod ({ cls := "BlackoutStart$Parser", name := "word", desc := "()Ljava/lang/String;" } : Jvm.MethodName)) ∈ lw_tbl := lw_at lw_m5 64 rfl
theorem q1106 : (Jvm.Cond.instanceMethod ({ cls := "BlackoutStart$Parser", name := "word", desc := "()Ljava/lang/String;" } : Jvm.MethodName)) ∈ lw_all := lw_g (lw_at lw_m5 65 rfl) rfl
theorem q1107 : (Jvm.Cond.code ({ cls := "BlackoutStart$Parser", name := "word", desc := "()Ljava/lang/String;" } : Jvm.MethodName) prog_8_method_5_code (4 : Nat) (Option.some (Jvm.ClassFile.FieldType.object "java/lang/String"))) ∈ lw_all := lw_g (lw_at lw_m5 66 rfl) rfl
theorem q1108 : (Jvm.Cond.methodLink "BlackoutStart$Parser" (46 : Nat) ({ cls := "BlackoutStart$Parser", name := "peek", desc := "()I" } : Jvm.MethodName)) ∈ lw_all := lw_g (lw_at lw_m5 67 rfl) rfl
theorem q1109 : (Jvm.Cond.privateMethod ({ cls := "BlackoutStart$Parser", name := "peek", desc := "()I" } : Jvm.MethodName)) ∈ lw_tbl := lw_at lw_m5 68 rfl
theorem q1110 : (Jvm.Cond.instanceMethod ({ cls := "BlackoutStart$Parser", name := "peek", desc := "()I" } : Jvm.MethodName)) ∈ lw_all := lw_g (lw_at lw_m5 69 rfl) rfl
theorem q1111 : (Jvm.Cond.code ({ cls := "BlackoutStart$Parser", name := "peek", desc := "()I" } : Jvm.MethodName) prog_8_method_2_code (1 : Nat) (Option.some Jvm.ClassFile.FieldType.int)) ∈ lw_all := lw_g (lw_at lw_m5 70 rfl) rfl
theorem q1112 : (Jvm.Cond.classLink "BlackoutStart$Parser" (50 : Nat) "java/lang/StringBuilder") ∈ lw_all := lw_g (lw_at lw_m5 71 rfl) rfl
theorem q1113 : (Jvm.Cond.methodLink "BlackoutStart$Parser" (52 : Nat) ({ cls := "java/lang/StringBuilder", name := "<init>", desc := "(I)V" } : Jvm.MethodName)) ∈ lw_all := lw_g (lw_at lw_m5 72 rfl) rfl
theorem q1116 : (Jvm.Cond.constantLong "BlackoutStart$Parser" (53 : Nat) (97 : Int64)) ∈ lw_all := lw_g (lw_at lw_m5 75 rfl) rfl
theorem q1117 : (Jvm.Cond.constantLong "BlackoutStart$Parser" (55 : Nat) (122 : Int64)) ∈ lw_all := lw_g (lw_at lw_m5 76 rfl) rfl
theorem q1118 : (Jvm.Cond.methodLinkNest "BlackoutStart$Parser" (57 : Nat) ({ cls := "BlackoutStart", name := "in", desc := "(JJJ)Z" } : Jvm.MethodName) "BlackoutStart") ∈ lw_tbl := lw_at lw_m5 77 rfl
theorem q1119 : (Jvm.Cond.methodLink "BlackoutStart$Parser" (61 : Nat) ({ cls := "java/lang/StringBuilder", name := "append", desc := "(C)Ljava/lang/StringBuilder;" } : Jvm.MethodName)) ∈ lw_all := lw_g (lw_at lw_m5 78 rfl) rfl
theorem q1139 : (Jvm.Cond.methodLink "BlackoutStart$Parser" (65 : Nat) ({ cls := "java/lang/StringBuilder", name := "toString", desc := "()Ljava/lang/String;" } : Jvm.MethodName)) ∈ lw_all := lw_g (lw_at lw_m5 98 rfl) rfl
theorem q1140 : (Jvm.Cond.methodLink "BlackoutStart$Parser" (72 : Nat) ({ cls := "java/lang/String", name := "equals", desc := "(Ljava/lang/Object;)Z" } : Jvm.MethodName)) ∈ lw_all := lw_g (lw_at lw_m5 99 rfl) rfl
theorem q1148 : (Jvm.Cond.methodLink "BlackoutStart$Parser" (78 : Nat) ({ cls := "java/lang/String", name := "length", desc := "()I" } : Jvm.MethodName)) ∈ lw_all := lw_g (lw_at lw_m5 107 rfl) rfl
theorem q1149 : (Jvm.Cond.methodLink "BlackoutStart$Parser" (81 : Nat) ({ cls := "BlackoutStart$Parser", name := "expect", desc := "(Z)V" } : Jvm.MethodName)) ∈ lw_all := lw_g (lw_at lw_m5 108 rfl) rfl
theorem q1150 : (Jvm.Cond.privateMethod ({ cls := "BlackoutStart$Parser", name := "expect", desc := "(Z)V" } : Jvm.MethodName)) ∈ lw_tbl := lw_at lw_m5 109 rfl
theorem q1151 : (Jvm.Cond.instanceMethod ({ cls := "BlackoutStart$Parser", name := "expect", desc := "(Z)V" } : Jvm.MethodName)) ∈ lw_all := lw_g (lw_at lw_m5 110 rfl) rfl
theorem q1152 : (Jvm.Cond.code ({ cls := "BlackoutStart$Parser", name := "expect", desc := "(Z)V" } : Jvm.MethodName) prog_8_method_3_code (2 : Nat) (Option.none : Option Jvm.ClassFile.FieldType)) ∈ lw_all := lw_g (lw_at lw_m5 111 rfl) rfl
theorem q1161 : (Jvm.Cond.methodLink "BlackoutStart$Parser" (38 : Nat) ({ cls := "BlackoutStart$BadToken", name := "<init>", desc := "(I)V" } : Jvm.MethodName)) ∈ lw_all := lw_g (lw_at lw_m5 120 rfl) rfl
theorem q1181 : (Jvm.Cond.methodLink "BlackoutStart$Parser" (120 : Nat) ({ cls := "BlackoutStart$Parser", name := "number", desc := "(II)I" } : Jvm.MethodName)) ∈ lw_all := lw_g (lw_at lw_m5 140 rfl) rfl
theorem q1182 : (Jvm.Cond.privateMethod ({ cls := "BlackoutStart$Parser", name := "number", desc := "(II)I" } : Jvm.MethodName)) ∈ lw_tbl := lw_at lw_m5 141 rfl
theorem q1183 : (Jvm.Cond.instanceMethod ({ cls := "BlackoutStart$Parser", name := "number", desc := "(II)I" } : Jvm.MethodName)) ∈ lw_all := lw_g (lw_at lw_m5 142 rfl) rfl
theorem q1184 : (Jvm.Cond.code ({ cls := "BlackoutStart$Parser", name := "number", desc := "(II)I" } : Jvm.MethodName) prog_8_method_8_code (4 : Nat) (Option.some Jvm.ClassFile.FieldType.int)) ∈ lw_all := lw_g (lw_at lw_m5 143 rfl) rfl
theorem q1185 : (Jvm.Cond.constantLong "BlackoutStart$Parser" (85 : Nat) (48 : Int64)) ∈ lw_all := lw_g (lw_at lw_m5 144 rfl) rfl
theorem q1186 : (Jvm.Cond.constantLong "BlackoutStart$Parser" (87 : Nat) (57 : Int64)) ∈ lw_all := lw_g (lw_at lw_m5 145 rfl) rfl
theorem q1187 : (Jvm.Cond.methodLink "BlackoutStart$Parser" (89 : Nat) ({ cls := "BlackoutStart$Parser", name := "require", desc := "(ZI)V" } : Jvm.MethodName)) ∈ lw_all := lw_g (lw_at lw_m5 146 rfl) rfl
theorem q1188 : (Jvm.Cond.privateMethod ({ cls := "BlackoutStart$Parser", name := "require", desc := "(ZI)V" } : Jvm.MethodName)) ∈ lw_tbl := lw_at lw_m5 147 rfl
theorem q1189 : (Jvm.Cond.instanceMethod ({ cls := "BlackoutStart$Parser", name := "require", desc := "(ZI)V" } : Jvm.MethodName)) ∈ lw_all := lw_g (lw_at lw_m5 148 rfl) rfl
theorem q1190 : (Jvm.Cond.code ({ cls := "BlackoutStart$Parser", name := "require", desc := "(ZI)V" } : Jvm.MethodName) prog_8_method_4_code (3 : Nat) (Option.none : Option Jvm.ClassFile.FieldType)) ∈ lw_all := lw_g (lw_at lw_m5 149 rfl) rfl
theorem q1199 : (Jvm.Cond.methodLink "BlackoutStart$Parser" (43 : Nat) ({ cls := "BlackoutStart$BadMeaning", name := "<init>", desc := "(II)V" } : Jvm.MethodName)) ∈ lw_all := lw_g (lw_at lw_m5 158 rfl) rfl
theorem q1207 : (Jvm.Cond.methodLink "BlackoutStart$Parser" (206 : Nat) ({ cls := "BlackoutStart$Parser", name := "end", desc := "()V" } : Jvm.MethodName)) ∈ lw_all := lw_g (lw_at lw_m5 166 rfl) rfl
theorem q1208 : (Jvm.Cond.privateMethod ({ cls := "BlackoutStart$Parser", name := "end", desc := "()V" } : Jvm.MethodName)) ∈ lw_tbl := lw_at lw_m5 167 rfl
theorem q1209 : (Jvm.Cond.instanceMethod ({ cls := "BlackoutStart$Parser", name := "end", desc := "()V" } : Jvm.MethodName)) ∈ lw_all := lw_g (lw_at lw_m5 168 rfl) rfl
theorem q1210 : (Jvm.Cond.code ({ cls := "BlackoutStart$Parser", name := "end", desc := "()V" } : Jvm.MethodName) prog_8_method_7_code (1 : Nat) (Option.none : Option Jvm.ClassFile.FieldType)) ∈ lw_all := lw_g (lw_at lw_m5 169 rfl) rfl
theorem q1211 : (Jvm.Cond.stringRef "BlackoutStart$Parser" (209 : Nat) "outlet") ∈ lw_tbl := lw_at lw_m5 170 rfl
theorem q1212 : (Jvm.Cond.methodLink "BlackoutStart$Parser" (211 : Nat) ({ cls := "BlackoutStart$Parser", name := "outlet", desc := "(Ljava/lang/String;)V" } : Jvm.MethodName)) ∈ lw_all := lw_g (lw_at lw_m5 171 rfl) rfl
theorem q1213 : (Jvm.Cond.privateMethod ({ cls := "BlackoutStart$Parser", name := "outlet", desc := "(Ljava/lang/String;)V" } : Jvm.MethodName)) ∈ lw_tbl := lw_at lw_m5 172 rfl
theorem q1214 : (Jvm.Cond.instanceMethod ({ cls := "BlackoutStart$Parser", name := "outlet", desc := "(Ljava/lang/String;)V" } : Jvm.MethodName)) ∈ lw_all := lw_g (lw_at lw_m5 173 rfl) rfl
theorem q1215 : (Jvm.Cond.code ({ cls := "BlackoutStart$Parser", name := "outlet", desc := "(Ljava/lang/String;)V" } : Jvm.MethodName) prog_8_method_12_code (7 : Nat) (Option.none : Option Jvm.ClassFile.FieldType)) ∈ lw_all := lw_g (lw_at lw_m5 174 rfl) rfl
theorem q1216 : (Jvm.Cond.methodLink "BlackoutStart$Parser" (117 : Nat) ({ cls := "BlackoutStart$Setup", name := "size", desc := "()I" } : Jvm.MethodName)) ∈ lw_all := lw_g (lw_at lw_m5 175 rfl) rfl
theorem q1217 : (Jvm.Cond.methodLink "BlackoutStart$Parser" (95 : Nat) ({ cls := "BlackoutStart$Parser", name := "name", desc := "()Ljava/lang/String;" } : Jvm.MethodName)) ∈ lw_all := lw_g (lw_at lw_m5 176 rfl) rfl
theorem q1218 : (Jvm.Cond.privateMethod ({ cls := "BlackoutStart$Parser", name := "name", desc := "()Ljava/lang/String;" } : Jvm.MethodName)) ∈ lw_tbl := lw_at lw_m5 177 rfl
theorem q1219 : (Jvm.Cond.instanceMethod ({ cls := "BlackoutStart$Parser", name := "name", desc := "()Ljava/lang/String;" } : Jvm.MethodName)) ∈ lw_all := lw_g (lw_at lw_m5 178 rfl) rfl
theorem q1220 : (Jvm.Cond.code ({ cls := "BlackoutStart$Parser", name := "name", desc := "()Ljava/lang/String;" } : Jvm.MethodName) prog_8_method_9_code (2 : Nat) (Option.some (Jvm.ClassFile.FieldType.object "java/lang/String"))) ∈ lw_all := lw_g (lw_at lw_m5 179 rfl) rfl
theorem q1221 : (Jvm.Cond.constantLong "BlackoutStart$Parser" (93 : Nat) (8 : Int64)) ∈ lw_all := lw_g (lw_at lw_m5 180 rfl) rfl
theorem q1222 : (Jvm.Cond.methodLink "BlackoutStart$Parser" (98 : Nat) ({ cls := "BlackoutStart$Setup", name := "find", desc := "(Ljava/lang/String;)I" } : Jvm.MethodName)) ∈ lw_all := lw_g (lw_at lw_m5 181 rfl) rfl
theorem q1231 : (Jvm.Cond.classLink "BlackoutStart$Parser" (112 : Nat) "BlackoutStart$Outlet") ∈ lw_all := lw_g (lw_at lw_m5 190 rfl) rfl
theorem q1233 : (Jvm.Cond.methodLink "BlackoutStart$Parser" (124 : Nat) ({ cls := "BlackoutStart$Outlet", name := "<init>", desc := "(Ljava/lang/String;IIIII)V" } : Jvm.MethodName)) ∈ lw_all := lw_g (lw_at lw_m5 192 rfl) rfl
theorem q1239 : (Jvm.Cond.fieldLinkNest "BlackoutStart$Parser" (114 : Nat) "BlackoutStart$Outlet" "name" "Ljava/lang/String;" "BlackoutStart") ∈ lw_tbl := lw_at lw_m5 198 rfl
theorem q1267 : (Jvm.Cond.interfaceEntry "BlackoutStart$Parser" (127 : Nat)) ∈ lw_tbl := lw_at lw_m5 226 rfl
theorem q1268 : (Jvm.Cond.methodLink "BlackoutStart$Parser" (127 : Nat) ({ cls := "java/util/List", name := "add", desc := "(Ljava/lang/Object;)Z" } : Jvm.MethodName)) ∈ lw_all := lw_g (lw_at lw_m5 227 rfl) rfl
theorem q1293 : (Jvm.Cond.stringRef "BlackoutStart$Parser" (214 : Nat) "need") ∈ lw_tbl := lw_at lw_m6 12 rfl
theorem q1294 : (Jvm.Cond.methodLink "BlackoutStart$Parser" (216 : Nat) ({ cls := "BlackoutStart$Parser", name := "need", desc := "(Ljava/lang/String;)V" } : Jvm.MethodName)) ∈ lw_all := lw_g (lw_at lw_m6 13 rfl) rfl
theorem q1295 : (Jvm.Cond.privateMethod ({ cls := "BlackoutStart$Parser", name := "need", desc := "(Ljava/lang/String;)V" } : Jvm.MethodName)) ∈ lw_tbl := lw_at lw_m6 14 rfl
theorem q1296 : (Jvm.Cond.instanceMethod ({ cls := "BlackoutStart$Parser", name := "need", desc := "(Ljava/lang/String;)V" } : Jvm.MethodName)) ∈ lw_all := lw_g (lw_at lw_m6 15 rfl) rfl
theorem q1297 : (Jvm.Cond.code ({ cls := "BlackoutStart$Parser", name := "need", desc := "(Ljava/lang/String;)V" } : Jvm.MethodName) prog_8_method_13_code (4 : Nat) (Option.none : Option Jvm.ClassFile.FieldType)) ∈ lw_all := lw_g (lw_at lw_m6 16 rfl) rfl
theorem q1298 : (Jvm.Cond.methodLink "BlackoutStart$Parser" (133 : Nat) ({ cls := "BlackoutStart$Parser", name := "known", desc := "()I" } : Jvm.MethodName)) ∈ lw_all := lw_g (lw_at lw_m6 17 rfl) rfl
theorem q1299 : (Jvm.Cond.privateMethod ({ cls := "BlackoutStart$Parser", name := "known", desc := "()I" } : Jvm.MethodName)) ∈ lw_tbl := lw_at lw_m6 18 rfl
theorem q1300 : (Jvm.Cond.instanceMethod ({ cls := "BlackoutStart$Parser", name := "known", desc := "()I" } : Jvm.MethodName)) ∈ lw_all := lw_g (lw_at lw_m6 19 rfl) rfl
theorem q1301 : (Jvm.Cond.code ({ cls := "BlackoutStart$Parser", name := "known", desc := "()I" } : Jvm.MethodName) prog_8_method_10_code (3 : Nat) (Option.some Jvm.ClassFile.FieldType.int)) ∈ lw_all := lw_g (lw_at lw_m6 20 rfl) rfl
theorem q1302 : (Jvm.Cond.methodLink "BlackoutStart$Parser" (136 : Nat) ({ cls := "BlackoutStart$Parser", name := "passed", desc := "(I)I" } : Jvm.MethodName)) ∈ lw_all := lw_g (lw_at lw_m6 21 rfl) rfl
theorem q1303 : (Jvm.Cond.privateMethod ({ cls := "BlackoutStart$Parser", name := "passed", desc := "(I)I" } : Jvm.MethodName)) ∈ lw_tbl := lw_at lw_m6 22 rfl
theorem q1304 : (Jvm.Cond.instanceMethod ({ cls := "BlackoutStart$Parser", name := "passed", desc := "(I)I" } : Jvm.MethodName)) ∈ lw_all := lw_g (lw_at lw_m6 23 rfl) rfl
theorem q1305 : (Jvm.Cond.code ({ cls := "BlackoutStart$Parser", name := "passed", desc := "(I)I" } : Jvm.MethodName) prog_8_method_11_code (2 : Nat) (Option.some Jvm.ClassFile.FieldType.int)) ∈ lw_all := lw_g (lw_at lw_m6 24 rfl) rfl
theorem q1306 : (Jvm.Cond.interfaceEntry "BlackoutStart$Parser" (106 : Nat)) ∈ lw_tbl := lw_at lw_m6 25 rfl
theorem q1307 : (Jvm.Cond.methodLink "BlackoutStart$Parser" (106 : Nat) ({ cls := "java/util/List", name := "get", desc := "(I)Ljava/lang/Object;" } : Jvm.MethodName)) ∈ lw_all := lw_g (lw_at lw_m6 26 rfl) rfl
theorem q1308 : (Jvm.Cond.methodLinkNest "BlackoutStart$Parser" (144 : Nat) ({ cls := "BlackoutStart", name := "has", desc := "(II)Z" } : Jvm.MethodName) "BlackoutStart") ∈ lw_tbl := lw_at lw_m6 27 rfl
theorem q1309 : (Jvm.Cond.methodLink "BlackoutStart$Parser" (218 : Nat) ({ cls := "BlackoutStart$Parser", name := "rule", desc := "(Ljava/lang/String;)Z" } : Jvm.MethodName)) ∈ lw_all := lw_g (lw_at lw_m6 28 rfl) rfl
theorem q1310 : (Jvm.Cond.privateMethod ({ cls := "BlackoutStart$Parser", name := "rule", desc := "(Ljava/lang/String;)Z" } : Jvm.MethodName)) ∈ lw_tbl := lw_at lw_m6 29 rfl
theorem q1311 : (Jvm.Cond.instanceMethod ({ cls := "BlackoutStart$Parser", name := "rule", desc := "(Ljava/lang/String;)Z" } : Jvm.MethodName)) ∈ lw_all := lw_g (lw_at lw_m6 30 rfl) rfl
theorem q1312 : (Jvm.Cond.code ({ cls := "BlackoutStart$Parser", name := "rule", desc := "(Ljava/lang/String;)Z" } : Jvm.MethodName) prog_8_method_16_code (5 : Nat) (Option.some Jvm.ClassFile.FieldType.boolean)) ∈ lw_all := lw_g (lw_at lw_m6 31 rfl) rfl
theorem q1313 : (Jvm.Cond.methodLink "BlackoutStart$Parser" (148 : Nat) ({ cls := "java/lang/String", name := "hashCode", desc := "()I" } : Jvm.MethodName)) ∈ lw_all := lw_g (lw_at lw_m6 32 rfl) rfl
theorem q1374 : (Jvm.Cond.stringRef "BlackoutStart$Parser" (151 : Nat) "loss") ∈ lw_tbl := lw_at lw_m6 93 rfl
theorem q1375 : (Jvm.Cond.stringRef "BlackoutStart$Parser" (153 : Nat) "retry") ∈ lw_tbl := lw_at lw_m6 94 rfl
theorem q1376 : (Jvm.Cond.stringRef "BlackoutStart$Parser" (155 : Nat) "patience") ∈ lw_tbl := lw_at lw_m6 95 rfl
theorem q1377 : (Jvm.Cond.stringRef "BlackoutStart$Parser" (157 : Nat) "strict") ∈ lw_tbl := lw_at lw_m6 96 rfl
theorem q1378 : (Jvm.Cond.stringRef "BlackoutStart$Parser" (159 : Nat) "off") ∈ lw_tbl := lw_at lw_m6 97 rfl
theorem q1379 : (Jvm.Cond.stringRef "BlackoutStart$Parser" (161 : Nat) "dark") ∈ lw_tbl := lw_at lw_m6 98 rfl
theorem q1380 : (Jvm.Cond.methodLink "BlackoutStart$Parser" (167 : Nat) ({ cls := "BlackoutStart$Parser", name := "once", desc := "(Z)V" } : Jvm.MethodName)) ∈ lw_all := lw_g (lw_at lw_m6 99 rfl) rfl
theorem q1381 : (Jvm.Cond.privateMethod ({ cls := "BlackoutStart$Parser", name := "once", desc := "(Z)V" } : Jvm.MethodName)) ∈ lw_tbl := lw_at lw_m6 100 rfl
theorem q1382 : (Jvm.Cond.instanceMethod ({ cls := "BlackoutStart$Parser", name := "once", desc := "(Z)V" } : Jvm.MethodName)) ∈ lw_all := lw_g (lw_at lw_m6 101 rfl) rfl
theorem q1383 : (Jvm.Cond.code ({ cls := "BlackoutStart$Parser", name := "once", desc := "(Z)V" } : Jvm.MethodName) prog_8_method_15_code (2 : Nat) (Option.none : Option Jvm.ClassFile.FieldType)) ∈ lw_all := lw_g (lw_at lw_m6 102 rfl) rfl
theorem q1384 : (Jvm.Cond.methodLink "BlackoutStart$Parser" (170 : Nat) ({ cls := "BlackoutStart$Parser", name := "script", desc := "()[I" } : Jvm.MethodName)) ∈ lw_all := lw_g (lw_at lw_m6 103 rfl) rfl
theorem q1385 : (Jvm.Cond.privateMethod ({ cls := "BlackoutStart$Parser", name := "script", desc := "()[I" } : Jvm.MethodName)) ∈ lw_tbl := lw_at lw_m6 104 rfl
theorem q1386 : (Jvm.Cond.instanceMethod ({ cls := "BlackoutStart$Parser", name := "script", desc := "()[I" } : Jvm.MethodName)) ∈ lw_all := lw_g (lw_at lw_m6 105 rfl) rfl
theorem q1387 : (Jvm.Cond.code ({ cls := "BlackoutStart$Parser", name := "script", desc := "()[I" } : Jvm.MethodName) prog_8_method_14_code (4 : Nat) (Option.some (Jvm.ClassFile.FieldType.array Jvm.ClassFile.FieldType.int))) ∈ lw_all := lw_g (lw_at lw_m6 106 rfl) rfl
theorem q1388 : (Jvm.Cond.interfaceEntry "BlackoutStart$Parser" (194 : Nat)) ∈ lw_tbl := lw_at lw_m6 107 rfl
theorem q1389 : (Jvm.Cond.methodLink "BlackoutStart$Parser" (194 : Nat) ({ cls := "java/util/List", name := "size", desc := "()I" } : Jvm.MethodName)) ∈ lw_all := lw_g (lw_at lw_m6 108 rfl) rfl
theorem q1390 : (Jvm.Cond.classLink "BlackoutStart$Parser" (195 : Nat) "BlackoutStart$Dark") ∈ lw_all := lw_g (lw_at lw_m6 109 rfl) rfl
theorem q1392 : (Jvm.Cond.methodLinkNest "BlackoutStart$Parser" (197 : Nat) ({ cls := "BlackoutStart$Dark", name := "<init>", desc := "(II)V" } : Jvm.MethodName) "BlackoutStart") ∈ lw_tbl := lw_at lw_m6 111 rfl
theorem q1406 : (Jvm.Cond.classLink "BlackoutStart$Parser" (224 : Nat) "BlackoutStart$Unreadable") ∈ lw_all := lw_g (lw_at lw_m6 125 rfl) rfl
theorem q1415 : (Jvm.Cond.methodLink "BlackoutStart$Parser" (226 : Nat) ({ cls := "BlackoutStart$Unreadable", name := "<init>", desc := "(LBlackoutStart$Flaw;)V" } : Jvm.MethodName)) ∈ lw_all := lw_g (lw_at lw_m6 134 rfl) rfl
theorem q2325 : (Jvm.Cond.castable "BlackoutStart$Parser" "java/lang/Object") ∈ lw_tbl := lw_at lw_m10 84 rfl
theorem in_X7 : ∀ w ∈ wsX70, w ∈ lw_all := lw_in wsX70 [1074, 1076, 1078, 1080, 1082, 1084, 1086] (by decide +kernel) (by decide +kernel)
/-! BlackoutStart$Flaw -/
set_option maxRecDepth 100000
def RX8 : String := "BlackoutStart$Flaw"
abbrev cX8_init : ByteArray := prog_5_method_1_code
def yX8_init : MethodName := ⟨RX8, "<init>", "(II)V"⟩
abbrev cX8_code : ByteArray := prog_5_method_2_code
def yX8_code : MethodName := ⟨RX8, "code", "()I"⟩
abbrev cX8_position : ByteArray := prog_5_method_3_code
def yX8_position : MethodName := ⟨RX8, "position", "()I"⟩
theorem q113 : (Jvm.Cond.initialized "BlackoutStart$Flaw") ∈ lw_all := lw_g (lw_at lw_m1 32 rfl) rfl
theorem q1165 : (Jvm.Cond.instanceMethod ({ cls := "BlackoutStart$Flaw", name := "<init>", desc := "(II)V" } : Jvm.MethodName)) ∈ lw_all := lw_g (lw_at lw_m5 124 rfl) rfl
theorem q1166 : (Jvm.Cond.code ({ cls := "BlackoutStart$Flaw", name := "<init>", desc := "(II)V" } : Jvm.MethodName) prog_5_method_1_code (3 : Nat) (Option.none : Option Jvm.ClassFile.FieldType)) ∈ lw_all := lw_g (lw_at lw_m5 125 rfl) rfl
theorem q1167 : (Jvm.Cond.methodLink "BlackoutStart$Flaw" (1 : Nat) ({ cls := "java/lang/Exception", name := "<init>", desc := "(Ljava/lang/String;Ljava/lang/Throwable;ZZ)V" } : Jvm.MethodName)) ∈ lw_all := lw_g (lw_at lw_m5 126 rfl) rfl
theorem q1173 : (Jvm.Cond.fieldLink "BlackoutStart$Flaw" (7 : Nat) "BlackoutStart$Flaw" "code" "I") ∈ lw_all := lw_g (lw_at lw_m5 132 rfl) rfl
theorem q1174 : (Jvm.Cond.fieldLink "BlackoutStart$Flaw" (13 : Nat) "BlackoutStart$Flaw" "position" "I") ∈ lw_all := lw_g (lw_at lw_m5 133 rfl) rfl
theorem q1176 : (Jvm.Cond.soleField "BlackoutStart$Flaw" "code") ∈ lw_all := lw_g (lw_at lw_m5 135 rfl) rfl
theorem q1178 : (Jvm.Cond.soleField "BlackoutStart$Flaw" "position") ∈ lw_all := lw_g (lw_at lw_m5 137 rfl) rfl
theorem q1441 : (Jvm.Cond.instanceMethod ({ cls := "BlackoutStart$Flaw", name := "code", desc := "()I" } : Jvm.MethodName)) ∈ lw_all := lw_g (lw_at lw_m6 160 rfl) rfl
theorem q1442 : (Jvm.Cond.sameMethod "BlackoutStart$Flaw" "BlackoutStart$Flaw" "code" "()I") ∈ lw_all := lw_g (lw_at lw_m6 161 rfl) rfl
theorem q1445 : (Jvm.Cond.code ({ cls := "BlackoutStart$Flaw", name := "code", desc := "()I" } : Jvm.MethodName) prog_5_method_2_code (1 : Nat) (Option.some Jvm.ClassFile.FieldType.int)) ∈ lw_all := lw_g (lw_at lw_m6 164 rfl) rfl
theorem q1447 : (Jvm.Cond.instanceMethod ({ cls := "BlackoutStart$Flaw", name := "position", desc := "()I" } : Jvm.MethodName)) ∈ lw_all := lw_g (lw_at lw_m6 166 rfl) rfl
theorem q1448 : (Jvm.Cond.sameMethod "BlackoutStart$Flaw" "BlackoutStart$Flaw" "position" "()I") ∈ lw_all := lw_g (lw_at lw_m6 167 rfl) rfl
theorem q1451 : (Jvm.Cond.code ({ cls := "BlackoutStart$Flaw", name := "position", desc := "()I" } : Jvm.MethodName) prog_5_method_3_code (1 : Nat) (Option.some Jvm.ClassFile.FieldType.int)) ∈ lw_all := lw_g (lw_at lw_m6 170 rfl) rfl
/-! BlackoutStart$BadToken -/
set_option maxRecDepth 100000
def RX9 : String := "BlackoutStart$BadToken"
def TX9 : u_T := fun k => match k with
  | 0 => ("BlackoutStart$Flaw", "code", "I", true)
  | 1 => ("BlackoutStart$Flaw", "position", "I", true)
  | 2 => ("java/lang/Throwable", "cause", "Ljava/lang/Throwable;", false)
  | 3 => ("java/lang/Throwable", "stackTrace", "[Ljava/lang/StackTraceElement;", false)
  | 4 => ("java/lang/Throwable", "suppressedExceptions", "Ljava/util/List;", false)
  | 5 => ("java/lang/Throwable", "detailMessage", "Ljava/lang/String;", false)
  | 6 => ("java/lang/Throwable", "backtrace", "Ljava/lang/Object;", false)
  | _ => ("java/lang/Throwable", "depth", "I", false)
def tyX9 : Nat → FieldType := fun k => match k with
  | 0 => .int
  | 1 => .int
  | 2 => .object "java/lang/Throwable"
  | 3 => .array (.object "java/lang/StackTraceElement")
  | 4 => .object "java/util/List"
  | 5 => .object "java/lang/String"
  | 6 => .object "java/lang/Object"
  | _ => .int
abbrev wsX90 : List Cond := u_ws RX9 TX9 8
theorem nmX9 : ∀ a, a < 8 → ∀ b, b < 8 → a ≠ b → (TX9 a).2.1 ≠ (TX9 b).2.1 := by decide +kernel
theorem tyX9_ok : ∀ k, k < 8 → parseFieldDescriptor (TX9 k).2.2.1 = some (tyX9 k) := by decide +kernel
abbrev cX9_init : ByteArray := prog_3_method_1_code
def yX9_init : MethodName := ⟨RX9, "<init>", "(I)V"⟩
theorem q114 : (Jvm.Cond.initialized "BlackoutStart$BadToken") ∈ lw_all := lw_g (lw_at lw_m1 33 rfl) rfl
theorem q188 : (Jvm.Cond.selects "BlackoutStart$BadToken" ({ cls := "java/lang/Throwable", name := "fillInStackTrace", desc := "()Ljava/lang/Throwable;" } : Jvm.MethodName) ({ cls := "java/lang/Throwable", name := "fillInStackTrace", desc := "()Ljava/lang/Throwable;" } : Jvm.MethodName)) ∈ lw_all := lw_g (lw_at lw_m1 107 rfl) rfl
theorem q925 : (Jvm.Cond.selects "BlackoutStart$BadToken" ({ cls := "java/lang/Object", name := "getClass", desc := "()Ljava/lang/Class;" } : Jvm.MethodName) ({ cls := "java/lang/Object", name := "getClass", desc := "()Ljava/lang/Class;" } : Jvm.MethodName)) ∈ lw_all := lw_g (lw_at lw_m4 124 rfl) rfl
theorem q1153 : (Jvm.Cond.instantiable "BlackoutStart$BadToken" (8 : Nat)) ∈ lw_all := lw_g (lw_at lw_m5 112 rfl) rfl
theorem q1154 : (Jvm.Cond.castable "BlackoutStart$BadToken" "BlackoutStart$BadToken") ∈ lw_tbl := lw_at lw_m5 113 rfl
theorem q1155 : (Jvm.Cond.selects "BlackoutStart$BadToken" ({ cls := "java/lang/Throwable", name := "fillInStackTrace", desc := "(I)Ljava/lang/Throwable;" } : Jvm.MethodName) ({ cls := "java/lang/Throwable", name := "fillInStackTrace", desc := "(I)Ljava/lang/Throwable;" } : Jvm.MethodName)) ∈ lw_all := lw_g (lw_at lw_m5 114 rfl) rfl
theorem q1156 : (Jvm.Cond.lays "BlackoutStart$BadToken" "java/lang/Throwable" "cause" "Ljava/lang/Throwable;") ∈ lw_all := lw_g (lw_at lw_m5 115 rfl) rfl
theorem q1157 : (Jvm.Cond.lays "BlackoutStart$BadToken" "java/lang/Throwable" "stackTrace" "[Ljava/lang/StackTraceElement;") ∈ lw_all := lw_g (lw_at lw_m5 116 rfl) rfl
theorem q1158 : (Jvm.Cond.lays "BlackoutStart$BadToken" "java/lang/Throwable" "suppressedExceptions" "Ljava/util/List;") ∈ lw_all := lw_g (lw_at lw_m5 117 rfl) rfl
theorem q1159 : (Jvm.Cond.lays "BlackoutStart$BadToken" "java/lang/Throwable" "detailMessage" "Ljava/lang/String;") ∈ lw_all := lw_g (lw_at lw_m5 118 rfl) rfl
theorem q1160 : (Jvm.Cond.lays "BlackoutStart$BadToken" "java/lang/Throwable" "backtrace" "Ljava/lang/Object;") ∈ lw_all := lw_g (lw_at lw_m5 119 rfl) rfl
theorem q1162 : (Jvm.Cond.instanceMethod ({ cls := "BlackoutStart$BadToken", name := "<init>", desc := "(I)V" } : Jvm.MethodName)) ∈ lw_all := lw_g (lw_at lw_m5 121 rfl) rfl
theorem q1163 : (Jvm.Cond.code ({ cls := "BlackoutStart$BadToken", name := "<init>", desc := "(I)V" } : Jvm.MethodName) prog_3_method_1_code (2 : Nat) (Option.none : Option Jvm.ClassFile.FieldType)) ∈ lw_all := lw_g (lw_at lw_m5 122 rfl) rfl
theorem q1164 : (Jvm.Cond.methodLink "BlackoutStart$BadToken" (1 : Nat) ({ cls := "BlackoutStart$Flaw", name := "<init>", desc := "(II)V" } : Jvm.MethodName)) ∈ lw_all := lw_g (lw_at lw_m5 123 rfl) rfl
theorem q1175 : (Jvm.Cond.laysFinal "BlackoutStart$BadToken" "BlackoutStart$Flaw" "code" "I") ∈ lw_all := lw_g (lw_at lw_m5 134 rfl) rfl
theorem q1177 : (Jvm.Cond.laysFinal "BlackoutStart$BadToken" "BlackoutStart$Flaw" "position" "I") ∈ lw_all := lw_g (lw_at lw_m5 136 rfl) rfl
theorem q1179 : (Jvm.Cond.lays "BlackoutStart$BadToken" "java/lang/Throwable" "depth" "I") ∈ lw_all := lw_g (lw_at lw_m5 138 rfl) rfl
theorem q1180 : (Jvm.Cond.superclass "BlackoutStart$BadToken" "BlackoutStart$Flaw") ∈ lw_all := lw_g (lw_at lw_m5 139 rfl) rfl
theorem q1444 : (Jvm.Cond.selects "BlackoutStart$BadToken" ({ cls := "BlackoutStart$Flaw", name := "code", desc := "()I" } : Jvm.MethodName) ({ cls := "BlackoutStart$Flaw", name := "code", desc := "()I" } : Jvm.MethodName)) ∈ lw_all := lw_g (lw_at lw_m6 163 rfl) rfl
theorem q1450 : (Jvm.Cond.selects "BlackoutStart$BadToken" ({ cls := "BlackoutStart$Flaw", name := "position", desc := "()I" } : Jvm.MethodName) ({ cls := "BlackoutStart$Flaw", name := "position", desc := "()I" } : Jvm.MethodName)) ∈ lw_all := lw_g (lw_at lw_m6 169 rfl) rfl
theorem q2310 : (Jvm.Cond.castable "BlackoutStart$BadToken" "BlackoutStart$Flaw") ∈ lw_tbl := lw_at lw_m10 69 rfl
theorem q2326 : (Jvm.Cond.castable "BlackoutStart$BadToken" "java/lang/Object") ∈ lw_tbl := lw_at lw_m10 85 rfl
theorem in_X9 : ∀ w ∈ wsX90, w ∈ lw_all := lw_in wsX90 [1175, 1177, 1156, 1157, 1158, 1159, 1160, 1179] (by decide +kernel) (by decide +kernel)
theorem q267 : (Jvm.Cond.sameMethod "[B" "java/lang/Object" "clone" "()Ljava/lang/Object;") ∈ lw_all := lw_g (lw_at lw_m1 186 rfl) rfl
set_option maxRecDepth 100000
theorem q270 : (Jvm.Cond.selects "[B" ({ cls := "[B", name := "clone", desc := "()Ljava/lang/Object;" } : Jvm.MethodName) ({ cls := "java/lang/Object", name := "clone", desc := "()Ljava/lang/Object;" } : Jvm.MethodName)) ∈ lw_all := lw_g (lw_at lw_m1 189 rfl) rfl
theorem q271 : (Jvm.Cond.castable "[B" "java/lang/Cloneable") ∈ lw_tbl := lw_at lw_m1 190 rfl
theorem q2339 : (Jvm.Cond.castable "[B" "java/lang/Object") ∈ lw_tbl := lw_at lw_m10 98 rfl
theorem q2340 : (Jvm.Cond.castable "[I" "java/lang/Object") ∈ lw_tbl := lw_at lw_m10 99 rfl
set_option maxRecDepth 100000
theorem q2343 : (Jvm.Cond.castable "[J" "java/lang/Object") ∈ lw_tbl := lw_at lw_m10 102 rfl
set_option maxRecDepth 100000
theorem q2341 : (Jvm.Cond.castable "[LBlackoutStart$State;" "java/lang/Object") ∈ lw_tbl := lw_at lw_m10 100 rfl
set_option maxRecDepth 100000
theorem q2335 : (Jvm.Cond.sameMethod "[Ljava/lang/Object;" "java/lang/Object" "getClass" "()Ljava/lang/Class;") ∈ lw_all := lw_g (lw_at lw_m10 94 rfl) rfl
set_option maxRecDepth 100000
theorem q2336 : (Jvm.Cond.selects "[Ljava/lang/Object;" ({ cls := "java/lang/Object", name := "getClass", desc := "()Ljava/lang/Class;" } : Jvm.MethodName) ({ cls := "java/lang/Object", name := "getClass", desc := "()Ljava/lang/Class;" } : Jvm.MethodName)) ∈ lw_all := lw_g (lw_at lw_m10 95 rfl) rfl
theorem q2338 : (Jvm.Cond.castable "[Ljava/lang/Object;" "java/lang/Object") ∈ lw_tbl := lw_at lw_m10 97 rfl
theorem q2342 : (Jvm.Cond.castable "[Z" "java/lang/Object") ∈ lw_tbl := lw_at lw_m10 101 rfl
set_option maxRecDepth 100000
theorem q102 : (Jvm.Cond.initialized "java/lang/Number") ∈ lw_all := lw_g (lw_at lw_m1 21 rfl) rfl
set_option maxRecDepth 100000
theorem q99 : (Jvm.Cond.initialized "java/lang/System") ∈ lw_all := lw_g (lw_at lw_m1 18 rfl) rfl
set_option maxRecDepth 100000
theorem q277 : (Jvm.Cond.static ({ cls := "java/lang/System", name := "arraycopy", desc := "(Ljava/lang/Object;ILjava/lang/Object;II)V" } : Jvm.MethodName)) ∈ lw_all := lw_g (lw_at lw_m1 196 rfl) rfl
theorem q278 : (Jvm.Cond.native ({ cls := "java/lang/System", name := "arraycopy", desc := "(Ljava/lang/Object;ILjava/lang/Object;II)V" } : Jvm.MethodName)) ∈ lw_all := lw_g (lw_at lw_m1 197 rfl) rfl
theorem q1626 : (Jvm.Cond.interfaceMethod "java/util/Iterator" "java/util/Iterator" "hasNext" "()Z") ∈ lw_tbl := lw_at lw_m7 105 rfl
set_option maxRecDepth 100000
theorem q1627 : (Jvm.Cond.declares ({ cls := "java/util/Iterator", name := "hasNext", desc := "()Z" } : Jvm.MethodName)) ∈ lw_tbl := lw_at lw_m7 106 rfl
theorem q1636 : (Jvm.Cond.interfaceMethod "java/util/Iterator" "java/util/Iterator" "next" "()Ljava/lang/Object;") ∈ lw_tbl := lw_at lw_m7 115 rfl
theorem q1637 : (Jvm.Cond.declares ({ cls := "java/util/Iterator", name := "next", desc := "()Ljava/lang/Object;" } : Jvm.MethodName)) ∈ lw_tbl := lw_at lw_m7 116 rfl
theorem q699 : (Jvm.Cond.interfaceMethod "java/util/List" "java/util/List" "size" "()I") ∈ lw_tbl := lw_at lw_m3 138 rfl
set_option maxRecDepth 100000
theorem q700 : (Jvm.Cond.declares ({ cls := "java/util/List", name := "size", desc := "()I" } : Jvm.MethodName)) ∈ lw_tbl := lw_at lw_m3 139 rfl
theorem q712 : (Jvm.Cond.interfaceMethod "java/util/List" "java/util/List" "get" "(I)Ljava/lang/Object;") ∈ lw_tbl := lw_at lw_m3 151 rfl
theorem q713 : (Jvm.Cond.declares ({ cls := "java/util/List", name := "get", desc := "(I)Ljava/lang/Object;" } : Jvm.MethodName)) ∈ lw_tbl := lw_at lw_m3 152 rfl
theorem q1269 : (Jvm.Cond.interfaceMethod "java/util/List" "java/util/List" "add" "(Ljava/lang/Object;)Z") ∈ lw_tbl := lw_at lw_m5 228 rfl
theorem q1270 : (Jvm.Cond.declares ({ cls := "java/util/List", name := "add", desc := "(Ljava/lang/Object;)Z" } : Jvm.MethodName)) ∈ lw_tbl := lw_at lw_m5 229 rfl
theorem q1598 : (Jvm.Cond.interfaceMethod "java/util/List" "java/util/List" "iterator" "()Ljava/util/Iterator;") ∈ lw_tbl := lw_at lw_m7 77 rfl
theorem q1599 : (Jvm.Cond.declares ({ cls := "java/util/List", name := "iterator", desc := "()Ljava/util/Iterator;" } : Jvm.MethodName)) ∈ lw_tbl := lw_at lw_m7 78 rfl
theorem q1338 : (Jvm.Cond.interfaceMethod "jdk/internal/access/JavaLangAccess" "jdk/internal/access/JavaLangAccess" "getUTF16Char" "([BI)C") ∈ lw_tbl := lw_at lw_m6 57 rfl
set_option maxRecDepth 100000
theorem q1339 : (Jvm.Cond.declares ({ cls := "jdk/internal/access/JavaLangAccess", name := "getUTF16Char", desc := "([BI)C" } : Jvm.MethodName)) ∈ lw_tbl := lw_at lw_m6 58 rfl
theorem q151 : (Jvm.Cond.arrayOver (Jvm.ClassFile.FieldType.object "java/lang/Object")) ∈ lw_tbl := lw_at lw_m1 70 rfl
set_option maxRecDepth 100000
theorem q231 : (Jvm.Cond.arrayClass Jvm.ClassFile.FieldType.byte) ∈ lw_all := lw_g (lw_at lw_m1 150 rfl) rfl
theorem q538 : (Jvm.Cond.arrayClass Jvm.ClassFile.FieldType.int) ∈ lw_all := lw_g (lw_at lw_m2 217 rfl) rfl
theorem q747 : (Jvm.Cond.arrayOver (Jvm.ClassFile.FieldType.object "BlackoutStart$State")) ∈ lw_tbl := lw_at lw_m3 186 rfl
theorem q1939 : (Jvm.Cond.arrayClass Jvm.ClassFile.FieldType.boolean) ∈ lw_all := lw_g (lw_at lw_m8 178 rfl) rfl
theorem q2296 : (Jvm.Cond.arrayClass Jvm.ClassFile.FieldType.long) ∈ lw_all := lw_g (lw_at lw_m10 55 rfl) rfl
theorem q2344 : (Jvm.Cond.arrayClass Jvm.ClassFile.FieldType.char) ∈ lw_all := lw_g (lw_at lw_m10 103 rfl) rfl
theorem q2345 : (Jvm.Cond.arrayClass Jvm.ClassFile.FieldType.short) ∈ lw_all := lw_g (lw_at lw_m10 104 rfl) rfl
