set_option maxRecDepth 100000
theorem q100 : (Jvm.Cond.initialized "java/util/AbstractCollection") ∈ lw_all := lw_g (lw_at lw_m1 3 rfl) rfl
theorem q163 : (Jvm.Cond.instanceMethod ({ cls := "java/util/AbstractCollection", name := "<init>", desc := "()V" } : Jvm.MethodName)) ∈ lw_all := lw_g (lw_at lw_m1 66 rfl) rfl
theorem q164 : (Jvm.Cond.code ({ cls := "java/util/AbstractCollection", name := "<init>", desc := "()V" } : Jvm.MethodName) prog_44_method_1_code (1 : Nat) (Option.none : Option Jvm.ClassFile.FieldType)) ∈ lw_all := lw_g (lw_at lw_m1 67 rfl) rfl
theorem q165 : (Jvm.Cond.methodLink "java/util/AbstractCollection" (1 : Nat) ({ cls := "java/lang/Object", name := "<init>", desc := "()V" } : Jvm.MethodName)) ∈ lw_all := lw_g (lw_at lw_m1 68 rfl) rfl
theorem q101 : (Jvm.Cond.initialized "java/util/AbstractList") ∈ lw_all := lw_g (lw_at lw_m1 4 rfl) rfl
theorem q160 : (Jvm.Cond.instanceMethod ({ cls := "java/util/AbstractList", name := "<init>", desc := "()V" } : Jvm.MethodName)) ∈ lw_all := lw_g (lw_at lw_m1 63 rfl) rfl
theorem q161 : (Jvm.Cond.code ({ cls := "java/util/AbstractList", name := "<init>", desc := "()V" } : Jvm.MethodName) prog_45_method_1_code (1 : Nat) (Option.none : Option Jvm.ClassFile.FieldType)) ∈ lw_all := lw_g (lw_at lw_m1 64 rfl) rfl
theorem q162 : (Jvm.Cond.methodLink "java/util/AbstractList" (1 : Nat) ({ cls := "java/util/AbstractCollection", name := "<init>", desc := "()V" } : Jvm.MethodName)) ∈ lw_all := lw_g (lw_at lw_m1 65 rfl) rfl
theorem q484 : (Jvm.Cond.fieldLink "java/util/AbstractList" (7 : Nat) "java/util/AbstractList" "modCount" "I") ∈ lw_all := lw_g (lw_at lw_m2 147 rfl) rfl
theorem q492 : (Jvm.Cond.soleField "java/util/AbstractList" "modCount") ∈ lw_all := lw_g (lw_at lw_m2 155 rfl) rfl
theorem q110 : (Jvm.Cond.initialized "java/lang/StringUTF16") ∈ lw_all := lw_g (lw_at lw_m1 13 rfl) rfl
theorem q223 : (Jvm.Cond.static ({ cls := "java/lang/StringUTF16", name := "newBytesFor", desc := "(I)[B" } : Jvm.MethodName)) ∈ lw_all := lw_g (lw_at lw_m1 126 rfl) rfl
theorem q224 : (Jvm.Cond.code ({ cls := "java/lang/StringUTF16", name := "newBytesFor", desc := "(I)[B" } : Jvm.MethodName) prog_39_method_2_code (1 : Nat) (Option.some (Jvm.ClassFile.FieldType.array Jvm.ClassFile.FieldType.byte))) ∈ lw_all := lw_g (lw_at lw_m1 127 rfl) rfl
theorem q225 : (Jvm.Cond.methodLink "java/lang/StringUTF16" (11 : Nat) ({ cls := "java/lang/StringUTF16", name := "newBytesLength", desc := "(I)I" } : Jvm.MethodName)) ∈ lw_all := lw_g (lw_at lw_m1 128 rfl) rfl
theorem q226 : (Jvm.Cond.static ({ cls := "java/lang/StringUTF16", name := "newBytesLength", desc := "(I)I" } : Jvm.MethodName)) ∈ lw_all := lw_g (lw_at lw_m1 129 rfl) rfl
theorem q227 : (Jvm.Cond.code ({ cls := "java/lang/StringUTF16", name := "newBytesLength", desc := "(I)I" } : Jvm.MethodName) prog_39_method_3_code (1 : Nat) (Option.some Jvm.ClassFile.FieldType.int)) ∈ lw_all := lw_g (lw_at lw_m1 130 rfl) rfl
theorem q228 : (Jvm.Cond.constant "java/lang/StringUTF16" (20 : Nat) (1073741823 : Int32)) ∈ lw_all := lw_g (lw_at lw_m1 131 rfl) rfl
theorem q296 : (Jvm.Cond.static ({ cls := "java/lang/StringUTF16", name := "putCharsAt", desc := "([BICCCC)I" } : Jvm.MethodName)) ∈ lw_all := lw_g (lw_at lw_m1 199 rfl) rfl
theorem q297 : (Jvm.Cond.code ({ cls := "java/lang/StringUTF16", name := "putCharsAt", desc := "([BICCCC)I" } : Jvm.MethodName) prog_39_method_81_code (7 : Nat) (Option.some Jvm.ClassFile.FieldType.int)) ∈ lw_all := lw_g (lw_at lw_m1 200 rfl) rfl
theorem q298 : (Jvm.Cond.methodLink "java/lang/StringUTF16" (96 : Nat) ({ cls := "java/lang/StringUTF16", name := "checkBoundsBeginEnd", desc := "(II[B)V" } : Jvm.MethodName)) ∈ lw_all := lw_g (lw_at lw_m1 201 rfl) rfl
theorem q299 : (Jvm.Cond.static ({ cls := "java/lang/StringUTF16", name := "checkBoundsBeginEnd", desc := "(II[B)V" } : Jvm.MethodName)) ∈ lw_all := lw_g (lw_at lw_m1 202 rfl) rfl
theorem q300 : (Jvm.Cond.code ({ cls := "java/lang/StringUTF16", name := "checkBoundsBeginEnd", desc := "(II[B)V" } : Jvm.MethodName) prog_39_method_93_code (3 : Nat) (Option.none : Option Jvm.ClassFile.FieldType)) ∈ lw_all := lw_g (lw_at lw_m1 203 rfl) rfl
theorem q301 : (Jvm.Cond.methodLink "java/lang/StringUTF16" (48 : Nat) ({ cls := "java/lang/StringUTF16", name := "length", desc := "([B)I" } : Jvm.MethodName)) ∈ lw_all := lw_g (lw_at lw_m1 204 rfl) rfl
theorem q302 : (Jvm.Cond.static ({ cls := "java/lang/StringUTF16", name := "length", desc := "([B)I" } : Jvm.MethodName)) ∈ lw_all := lw_g (lw_at lw_m1 205 rfl) rfl
theorem q303 : (Jvm.Cond.code ({ cls := "java/lang/StringUTF16", name := "length", desc := "([B)I" } : Jvm.MethodName) prog_39_method_6_code (1 : Nat) (Option.some Jvm.ClassFile.FieldType.int)) ∈ lw_all := lw_g (lw_at lw_m1 206 rfl) rfl
theorem q304 : (Jvm.Cond.methodLink "java/lang/StringUTF16" (241 : Nat) ({ cls := "java/lang/String", name := "checkBoundsBeginEnd", desc := "(III)V" } : Jvm.MethodName)) ∈ lw_all := lw_g (lw_at lw_m1 207 rfl) rfl
theorem q312 : (Jvm.Cond.methodLink "java/lang/StringUTF16" (111 : Nat) ({ cls := "java/lang/StringUTF16", name := "putChar", desc := "([BII)V" } : Jvm.MethodName)) ∈ lw_all := lw_g (lw_at lw_m1 215 rfl) rfl
theorem q313 : (Jvm.Cond.static ({ cls := "java/lang/StringUTF16", name := "putChar", desc := "([BII)V" } : Jvm.MethodName)) ∈ lw_all := lw_g (lw_at lw_m1 216 rfl) rfl
theorem q314 : (Jvm.Cond.code ({ cls := "java/lang/StringUTF16", name := "putChar", desc := "([BII)V" } : Jvm.MethodName) prog_39_method_4_code (3 : Nat) (Option.none : Option Jvm.ClassFile.FieldType)) ∈ lw_all := lw_g (lw_at lw_m1 217 rfl) rfl
theorem q315 : (Jvm.Cond.fieldLink "java/lang/StringUTF16" (44 : Nat) "java/lang/StringUTF16" "$assertionsDisabled" "Z") ∈ lw_all := lw_g (lw_at lw_m1 218 rfl) rfl
theorem q316 : (Jvm.Cond.laysStatic "java/lang/StringUTF16" "$assertionsDisabled" "Z") ∈ lw_tbl := lw_at lw_m1 219 rfl
theorem q317 : (Jvm.Cond.fieldLink "java/lang/StringUTF16" (59 : Nat) "java/lang/StringUTF16" "HI_BYTE_SHIFT" "I") ∈ lw_all := lw_g (lw_at lw_m1 220 rfl) rfl
theorem q318 : (Jvm.Cond.laysStatic "java/lang/StringUTF16" "HI_BYTE_SHIFT" "I") ∈ lw_tbl := lw_at lw_m1 221 rfl
theorem q319 : (Jvm.Cond.fieldLink "java/lang/StringUTF16" (63 : Nat) "java/lang/StringUTF16" "LO_BYTE_SHIFT" "I") ∈ lw_all := lw_g (lw_at lw_m1 222 rfl) rfl
theorem q320 : (Jvm.Cond.laysStatic "java/lang/StringUTF16" "LO_BYTE_SHIFT" "I") ∈ lw_tbl := lw_at lw_m1 223 rfl
theorem q347 : (Jvm.Cond.static ({ cls := "java/lang/StringUTF16", name := "inflate", desc := "([BI[BII)V" } : Jvm.MethodName)) ∈ lw_all := lw_g (lw_at lw_m2 10 rfl) rfl
theorem q348 : (Jvm.Cond.code ({ cls := "java/lang/StringUTF16", name := "inflate", desc := "([BI[BII)V" } : Jvm.MethodName) prog_39_method_86_code (6 : Nat) (Option.none : Option Jvm.ClassFile.FieldType)) ∈ lw_all := lw_g (lw_at lw_m2 11 rfl) rfl
theorem q349 : (Jvm.Cond.methodLink "java/lang/StringUTF16" (173 : Nat) ({ cls := "java/lang/StringUTF16", name := "checkBoundsOffCount", desc := "(II[B)V" } : Jvm.MethodName)) ∈ lw_all := lw_g (lw_at lw_m2 12 rfl) rfl
theorem q350 : (Jvm.Cond.static ({ cls := "java/lang/StringUTF16", name := "checkBoundsOffCount", desc := "(II[B)V" } : Jvm.MethodName)) ∈ lw_all := lw_g (lw_at lw_m2 13 rfl) rfl
theorem q351 : (Jvm.Cond.code ({ cls := "java/lang/StringUTF16", name := "checkBoundsOffCount", desc := "(II[B)V" } : Jvm.MethodName) prog_39_method_94_code (3 : Nat) (Option.none : Option Jvm.ClassFile.FieldType)) ∈ lw_all := lw_g (lw_at lw_m2 14 rfl) rfl
theorem q352 : (Jvm.Cond.methodLink "java/lang/StringUTF16" (419 : Nat) ({ cls := "java/lang/String", name := "checkBoundsOffCount", desc := "(III)I" } : Jvm.MethodName)) ∈ lw_all := lw_g (lw_at lw_m2 15 rfl) rfl
theorem q382 : (Jvm.Cond.static ({ cls := "java/lang/StringUTF16", name := "getChars", desc := "(III[B)I" } : Jvm.MethodName)) ∈ lw_all := lw_g (lw_at lw_m2 45 rfl) rfl
theorem q383 : (Jvm.Cond.code ({ cls := "java/lang/StringUTF16", name := "getChars", desc := "(III[B)I" } : Jvm.MethodName) prog_39_method_77_code (5 : Nat) (Option.some Jvm.ClassFile.FieldType.int)) ∈ lw_all := lw_g (lw_at lw_m2 46 rfl) rfl
theorem q384 : (Jvm.Cond.methodLink "java/lang/StringUTF16" (393 : Nat) ({ cls := "java/lang/StringUTF16", name := "getChars", desc := "(II[B)I" } : Jvm.MethodName)) ∈ lw_all := lw_g (lw_at lw_m2 47 rfl) rfl
theorem q385 : (Jvm.Cond.static ({ cls := "java/lang/StringUTF16", name := "getChars", desc := "(II[B)I" } : Jvm.MethodName)) ∈ lw_all := lw_g (lw_at lw_m2 48 rfl) rfl
theorem q386 : (Jvm.Cond.code ({ cls := "java/lang/StringUTF16", name := "getChars", desc := "(II[B)I" } : Jvm.MethodName) prog_39_method_89_code (7 : Nat) (Option.some Jvm.ClassFile.FieldType.int)) ∈ lw_all := lw_g (lw_at lw_m2 49 rfl) rfl
theorem q387 : (Jvm.Cond.fieldLink "java/lang/StringUTF16" (403 : Nat) "java/lang/Integer" "DigitOnes" "[B") ∈ lw_all := lw_g (lw_at lw_m2 50 rfl) rfl
theorem q388 : (Jvm.Cond.fieldLink "java/lang/StringUTF16" (407 : Nat) "java/lang/Integer" "DigitTens" "[B") ∈ lw_all := lw_g (lw_at lw_m2 51 rfl) rfl
theorem q458 : (Jvm.Cond.static ({ cls := "java/lang/StringUTF16", name := "compress", desc := "([BII)[B" } : Jvm.MethodName)) ∈ lw_all := lw_g (lw_at lw_m2 121 rfl) rfl
theorem q459 : (Jvm.Cond.code ({ cls := "java/lang/StringUTF16", name := "compress", desc := "([BII)[B" } : Jvm.MethodName) prog_39_method_17_code (6 : Nat) (Option.some (Jvm.ClassFile.FieldType.array Jvm.ClassFile.FieldType.byte))) ∈ lw_all := lw_g (lw_at lw_m2 122 rfl) rfl
theorem q460 : (Jvm.Cond.methodLink "java/lang/StringUTF16" (123 : Nat) ({ cls := "java/lang/StringUTF16", name := "compress", desc := "([BI[BII)I" } : Jvm.MethodName)) ∈ lw_all := lw_g (lw_at lw_m2 123 rfl) rfl
theorem q461 : (Jvm.Cond.static ({ cls := "java/lang/StringUTF16", name := "compress", desc := "([BI[BII)I" } : Jvm.MethodName)) ∈ lw_all := lw_g (lw_at lw_m2 124 rfl) rfl
theorem q462 : (Jvm.Cond.code ({ cls := "java/lang/StringUTF16", name := "compress", desc := "([BI[BII)I" } : Jvm.MethodName) prog_39_method_22_code (7 : Nat) (Option.some Jvm.ClassFile.FieldType.int)) ∈ lw_all := lw_g (lw_at lw_m2 125 rfl) rfl
theorem q463 : (Jvm.Cond.methodLink "java/lang/StringUTF16" (71 : Nat) ({ cls := "java/lang/StringUTF16", name := "getChar", desc := "([BI)C" } : Jvm.MethodName)) ∈ lw_all := lw_g (lw_at lw_m2 126 rfl) rfl
theorem q464 : (Jvm.Cond.static ({ cls := "java/lang/StringUTF16", name := "getChar", desc := "([BI)C" } : Jvm.MethodName)) ∈ lw_all := lw_g (lw_at lw_m2 127 rfl) rfl
theorem q465 : (Jvm.Cond.code ({ cls := "java/lang/StringUTF16", name := "getChar", desc := "([BI)C" } : Jvm.MethodName) prog_39_method_5_code (2 : Nat) (Option.some Jvm.ClassFile.FieldType.char)) ∈ lw_all := lw_g (lw_at lw_m2 128 rfl) rfl
theorem q466 : (Jvm.Cond.methodLink "java/lang/StringUTF16" (126 : Nat) ({ cls := "java/util/Arrays", name := "copyOfRange", desc := "([BII)[B" } : Jvm.MethodName)) ∈ lw_all := lw_g (lw_at lw_m2 129 rfl) rfl
theorem q468 : (Jvm.Cond.static ({ cls := "java/lang/StringUTF16", name := "coderFromArrayLen", desc := "([BI)B" } : Jvm.MethodName)) ∈ lw_all := lw_g (lw_at lw_m2 131 rfl) rfl
theorem q469 : (Jvm.Cond.code ({ cls := "java/lang/StringUTF16", name := "coderFromArrayLen", desc := "([BI)B" } : Jvm.MethodName) prog_39_method_15_code (2 : Nat) (Option.some Jvm.ClassFile.FieldType.byte)) ∈ lw_all := lw_g (lw_at lw_m2 132 rfl) rfl
theorem q1211 : (Jvm.Cond.static ({ cls := "java/lang/StringUTF16", name := "putCharSB", desc := "([BII)V" } : Jvm.MethodName)) ∈ lw_all := lw_g (lw_at lw_m5 154 rfl) rfl
theorem q1212 : (Jvm.Cond.code ({ cls := "java/lang/StringUTF16", name := "putCharSB", desc := "([BII)V" } : Jvm.MethodName) prog_39_method_71_code (3 : Nat) (Option.none : Option Jvm.ClassFile.FieldType)) ∈ lw_all := lw_g (lw_at lw_m5 155 rfl) rfl
theorem q1213 : (Jvm.Cond.methodLink "java/lang/StringUTF16" (67 : Nat) ({ cls := "java/lang/StringUTF16", name := "checkIndex", desc := "(I[B)V" } : Jvm.MethodName)) ∈ lw_all := lw_g (lw_at lw_m5 156 rfl) rfl
theorem q1214 : (Jvm.Cond.static ({ cls := "java/lang/StringUTF16", name := "checkIndex", desc := "(I[B)V" } : Jvm.MethodName)) ∈ lw_all := lw_g (lw_at lw_m5 157 rfl) rfl
theorem q1215 : (Jvm.Cond.code ({ cls := "java/lang/StringUTF16", name := "checkIndex", desc := "(I[B)V" } : Jvm.MethodName) prog_39_method_91_code (2 : Nat) (Option.none : Option Jvm.ClassFile.FieldType)) ∈ lw_all := lw_g (lw_at lw_m5 158 rfl) rfl
theorem q1216 : (Jvm.Cond.methodLink "java/lang/StringUTF16" (414 : Nat) ({ cls := "java/lang/String", name := "checkIndex", desc := "(II)V" } : Jvm.MethodName)) ∈ lw_all := lw_g (lw_at lw_m5 159 rfl) rfl
theorem q1247 : (Jvm.Cond.static ({ cls := "java/lang/StringUTF16", name := "toBytes", desc := "(C)[B" } : Jvm.MethodName)) ∈ lw_all := lw_g (lw_at lw_m5 190 rfl) rfl
theorem q1248 : (Jvm.Cond.code ({ cls := "java/lang/StringUTF16", name := "toBytes", desc := "(C)[B" } : Jvm.MethodName) prog_39_method_24_code (2 : Nat) (Option.some (Jvm.ClassFile.FieldType.array Jvm.ClassFile.FieldType.byte))) ∈ lw_all := lw_g (lw_at lw_m5 191 rfl) rfl
theorem q1420 : (Jvm.Cond.static ({ cls := "java/lang/StringUTF16", name := "charAt", desc := "([BI)C" } : Jvm.MethodName)) ∈ lw_all := lw_g (lw_at lw_m6 123 rfl) rfl
theorem q1421 : (Jvm.Cond.code ({ cls := "java/lang/StringUTF16", name := "charAt", desc := "([BI)C" } : Jvm.MethodName) prog_39_method_83_code (2 : Nat) (Option.some Jvm.ClassFile.FieldType.char)) ∈ lw_all := lw_g (lw_at lw_m6 124 rfl) rfl
theorem q111 : (Jvm.Cond.initialized "jdk/internal/util/ArraysSupport") ∈ lw_all := lw_g (lw_at lw_m1 14 rfl) rfl
theorem q264 : (Jvm.Cond.static ({ cls := "jdk/internal/util/ArraysSupport", name := "newLength", desc := "(III)I" } : Jvm.MethodName)) ∈ lw_all := lw_g (lw_at lw_m1 167 rfl) rfl
theorem q265 : (Jvm.Cond.code ({ cls := "jdk/internal/util/ArraysSupport", name := "newLength", desc := "(III)I" } : Jvm.MethodName) prog_54_method_27_code (4 : Nat) (Option.some Jvm.ClassFile.FieldType.int)) ∈ lw_all := lw_g (lw_at lw_m1 168 rfl) rfl
theorem q266 : (Jvm.Cond.methodLink "jdk/internal/util/ArraysSupport" (194 : Nat) ({ cls := "java/lang/Math", name := "max", desc := "(II)I" } : Jvm.MethodName)) ∈ lw_all := lw_g (lw_at lw_m1 169 rfl) rfl
theorem q269 : (Jvm.Cond.constant "jdk/internal/util/ArraysSupport" (200 : Nat) (2147483639 : Int32)) ∈ lw_all := lw_g (lw_at lw_m1 172 rfl) rfl
theorem q270 : (Jvm.Cond.methodLink "jdk/internal/util/ArraysSupport" (201 : Nat) ({ cls := "jdk/internal/util/ArraysSupport", name := "hugeLength", desc := "(II)I" } : Jvm.MethodName)) ∈ lw_all := lw_g (lw_at lw_m1 173 rfl) rfl
theorem q271 : (Jvm.Cond.static ({ cls := "jdk/internal/util/ArraysSupport", name := "hugeLength", desc := "(II)I" } : Jvm.MethodName)) ∈ lw_all := lw_g (lw_at lw_m1 174 rfl) rfl
theorem q272 : (Jvm.Cond.code ({ cls := "jdk/internal/util/ArraysSupport", name := "hugeLength", desc := "(II)I" } : Jvm.MethodName) prog_54_method_28_code (3 : Nat) (Option.some Jvm.ClassFile.FieldType.int)) ∈ lw_all := lw_g (lw_at lw_m1 175 rfl) rfl
theorem q112 : (Jvm.Cond.initialized "java/lang/Math") ∈ lw_all := lw_g (lw_at lw_m1 15 rfl) rfl
theorem q267 : (Jvm.Cond.static ({ cls := "java/lang/Math", name := "max", desc := "(II)I" } : Jvm.MethodName)) ∈ lw_all := lw_g (lw_at lw_m1 170 rfl) rfl
theorem q268 : (Jvm.Cond.code ({ cls := "java/lang/Math", name := "max", desc := "(II)I" } : Jvm.MethodName) prog_33_method_65_code (2 : Nat) (Option.some Jvm.ClassFile.FieldType.int)) ∈ lw_all := lw_g (lw_at lw_m1 171 rfl) rfl
theorem q285 : (Jvm.Cond.static ({ cls := "java/lang/Math", name := "min", desc := "(II)I" } : Jvm.MethodName)) ∈ lw_all := lw_g (lw_at lw_m1 188 rfl) rfl
theorem q286 : (Jvm.Cond.code ({ cls := "java/lang/Math", name := "min", desc := "(II)I" } : Jvm.MethodName) prog_33_method_69_code (2 : Nat) (Option.some Jvm.ClassFile.FieldType.int)) ∈ lw_all := lw_g (lw_at lw_m1 189 rfl) rfl
theorem q1022 : (Jvm.Cond.static ({ cls := "java/lang/Math", name := "abs", desc := "(I)I" } : Jvm.MethodName)) ∈ lw_all := lw_g (lw_at lw_m4 205 rfl) rfl
theorem q1023 : (Jvm.Cond.code ({ cls := "java/lang/Math", name := "abs", desc := "(I)I" } : Jvm.MethodName) prog_33_method_59_code (1 : Nat) (Option.some Jvm.ClassFile.FieldType.int)) ∈ lw_all := lw_g (lw_at lw_m4 206 rfl) rfl
theorem q113 : (Jvm.Cond.initialized "java/util/Arrays") ∈ lw_all := lw_g (lw_at lw_m1 16 rfl) rfl
theorem q275 : (Jvm.Cond.static ({ cls := "java/util/Arrays", name := "copyOf", desc := "([BI)[B" } : Jvm.MethodName)) ∈ lw_all := lw_g (lw_at lw_m1 178 rfl) rfl
theorem q276 : (Jvm.Cond.code ({ cls := "java/util/Arrays", name := "copyOf", desc := "([BI)[B" } : Jvm.MethodName) prog_47_method_121_code (3 : Nat) (Option.some (Jvm.ClassFile.FieldType.array Jvm.ClassFile.FieldType.byte))) ∈ lw_all := lw_g (lw_at lw_m1 179 rfl) rfl
theorem q277 : (Jvm.Cond.methodLink "java/util/Arrays" (310 : Nat) ({ cls := "[B", name := "clone", desc := "()Ljava/lang/Object;" } : Jvm.MethodName)) ∈ lw_all := lw_g (lw_at lw_m1 180 rfl) rfl
theorem q283 : (Jvm.Cond.classLink "java/util/Arrays" (311 : Nat) "[B") ∈ lw_all := lw_g (lw_at lw_m1 186 rfl) rfl
theorem q284 : (Jvm.Cond.methodLink "java/util/Arrays" (304 : Nat) ({ cls := "java/lang/Math", name := "min", desc := "(II)I" } : Jvm.MethodName)) ∈ lw_all := lw_g (lw_at lw_m1 187 rfl) rfl
theorem q287 : (Jvm.Cond.methodLink "java/util/Arrays" (150 : Nat) ({ cls := "java/lang/System", name := "arraycopy", desc := "(Ljava/lang/Object;ILjava/lang/Object;II)V" } : Jvm.MethodName)) ∈ lw_all := lw_g (lw_at lw_m1 190 rfl) rfl
theorem q417 : (Jvm.Cond.static ({ cls := "java/util/Arrays", name := "copyOfRange", desc := "([BII)[B" } : Jvm.MethodName)) ∈ lw_all := lw_g (lw_at lw_m2 80 rfl) rfl
theorem q418 : (Jvm.Cond.code ({ cls := "java/util/Arrays", name := "copyOfRange", desc := "([BII)[B" } : Jvm.MethodName) prog_47_method_132_code (3 : Nat) (Option.some (Jvm.ClassFile.FieldType.array Jvm.ClassFile.FieldType.byte))) ∈ lw_all := lw_g (lw_at lw_m2 81 rfl) rfl
theorem q419 : (Jvm.Cond.methodLink "java/util/Arrays" (339 : Nat) ({ cls := "java/util/Arrays", name := "copyOfRangeByte", desc := "([BII)[B" } : Jvm.MethodName)) ∈ lw_all := lw_g (lw_at lw_m2 82 rfl) rfl
theorem q420 : (Jvm.Cond.static ({ cls := "java/util/Arrays", name := "copyOfRangeByte", desc := "([BII)[B" } : Jvm.MethodName)) ∈ lw_all := lw_g (lw_at lw_m2 83 rfl) rfl
theorem q421 : (Jvm.Cond.code ({ cls := "java/util/Arrays", name := "copyOfRangeByte", desc := "([BII)[B" } : Jvm.MethodName) prog_47_method_133_code (5 : Nat) (Option.some (Jvm.ClassFile.FieldType.array Jvm.ClassFile.FieldType.byte))) ∈ lw_all := lw_g (lw_at lw_m2 84 rfl) rfl
theorem q422 : (Jvm.Cond.methodLink "java/util/Arrays" (343 : Nat) ({ cls := "java/util/Arrays", name := "checkLength", desc := "(II)V" } : Jvm.MethodName)) ∈ lw_all := lw_g (lw_at lw_m2 85 rfl) rfl
theorem q423 : (Jvm.Cond.static ({ cls := "java/util/Arrays", name := "checkLength", desc := "(II)V" } : Jvm.MethodName)) ∈ lw_all := lw_g (lw_at lw_m2 86 rfl) rfl
theorem q424 : (Jvm.Cond.code ({ cls := "java/util/Arrays", name := "checkLength", desc := "(II)V" } : Jvm.MethodName) prog_47_method_131_code (2 : Nat) (Option.none : Option Jvm.ClassFile.FieldType)) ∈ lw_all := lw_g (lw_at lw_m2 87 rfl) rfl
theorem q425 : (Jvm.Cond.classLink "java/util/Arrays" (43 : Nat) "java/lang/IllegalArgumentException") ∈ lw_all := lw_g (lw_at lw_m2 88 rfl) rfl
theorem q426 : (Jvm.Cond.classLink "java/util/Arrays" (45 : Nat) "java/lang/StringBuilder") ∈ lw_all := lw_g (lw_at lw_m2 89 rfl) rfl
theorem q427 : (Jvm.Cond.methodLink "java/util/Arrays" (47 : Nat) ({ cls := "java/lang/StringBuilder", name := "<init>", desc := "()V" } : Jvm.MethodName)) ∈ lw_all := lw_g (lw_at lw_m2 90 rfl) rfl
theorem q428 : (Jvm.Cond.methodLink "java/util/Arrays" (54 : Nat) ({ cls := "java/lang/StringBuilder", name := "append", desc := "(I)Ljava/lang/StringBuilder;" } : Jvm.MethodName)) ∈ lw_all := lw_g (lw_at lw_m2 91 rfl) rfl
theorem q429 : (Jvm.Cond.stringRef "java/util/Arrays" (337 : Nat) " > ") ∈ lw_tbl := lw_at lw_m2 92 rfl
theorem q430 : (Jvm.Cond.methodLink "java/util/Arrays" (50 : Nat) ({ cls := "java/lang/StringBuilder", name := "append", desc := "(Ljava/lang/String;)Ljava/lang/StringBuilder;" } : Jvm.MethodName)) ∈ lw_all := lw_g (lw_at lw_m2 93 rfl) rfl
theorem q431 : (Jvm.Cond.methodLink "java/util/Arrays" (61 : Nat) ({ cls := "java/lang/StringBuilder", name := "toString", desc := "()Ljava/lang/String;" } : Jvm.MethodName)) ∈ lw_all := lw_g (lw_at lw_m2 94 rfl) rfl
theorem q432 : (Jvm.Cond.methodLink "java/util/Arrays" (65 : Nat) ({ cls := "java/lang/IllegalArgumentException", name := "<init>", desc := "(Ljava/lang/String;)V" } : Jvm.MethodName)) ∈ lw_all := lw_g (lw_at lw_m2 95 rfl) rfl
theorem q640 : (Jvm.Cond.static ({ cls := "java/util/Arrays", name := "copyOf", desc := "([Ljava/lang/Object;I)[Ljava/lang/Object;" } : Jvm.MethodName)) ∈ lw_all := lw_g (lw_at lw_m3 63 rfl) rfl
theorem q641 : (Jvm.Cond.code ({ cls := "java/util/Arrays", name := "copyOf", desc := "([Ljava/lang/Object;I)[Ljava/lang/Object;" } : Jvm.MethodName) prog_47_method_119_code (2 : Nat) (Option.some (Jvm.ClassFile.FieldType.array (Jvm.ClassFile.FieldType.object "java/lang/Object")))) ∈ lw_all := lw_g (lw_at lw_m3 64 rfl) rfl
theorem q642 : (Jvm.Cond.methodLink "java/util/Arrays" (86 : Nat) ({ cls := "java/lang/Object", name := "getClass", desc := "()Ljava/lang/Class;" } : Jvm.MethodName)) ∈ lw_all := lw_g (lw_at lw_m3 65 rfl) rfl
theorem q670 : (Jvm.Cond.methodLink "java/util/Arrays" (300 : Nat) ({ cls := "java/util/Arrays", name := "copyOf", desc := "([Ljava/lang/Object;ILjava/lang/Class;)[Ljava/lang/Object;" } : Jvm.MethodName)) ∈ lw_all := lw_g (lw_at lw_m3 93 rfl) rfl
theorem q671 : (Jvm.Cond.static ({ cls := "java/util/Arrays", name := "copyOf", desc := "([Ljava/lang/Object;ILjava/lang/Class;)[Ljava/lang/Object;" } : Jvm.MethodName)) ∈ lw_all := lw_g (lw_at lw_m3 94 rfl) rfl
theorem q672 : (Jvm.Cond.code ({ cls := "java/util/Arrays", name := "copyOf", desc := "([Ljava/lang/Object;ILjava/lang/Class;)[Ljava/lang/Object;" } : Jvm.MethodName) prog_47_method_120_code (4 : Nat) (Option.some (Jvm.ClassFile.FieldType.array (Jvm.ClassFile.FieldType.object "java/lang/Object")))) ∈ lw_all := lw_g (lw_at lw_m3 95 rfl) rfl
theorem q673 : (Jvm.Cond.classLink "java/util/Arrays" (110 : Nat) "[Ljava/lang/Object;") ∈ lw_all := lw_g (lw_at lw_m3 96 rfl) rfl
theorem q674 : (Jvm.Cond.classLink "java/util/Arrays" (2 : Nat) "java/lang/Object") ∈ lw_all := lw_g (lw_at lw_m3 97 rfl) rfl
theorem q115 : (Jvm.Cond.initialized "jdk/internal/util/Preconditions") ∈ lw_all := lw_g (lw_at lw_m1 18 rfl) rfl
theorem q308 : (Jvm.Cond.laysStatic "jdk/internal/util/Preconditions" "SIOOBE_FORMATTER" "Ljava/util/function/BiFunction;") ∈ lw_tbl := lw_at lw_m1 211 rfl
theorem q310 : (Jvm.Cond.static ({ cls := "jdk/internal/util/Preconditions", name := "checkFromToIndex", desc := "(IIILjava/util/function/BiFunction;)I" } : Jvm.MethodName)) ∈ lw_all := lw_g (lw_at lw_m1 213 rfl) rfl
theorem q311 : (Jvm.Cond.code ({ cls := "jdk/internal/util/Preconditions", name := "checkFromToIndex", desc := "(IIILjava/util/function/BiFunction;)I" } : Jvm.MethodName) prog_55_method_12_code (4 : Nat) (Option.some Jvm.ClassFile.FieldType.int)) ∈ lw_all := lw_g (lw_at lw_m1 214 rfl) rfl
theorem q356 : (Jvm.Cond.static ({ cls := "jdk/internal/util/Preconditions", name := "checkFromIndexSize", desc := "(IIILjava/util/function/BiFunction;)I" } : Jvm.MethodName)) ∈ lw_all := lw_g (lw_at lw_m2 19 rfl) rfl
theorem q357 : (Jvm.Cond.code ({ cls := "jdk/internal/util/Preconditions", name := "checkFromIndexSize", desc := "(IIILjava/util/function/BiFunction;)I" } : Jvm.MethodName) prog_55_method_13_code (4 : Nat) (Option.some Jvm.ClassFile.FieldType.int)) ∈ lw_all := lw_g (lw_at lw_m2 20 rfl) rfl
theorem q785 : (Jvm.Cond.static ({ cls := "jdk/internal/util/Preconditions", name := "checkIndex", desc := "(IILjava/util/function/BiFunction;)I" } : Jvm.MethodName)) ∈ lw_all := lw_g (lw_at lw_m3 208 rfl) rfl
theorem q786 : (Jvm.Cond.code ({ cls := "jdk/internal/util/Preconditions", name := "checkIndex", desc := "(IILjava/util/function/BiFunction;)I" } : Jvm.MethodName) prog_55_method_11_code (3 : Nat) (Option.some Jvm.ClassFile.FieldType.int)) ∈ lw_all := lw_g (lw_at lw_m3 209 rfl) rfl
theorem q116 : (Jvm.Cond.initialized "java/lang/StringLatin1") ∈ lw_all := lw_g (lw_at lw_m1 19 rfl) rfl
theorem q344 : (Jvm.Cond.static ({ cls := "java/lang/StringLatin1", name := "inflate", desc := "([BI[BII)V" } : Jvm.MethodName)) ∈ lw_all := lw_g (lw_at lw_m2 7 rfl) rfl
theorem q345 : (Jvm.Cond.code ({ cls := "java/lang/StringLatin1", name := "inflate", desc := "([BI[BII)V" } : Jvm.MethodName) prog_38_method_50_code (5 : Nat) (Option.none : Option Jvm.ClassFile.FieldType)) ∈ lw_all := lw_g (lw_at lw_m2 8 rfl) rfl
theorem q346 : (Jvm.Cond.methodLink "java/lang/StringLatin1" (240 : Nat) ({ cls := "java/lang/StringUTF16", name := "inflate", desc := "([BI[BII)V" } : Jvm.MethodName)) ∈ lw_all := lw_g (lw_at lw_m2 9 rfl) rfl
theorem q1208 : (Jvm.Cond.static ({ cls := "java/lang/StringLatin1", name := "canEncode", desc := "(C)Z" } : Jvm.MethodName)) ∈ lw_all := lw_g (lw_at lw_m5 151 rfl) rfl
theorem q1209 : (Jvm.Cond.code ({ cls := "java/lang/StringLatin1", name := "canEncode", desc := "(C)Z" } : Jvm.MethodName) prog_38_method_3_code (1 : Nat) (Option.some Jvm.ClassFile.FieldType.boolean)) ∈ lw_all := lw_g (lw_at lw_m5 152 rfl) rfl
theorem q1241 : (Jvm.Cond.static ({ cls := "java/lang/StringLatin1", name := "toBytes", desc := "(C)[B" } : Jvm.MethodName)) ∈ lw_all := lw_g (lw_at lw_m5 184 rfl) rfl
theorem q1242 : (Jvm.Cond.code ({ cls := "java/lang/StringLatin1", name := "toBytes", desc := "(C)[B" } : Jvm.MethodName) prog_38_method_46_code (1 : Nat) (Option.some (Jvm.ClassFile.FieldType.array Jvm.ClassFile.FieldType.byte))) ∈ lw_all := lw_g (lw_at lw_m5 185 rfl) rfl
theorem q1298 : (Jvm.Cond.static ({ cls := "java/lang/StringLatin1", name := "equals", desc := "([B[B)Z" } : Jvm.MethodName)) ∈ lw_all := lw_g (lw_at lw_m6 1 rfl) rfl
theorem q1299 : (Jvm.Cond.code ({ cls := "java/lang/StringLatin1", name := "equals", desc := "([B[B)Z" } : Jvm.MethodName) prog_38_method_13_code (3 : Nat) (Option.some Jvm.ClassFile.FieldType.boolean)) ∈ lw_all := lw_g (lw_at lw_m6 2 rfl) rfl
theorem q1416 : (Jvm.Cond.static ({ cls := "java/lang/StringLatin1", name := "charAt", desc := "([BI)C" } : Jvm.MethodName)) ∈ lw_all := lw_g (lw_at lw_m6 119 rfl) rfl
theorem q1417 : (Jvm.Cond.code ({ cls := "java/lang/StringLatin1", name := "charAt", desc := "([BI)C" } : Jvm.MethodName) prog_38_method_2_code (2 : Nat) (Option.some Jvm.ClassFile.FieldType.char)) ∈ lw_all := lw_g (lw_at lw_m6 120 rfl) rfl
theorem q1418 : (Jvm.Cond.methodLink "java/lang/StringLatin1" (9 : Nat) ({ cls := "java/lang/String", name := "checkIndex", desc := "(II)V" } : Jvm.MethodName)) ∈ lw_all := lw_g (lw_at lw_m6 121 rfl) rfl
theorem q118 : (Jvm.Cond.initialized "java/lang/Integer") ∈ lw_all := lw_g (lw_at lw_m1 21 rfl) rfl
theorem q372 : (Jvm.Cond.static ({ cls := "java/lang/Integer", name := "stringSize", desc := "(I)I" } : Jvm.MethodName)) ∈ lw_all := lw_g (lw_at lw_m2 35 rfl) rfl
theorem q373 : (Jvm.Cond.code ({ cls := "java/lang/Integer", name := "stringSize", desc := "(I)I" } : Jvm.MethodName) prog_31_method_13_code (4 : Nat) (Option.some Jvm.ClassFile.FieldType.int)) ∈ lw_all := lw_g (lw_at lw_m2 36 rfl) rfl
theorem q375 : (Jvm.Cond.static ({ cls := "java/lang/Integer", name := "getChars", desc := "(II[B)I" } : Jvm.MethodName)) ∈ lw_all := lw_g (lw_at lw_m2 38 rfl) rfl
theorem q376 : (Jvm.Cond.code ({ cls := "java/lang/Integer", name := "getChars", desc := "(II[B)I" } : Jvm.MethodName) prog_31_method_12_code (7 : Nat) (Option.some Jvm.ClassFile.FieldType.int)) ∈ lw_all := lw_g (lw_at lw_m2 39 rfl) rfl
theorem q377 : (Jvm.Cond.fieldLink "java/lang/Integer" (83 : Nat) "java/lang/Integer" "DigitOnes" "[B") ∈ lw_all := lw_g (lw_at lw_m2 40 rfl) rfl
theorem q378 : (Jvm.Cond.laysStatic "java/lang/Integer" "DigitOnes" "[B") ∈ lw_tbl := lw_at lw_m2 41 rfl
theorem q379 : (Jvm.Cond.fieldLink "java/lang/Integer" (87 : Nat) "java/lang/Integer" "DigitTens" "[B") ∈ lw_all := lw_g (lw_at lw_m2 42 rfl) rfl
theorem q380 : (Jvm.Cond.laysStatic "java/lang/Integer" "DigitTens" "[B") ∈ lw_tbl := lw_at lw_m2 43 rfl
theorem q1669 : (Jvm.Cond.static ({ cls := "java/lang/Integer", name := "bitCount", desc := "(I)I" } : Jvm.MethodName)) ∈ lw_all := lw_g (lw_at lw_m7 132 rfl) rfl
theorem q1670 : (Jvm.Cond.code ({ cls := "java/lang/Integer", name := "bitCount", desc := "(I)I" } : Jvm.MethodName) prog_31_method_49_code (1 : Nat) (Option.some Jvm.ClassFile.FieldType.int)) ∈ lw_all := lw_g (lw_at lw_m7 133 rfl) rfl
theorem q1671 : (Jvm.Cond.constant "java/lang/Integer" (265 : Nat) (1431655765 : Int32)) ∈ lw_all := lw_g (lw_at lw_m7 134 rfl) rfl
theorem q1672 : (Jvm.Cond.constant "java/lang/Integer" (266 : Nat) (858993459 : Int32)) ∈ lw_all := lw_g (lw_at lw_m7 135 rfl) rfl
theorem q1673 : (Jvm.Cond.constant "java/lang/Integer" (267 : Nat) (252645135 : Int32)) ∈ lw_all := lw_g (lw_at lw_m7 136 rfl) rfl
theorem q120 : (Jvm.Cond.initialized "java/lang/Enum") ∈ lw_all := lw_g (lw_at lw_m1 23 rfl) rfl
theorem q1036 : (Jvm.Cond.declares ({ cls := "java/lang/Enum", name := "ordinal", desc := "()I" } : Jvm.MethodName)) ∈ lw_tbl := lw_at lw_m4 219 rfl
theorem q1038 : (Jvm.Cond.instanceMethod ({ cls := "java/lang/Enum", name := "ordinal", desc := "()I" } : Jvm.MethodName)) ∈ lw_all := lw_g (lw_at lw_m4 221 rfl) rfl
theorem q1039 : (Jvm.Cond.code ({ cls := "java/lang/Enum", name := "ordinal", desc := "()I" } : Jvm.MethodName) prog_28_method_2_code (1 : Nat) (Option.some Jvm.ClassFile.FieldType.int)) ∈ lw_all := lw_g (lw_at lw_m4 222 rfl) rfl
theorem q2435 : (Jvm.Cond.fieldLink "java/lang/Enum" (7 : Nat) "java/lang/Enum" "ordinal" "I") ∈ lw_all := lw_g (lw_at lw_m10 178 rfl) rfl
theorem q125 : (Jvm.Cond.initialized "java/util/Objects") ∈ lw_all := lw_g (lw_at lw_m1 28 rfl) rfl
theorem q782 : (Jvm.Cond.static ({ cls := "java/util/Objects", name := "checkIndex", desc := "(II)I" } : Jvm.MethodName)) ∈ lw_all := lw_g (lw_at lw_m3 205 rfl) rfl
theorem q783 : (Jvm.Cond.code ({ cls := "java/util/Objects", name := "checkIndex", desc := "(II)I" } : Jvm.MethodName) prog_51_method_17_code (2 : Nat) (Option.some Jvm.ClassFile.FieldType.int)) ∈ lw_all := lw_g (lw_at lw_m3 206 rfl) rfl
theorem q784 : (Jvm.Cond.methodLink "java/util/Objects" (105 : Nat) ({ cls := "jdk/internal/util/Preconditions", name := "checkIndex", desc := "(IILjava/util/function/BiFunction;)I" } : Jvm.MethodName)) ∈ lw_all := lw_g (lw_at lw_m3 207 rfl) rfl
theorem q139 : (Jvm.Cond.initialized "java/util/NoSuchElementException") ∈ lw_all := lw_g (lw_at lw_m1 42 rfl) rfl
theorem q204 : (Jvm.Cond.selects "java/util/NoSuchElementException" ({ cls := "java/lang/Throwable", name := "fillInStackTrace", desc := "()Ljava/lang/Throwable;" } : Jvm.MethodName) ({ cls := "java/lang/Throwable", name := "fillInStackTrace", desc := "()Ljava/lang/Throwable;" } : Jvm.MethodName)) ∈ lw_all := lw_g (lw_at lw_m1 107 rfl) rfl
theorem q668 : (Jvm.Cond.selects "java/util/NoSuchElementException" ({ cls := "java/lang/Object", name := "getClass", desc := "()Ljava/lang/Class;" } : Jvm.MethodName) ({ cls := "java/lang/Object", name := "getClass", desc := "()Ljava/lang/Class;" } : Jvm.MethodName)) ∈ lw_all := lw_g (lw_at lw_m3 91 rfl) rfl
theorem q1560 : (Jvm.Cond.instantiable "java/util/NoSuchElementException" (6 : Nat)) ∈ lw_all := lw_g (lw_at lw_m7 23 rfl) rfl
theorem q1561 : (Jvm.Cond.castable "java/util/NoSuchElementException" "java/util/NoSuchElementException") ∈ lw_tbl := lw_at lw_m7 24 rfl
theorem q1562 : (Jvm.Cond.selects "java/util/NoSuchElementException" ({ cls := "java/lang/Throwable", name := "fillInStackTrace", desc := "(I)Ljava/lang/Throwable;" } : Jvm.MethodName) ({ cls := "java/lang/Throwable", name := "fillInStackTrace", desc := "(I)Ljava/lang/Throwable;" } : Jvm.MethodName)) ∈ lw_all := lw_g (lw_at lw_m7 25 rfl) rfl
theorem q1563 : (Jvm.Cond.lays "java/util/NoSuchElementException" "java/lang/Throwable" "cause" "Ljava/lang/Throwable;") ∈ lw_all := lw_g (lw_at lw_m7 26 rfl) rfl
theorem q1564 : (Jvm.Cond.lays "java/util/NoSuchElementException" "java/lang/Throwable" "stackTrace" "[Ljava/lang/StackTraceElement;") ∈ lw_all := lw_g (lw_at lw_m7 27 rfl) rfl
theorem q1565 : (Jvm.Cond.lays "java/util/NoSuchElementException" "java/lang/Throwable" "suppressedExceptions" "Ljava/util/List;") ∈ lw_all := lw_g (lw_at lw_m7 28 rfl) rfl
theorem q1566 : (Jvm.Cond.lays "java/util/NoSuchElementException" "java/lang/Throwable" "detailMessage" "Ljava/lang/String;") ∈ lw_all := lw_g (lw_at lw_m7 29 rfl) rfl
theorem q1567 : (Jvm.Cond.lays "java/util/NoSuchElementException" "java/lang/Throwable" "backtrace" "Ljava/lang/Object;") ∈ lw_all := lw_g (lw_at lw_m7 30 rfl) rfl
theorem q1569 : (Jvm.Cond.instanceMethod ({ cls := "java/util/NoSuchElementException", name := "<init>", desc := "()V" } : Jvm.MethodName)) ∈ lw_all := lw_g (lw_at lw_m7 32 rfl) rfl
theorem q1570 : (Jvm.Cond.code ({ cls := "java/util/NoSuchElementException", name := "<init>", desc := "()V" } : Jvm.MethodName) prog_50_method_1_code (1 : Nat) (Option.none : Option Jvm.ClassFile.FieldType)) ∈ lw_all := lw_g (lw_at lw_m7 33 rfl) rfl
theorem q1571 : (Jvm.Cond.methodLink "java/util/NoSuchElementException" (1 : Nat) ({ cls := "java/lang/RuntimeException", name := "<init>", desc := "()V" } : Jvm.MethodName)) ∈ lw_all := lw_g (lw_at lw_m7 34 rfl) rfl
theorem q1572 : (Jvm.Cond.lays "java/util/NoSuchElementException" "java/lang/Throwable" "depth" "I") ∈ lw_all := lw_g (lw_at lw_m7 35 rfl) rfl
theorem q1573 : (Jvm.Cond.superclass "java/util/NoSuchElementException" "java/lang/RuntimeException") ∈ lw_all := lw_g (lw_at lw_m7 36 rfl) rfl
theorem q2423 : (Jvm.Cond.castable "java/util/NoSuchElementException" "java/lang/Object") ∈ lw_tbl := lw_at lw_m10 166 rfl
theorem q102 : (Jvm.Cond.initialized "java/util/ArrayList") ∈ lw_all := lw_g (lw_at lw_m1 5 rfl) rfl
theorem q155 : (Jvm.Cond.instantiable "java/util/ArrayList" (3 : Nat)) ∈ lw_all := lw_g (lw_at lw_m1 58 rfl) rfl
theorem q157 : (Jvm.Cond.instanceMethod ({ cls := "java/util/ArrayList", name := "<init>", desc := "(I)V" } : Jvm.MethodName)) ∈ lw_all := lw_g (lw_at lw_m1 60 rfl) rfl
theorem q158 : (Jvm.Cond.code ({ cls := "java/util/ArrayList", name := "<init>", desc := "(I)V" } : Jvm.MethodName) prog_46_method_1_code (2 : Nat) (Option.none : Option Jvm.ClassFile.FieldType)) ∈ lw_all := lw_g (lw_at lw_m1 61 rfl) rfl
theorem q159 : (Jvm.Cond.methodLink "java/util/ArrayList" (1 : Nat) ({ cls := "java/util/AbstractList", name := "<init>", desc := "()V" } : Jvm.MethodName)) ∈ lw_all := lw_g (lw_at lw_m1 62 rfl) rfl
theorem q166 : (Jvm.Cond.classLink "java/util/ArrayList" (7 : Nat) "java/lang/Object") ∈ lw_all := lw_g (lw_at lw_m1 69 rfl) rfl
theorem q168 : (Jvm.Cond.fieldLink "java/util/ArrayList" (15 : Nat) "java/util/ArrayList" "EMPTY_ELEMENTDATA" "[Ljava/lang/Object;") ∈ lw_all := lw_g (lw_at lw_m1 71 rfl) rfl
theorem q169 : (Jvm.Cond.laysStatic "java/util/ArrayList" "EMPTY_ELEMENTDATA" "[Ljava/lang/Object;") ∈ lw_tbl := lw_at lw_m1 72 rfl
theorem q170 : (Jvm.Cond.classLink "java/util/ArrayList" (18 : Nat) "java/lang/IllegalArgumentException") ∈ lw_all := lw_g (lw_at lw_m1 73 rfl) rfl
theorem q211 : (Jvm.Cond.classLink "java/util/ArrayList" (20 : Nat) "java/lang/StringBuilder") ∈ lw_all := lw_g (lw_at lw_m1 114 rfl) rfl
theorem q213 : (Jvm.Cond.methodLink "java/util/ArrayList" (22 : Nat) ({ cls := "java/lang/StringBuilder", name := "<init>", desc := "()V" } : Jvm.MethodName)) ∈ lw_all := lw_g (lw_at lw_m1 116 rfl) rfl
theorem q243 : (Jvm.Cond.stringRef "java/util/ArrayList" (23 : Nat) "Illegal Capacity: ") ∈ lw_tbl := lw_at lw_m1 146 rfl
theorem q244 : (Jvm.Cond.methodLink "java/util/ArrayList" (25 : Nat) ({ cls := "java/lang/StringBuilder", name := "append", desc := "(Ljava/lang/String;)Ljava/lang/StringBuilder;" } : Jvm.MethodName)) ∈ lw_all := lw_g (lw_at lw_m1 147 rfl) rfl
theorem q364 : (Jvm.Cond.methodLink "java/util/ArrayList" (29 : Nat) ({ cls := "java/lang/StringBuilder", name := "append", desc := "(I)Ljava/lang/StringBuilder;" } : Jvm.MethodName)) ∈ lw_all := lw_g (lw_at lw_m2 27 rfl) rfl
theorem q389 : (Jvm.Cond.methodLink "java/util/ArrayList" (32 : Nat) ({ cls := "java/lang/StringBuilder", name := "toString", desc := "()Ljava/lang/String;" } : Jvm.MethodName)) ∈ lw_all := lw_g (lw_at lw_m2 52 rfl) rfl
theorem q481 : (Jvm.Cond.methodLink "java/util/ArrayList" (36 : Nat) ({ cls := "java/lang/IllegalArgumentException", name := "<init>", desc := "(Ljava/lang/String;)V" } : Jvm.MethodName)) ∈ lw_all := lw_g (lw_at lw_m2 144 rfl) rfl
theorem q482 : (Jvm.Cond.fieldLink "java/util/ArrayList" (9 : Nat) "java/util/ArrayList" "elementData" "[Ljava/lang/Object;") ∈ lw_all := lw_g (lw_at lw_m2 145 rfl) rfl
theorem q483 : (Jvm.Cond.fieldLink "java/util/ArrayList" (48 : Nat) "java/util/ArrayList" "size" "I") ∈ lw_all := lw_g (lw_at lw_m2 146 rfl) rfl
theorem q485 : (Jvm.Cond.fieldLink "java/util/ArrayList" (63 : Nat) "java/util/ArrayList" "modCount" "I") ∈ lw_all := lw_g (lw_at lw_m2 148 rfl) rfl
theorem q486 : (Jvm.Cond.sameField "java/util/ArrayList" "java/util/AbstractList" "modCount" "I") ∈ lw_all := lw_g (lw_at lw_m2 149 rfl) rfl
theorem q487 : (Jvm.Cond.lays "java/util/ArrayList" "java/util/ArrayList" "elementData" "[Ljava/lang/Object;") ∈ lw_all := lw_g (lw_at lw_m2 150 rfl) rfl
theorem q488 : (Jvm.Cond.soleField "java/util/ArrayList" "elementData") ∈ lw_all := lw_g (lw_at lw_m2 151 rfl) rfl
theorem q489 : (Jvm.Cond.lays "java/util/ArrayList" "java/util/ArrayList" "size" "I") ∈ lw_all := lw_g (lw_at lw_m2 152 rfl) rfl
theorem q490 : (Jvm.Cond.soleField "java/util/ArrayList" "size") ∈ lw_all := lw_g (lw_at lw_m2 153 rfl) rfl
theorem q491 : (Jvm.Cond.lays "java/util/ArrayList" "java/util/AbstractList" "modCount" "I") ∈ lw_all := lw_g (lw_at lw_m2 154 rfl) rfl
theorem q493 : (Jvm.Cond.superclass "java/util/ArrayList" "java/util/AbstractList") ∈ lw_all := lw_g (lw_at lw_m2 156 rfl) rfl
theorem q621 : (Jvm.Cond.instanceMethod ({ cls := "java/util/ArrayList", name := "add", desc := "(Ljava/lang/Object;)Z" } : Jvm.MethodName)) ∈ lw_all := lw_g (lw_at lw_m3 44 rfl) rfl
theorem q622 : (Jvm.Cond.selects "java/util/ArrayList" ({ cls := "java/util/ArrayList", name := "add", desc := "(Ljava/lang/Object;)Z" } : Jvm.MethodName) ({ cls := "java/util/ArrayList", name := "add", desc := "(Ljava/lang/Object;)Z" } : Jvm.MethodName)) ∈ lw_all := lw_g (lw_at lw_m3 45 rfl) rfl
theorem q623 : (Jvm.Cond.code ({ cls := "java/util/ArrayList", name := "add", desc := "(Ljava/lang/Object;)Z" } : Jvm.MethodName) prog_46_method_25_code (2 : Nat) (Option.some Jvm.ClassFile.FieldType.boolean)) ∈ lw_all := lw_g (lw_at lw_m3 46 rfl) rfl
theorem q624 : (Jvm.Cond.methodLink "java/util/ArrayList" (131 : Nat) ({ cls := "java/util/ArrayList", name := "add", desc := "(Ljava/lang/Object;[Ljava/lang/Object;I)V" } : Jvm.MethodName)) ∈ lw_all := lw_g (lw_at lw_m3 47 rfl) rfl
theorem q625 : (Jvm.Cond.privateMethod ({ cls := "java/util/ArrayList", name := "add", desc := "(Ljava/lang/Object;[Ljava/lang/Object;I)V" } : Jvm.MethodName)) ∈ lw_tbl := lw_at lw_m3 48 rfl
theorem q626 : (Jvm.Cond.instanceMethod ({ cls := "java/util/ArrayList", name := "add", desc := "(Ljava/lang/Object;[Ljava/lang/Object;I)V" } : Jvm.MethodName)) ∈ lw_all := lw_g (lw_at lw_m3 49 rfl) rfl
theorem q627 : (Jvm.Cond.code ({ cls := "java/util/ArrayList", name := "add", desc := "(Ljava/lang/Object;[Ljava/lang/Object;I)V" } : Jvm.MethodName) prog_46_method_24_code (4 : Nat) (Option.none : Option Jvm.ClassFile.FieldType)) ∈ lw_all := lw_g (lw_at lw_m3 50 rfl) rfl
theorem q628 : (Jvm.Cond.methodLink "java/util/ArrayList" (129 : Nat) ({ cls := "java/util/ArrayList", name := "grow", desc := "()[Ljava/lang/Object;" } : Jvm.MethodName)) ∈ lw_all := lw_g (lw_at lw_m3 51 rfl) rfl
theorem q629 : (Jvm.Cond.privateMethod ({ cls := "java/util/ArrayList", name := "grow", desc := "()[Ljava/lang/Object;" } : Jvm.MethodName)) ∈ lw_tbl := lw_at lw_m3 52 rfl
theorem q630 : (Jvm.Cond.instanceMethod ({ cls := "java/util/ArrayList", name := "grow", desc := "()[Ljava/lang/Object;" } : Jvm.MethodName)) ∈ lw_all := lw_g (lw_at lw_m3 53 rfl) rfl
theorem q631 : (Jvm.Cond.code ({ cls := "java/util/ArrayList", name := "grow", desc := "()[Ljava/lang/Object;" } : Jvm.MethodName) prog_46_method_7_code (1 : Nat) (Option.some (Jvm.ClassFile.FieldType.array (Jvm.ClassFile.FieldType.object "java/lang/Object")))) ∈ lw_all := lw_g (lw_at lw_m3 54 rfl) rfl
theorem q632 : (Jvm.Cond.methodLink "java/util/ArrayList" (69 : Nat) ({ cls := "java/util/ArrayList", name := "grow", desc := "(I)[Ljava/lang/Object;" } : Jvm.MethodName)) ∈ lw_all := lw_g (lw_at lw_m3 55 rfl) rfl
theorem q633 : (Jvm.Cond.privateMethod ({ cls := "java/util/ArrayList", name := "grow", desc := "(I)[Ljava/lang/Object;" } : Jvm.MethodName)) ∈ lw_tbl := lw_at lw_m3 56 rfl
theorem q634 : (Jvm.Cond.instanceMethod ({ cls := "java/util/ArrayList", name := "grow", desc := "(I)[Ljava/lang/Object;" } : Jvm.MethodName)) ∈ lw_all := lw_g (lw_at lw_m3 57 rfl) rfl
theorem q635 : (Jvm.Cond.code ({ cls := "java/util/ArrayList", name := "grow", desc := "(I)[Ljava/lang/Object;" } : Jvm.MethodName) prog_46_method_6_code (4 : Nat) (Option.some (Jvm.ClassFile.FieldType.array (Jvm.ClassFile.FieldType.object "java/lang/Object")))) ∈ lw_all := lw_g (lw_at lw_m3 58 rfl) rfl
theorem q636 : (Jvm.Cond.fieldLink "java/util/ArrayList" (39 : Nat) "java/util/ArrayList" "DEFAULTCAPACITY_EMPTY_ELEMENTDATA" "[Ljava/lang/Object;") ∈ lw_all := lw_g (lw_at lw_m3 59 rfl) rfl
theorem q637 : (Jvm.Cond.laysStatic "java/util/ArrayList" "DEFAULTCAPACITY_EMPTY_ELEMENTDATA" "[Ljava/lang/Object;") ∈ lw_tbl := lw_at lw_m3 60 rfl
theorem q638 : (Jvm.Cond.methodLink "java/util/ArrayList" (73 : Nat) ({ cls := "jdk/internal/util/ArraysSupport", name := "newLength", desc := "(III)I" } : Jvm.MethodName)) ∈ lw_all := lw_g (lw_at lw_m3 61 rfl) rfl
theorem q639 : (Jvm.Cond.methodLink "java/util/ArrayList" (66 : Nat) ({ cls := "java/util/Arrays", name := "copyOf", desc := "([Ljava/lang/Object;I)[Ljava/lang/Object;" } : Jvm.MethodName)) ∈ lw_all := lw_g (lw_at lw_m3 62 rfl) rfl
theorem q667 : (Jvm.Cond.selects "java/util/ArrayList" ({ cls := "java/lang/Object", name := "getClass", desc := "()Ljava/lang/Class;" } : Jvm.MethodName) ({ cls := "java/lang/Object", name := "getClass", desc := "()Ljava/lang/Class;" } : Jvm.MethodName)) ∈ lw_all := lw_g (lw_at lw_m3 90 rfl) rfl
theorem q675 : (Jvm.Cond.methodLink "java/util/ArrayList" (79 : Nat) ({ cls := "java/lang/Math", name := "max", desc := "(II)I" } : Jvm.MethodName)) ∈ lw_all := lw_g (lw_at lw_m3 98 rfl) rfl
theorem q774 : (Jvm.Cond.instanceMethod ({ cls := "java/util/ArrayList", name := "size", desc := "()I" } : Jvm.MethodName)) ∈ lw_all := lw_g (lw_at lw_m3 197 rfl) rfl
theorem q775 : (Jvm.Cond.selects "java/util/ArrayList" ({ cls := "java/util/ArrayList", name := "size", desc := "()I" } : Jvm.MethodName) ({ cls := "java/util/ArrayList", name := "size", desc := "()I" } : Jvm.MethodName)) ∈ lw_all := lw_g (lw_at lw_m3 198 rfl) rfl
theorem q776 : (Jvm.Cond.code ({ cls := "java/util/ArrayList", name := "size", desc := "()I" } : Jvm.MethodName) prog_46_method_8_code (1 : Nat) (Option.some Jvm.ClassFile.FieldType.int)) ∈ lw_all := lw_g (lw_at lw_m3 199 rfl) rfl
theorem q778 : (Jvm.Cond.instanceMethod ({ cls := "java/util/ArrayList", name := "get", desc := "(I)Ljava/lang/Object;" } : Jvm.MethodName)) ∈ lw_all := lw_g (lw_at lw_m3 201 rfl) rfl
theorem q779 : (Jvm.Cond.selects "java/util/ArrayList" ({ cls := "java/util/ArrayList", name := "get", desc := "(I)Ljava/lang/Object;" } : Jvm.MethodName) ({ cls := "java/util/ArrayList", name := "get", desc := "(I)Ljava/lang/Object;" } : Jvm.MethodName)) ∈ lw_all := lw_g (lw_at lw_m3 202 rfl) rfl
theorem q780 : (Jvm.Cond.code ({ cls := "java/util/ArrayList", name := "get", desc := "(I)Ljava/lang/Object;" } : Jvm.MethodName) prog_46_method_20_code (2 : Nat) (Option.some (Jvm.ClassFile.FieldType.object "java/lang/Object"))) ∈ lw_all := lw_g (lw_at lw_m3 203 rfl) rfl
theorem q781 : (Jvm.Cond.methodLink "java/util/ArrayList" (118 : Nat) ({ cls := "java/util/Objects", name := "checkIndex", desc := "(II)I" } : Jvm.MethodName)) ∈ lw_all := lw_g (lw_at lw_m3 204 rfl) rfl
theorem q787 : (Jvm.Cond.methodLink "java/util/ArrayList" (123 : Nat) ({ cls := "java/util/ArrayList", name := "elementData", desc := "(I)Ljava/lang/Object;" } : Jvm.MethodName)) ∈ lw_all := lw_g (lw_at lw_m3 210 rfl) rfl
theorem q788 : (Jvm.Cond.instanceMethod ({ cls := "java/util/ArrayList", name := "elementData", desc := "(I)Ljava/lang/Object;" } : Jvm.MethodName)) ∈ lw_all := lw_g (lw_at lw_m3 211 rfl) rfl
theorem q789 : (Jvm.Cond.selects "java/util/ArrayList" ({ cls := "java/util/ArrayList", name := "elementData", desc := "(I)Ljava/lang/Object;" } : Jvm.MethodName) ({ cls := "java/util/ArrayList", name := "elementData", desc := "(I)Ljava/lang/Object;" } : Jvm.MethodName)) ∈ lw_all := lw_g (lw_at lw_m3 212 rfl) rfl
theorem q790 : (Jvm.Cond.code ({ cls := "java/util/ArrayList", name := "elementData", desc := "(I)Ljava/lang/Object;" } : Jvm.MethodName) prog_46_method_18_code (2 : Nat) (Option.some (Jvm.ClassFile.FieldType.object "java/lang/Object"))) ∈ lw_all := lw_g (lw_at lw_m3 213 rfl) rfl
theorem q897 : (Jvm.Cond.instanceMethod ({ cls := "java/util/ArrayList", name := "remove", desc := "(I)Ljava/lang/Object;" } : Jvm.MethodName)) ∈ lw_all := lw_g (lw_at lw_m4 80 rfl) rfl
theorem q898 : (Jvm.Cond.selects "java/util/ArrayList" ({ cls := "java/util/ArrayList", name := "remove", desc := "(I)Ljava/lang/Object;" } : Jvm.MethodName) ({ cls := "java/util/ArrayList", name := "remove", desc := "(I)Ljava/lang/Object;" } : Jvm.MethodName)) ∈ lw_all := lw_g (lw_at lw_m4 81 rfl) rfl
theorem q899 : (Jvm.Cond.code ({ cls := "java/util/ArrayList", name := "remove", desc := "(I)Ljava/lang/Object;" } : Jvm.MethodName) prog_46_method_29_code (4 : Nat) (Option.some (Jvm.ClassFile.FieldType.object "java/lang/Object"))) ∈ lw_all := lw_g (lw_at lw_m4 82 rfl) rfl
theorem q900 : (Jvm.Cond.methodLink "java/util/ArrayList" (144 : Nat) ({ cls := "java/util/ArrayList", name := "fastRemove", desc := "([Ljava/lang/Object;I)V" } : Jvm.MethodName)) ∈ lw_all := lw_g (lw_at lw_m4 83 rfl) rfl
theorem q901 : (Jvm.Cond.privateMethod ({ cls := "java/util/ArrayList", name := "fastRemove", desc := "([Ljava/lang/Object;I)V" } : Jvm.MethodName)) ∈ lw_tbl := lw_at lw_m4 84 rfl
theorem q902 : (Jvm.Cond.instanceMethod ({ cls := "java/util/ArrayList", name := "fastRemove", desc := "([Ljava/lang/Object;I)V" } : Jvm.MethodName)) ∈ lw_all := lw_g (lw_at lw_m4 85 rfl) rfl
theorem q903 : (Jvm.Cond.code ({ cls := "java/util/ArrayList", name := "fastRemove", desc := "([Ljava/lang/Object;I)V" } : Jvm.MethodName) prog_46_method_39_code (4 : Nat) (Option.none : Option Jvm.ClassFile.FieldType)) ∈ lw_all := lw_g (lw_at lw_m4 86 rfl) rfl
theorem q904 : (Jvm.Cond.methodLink "java/util/ArrayList" (112 : Nat) ({ cls := "java/lang/System", name := "arraycopy", desc := "(Ljava/lang/Object;ILjava/lang/Object;II)V" } : Jvm.MethodName)) ∈ lw_all := lw_g (lw_at lw_m4 87 rfl) rfl
theorem q2404 : (Jvm.Cond.castable "java/util/ArrayList" "java/lang/Object") ∈ lw_tbl := lw_at lw_m10 147 rfl
theorem q146 : (Jvm.Cond.instanceMethod ({ cls := "java/lang/Object", name := "<init>", desc := "()V" } : Jvm.MethodName)) ∈ lw_all := lw_g (lw_at lw_m1 49 rfl) rfl
theorem q147 : (Jvm.Cond.code ({ cls := "java/lang/Object", name := "<init>", desc := "()V" } : Jvm.MethodName) object_method_1_code (1 : Nat) (Option.none : Option Jvm.ClassFile.FieldType)) ∈ lw_all := lw_g (lw_at lw_m1 50 rfl) rfl
theorem q279 : (Jvm.Cond.native ({ cls := "java/lang/Object", name := "clone", desc := "()Ljava/lang/Object;" } : Jvm.MethodName)) ∈ lw_all := lw_g (lw_at lw_m1 182 rfl) rfl
theorem q280 : (Jvm.Cond.instanceMethod ({ cls := "java/lang/Object", name := "clone", desc := "()Ljava/lang/Object;" } : Jvm.MethodName)) ∈ lw_all := lw_g (lw_at lw_m1 183 rfl) rfl
theorem q643 : (Jvm.Cond.instanceMethod ({ cls := "java/lang/Object", name := "getClass", desc := "()Ljava/lang/Class;" } : Jvm.MethodName)) ∈ lw_all := lw_g (lw_at lw_m3 66 rfl) rfl
theorem q644 : (Jvm.Cond.sameMethod "java/lang/Object" "java/lang/Object" "getClass" "()Ljava/lang/Class;") ∈ lw_all := lw_g (lw_at lw_m3 67 rfl) rfl
theorem q669 : (Jvm.Cond.native ({ cls := "java/lang/Object", name := "getClass", desc := "()Ljava/lang/Class;" } : Jvm.MethodName)) ∈ lw_all := lw_g (lw_at lw_m3 92 rfl) rfl
theorem q2396 : (Jvm.Cond.initialized "java/lang/Object") ∈ lw_all := lw_g (lw_at lw_m10 139 rfl) rfl
theorem q2427 : (Jvm.Cond.declares ({ cls := "java/lang/Object", name := "getClass", desc := "()Ljava/lang/Class;" } : Jvm.MethodName)) ∈ lw_tbl := lw_at lw_m10 170 rfl
theorem q103 : (Jvm.Cond.initialized "java/lang/Throwable") ∈ lw_all := lw_g (lw_at lw_m1 6 rfl) rfl
theorem q177 : (Jvm.Cond.declares ({ cls := "java/lang/Throwable", name := "<init>", desc := "()V" } : Jvm.MethodName)) ∈ lw_tbl := lw_at lw_m1 80 rfl
theorem q178 : (Jvm.Cond.declares ({ cls := "java/lang/Throwable", name := "<init>", desc := "(Ljava/lang/String;)V" } : Jvm.MethodName)) ∈ lw_tbl := lw_at lw_m1 81 rfl
theorem q182 : (Jvm.Cond.lays "java/lang/Throwable" "java/lang/Throwable" "cause" "Ljava/lang/Throwable;") ∈ lw_all := lw_g (lw_at lw_m1 85 rfl) rfl
theorem q184 : (Jvm.Cond.lays "java/lang/Throwable" "java/lang/Throwable" "stackTrace" "[Ljava/lang/StackTraceElement;") ∈ lw_all := lw_g (lw_at lw_m1 87 rfl) rfl
theorem q186 : (Jvm.Cond.lays "java/lang/Throwable" "java/lang/Throwable" "suppressedExceptions" "Ljava/util/List;") ∈ lw_all := lw_g (lw_at lw_m1 89 rfl) rfl
theorem q188 : (Jvm.Cond.lays "java/lang/Throwable" "java/lang/Throwable" "detailMessage" "Ljava/lang/String;") ∈ lw_all := lw_g (lw_at lw_m1 91 rfl) rfl
theorem q190 : (Jvm.Cond.lays "java/lang/Throwable" "java/lang/Throwable" "backtrace" "Ljava/lang/Object;") ∈ lw_all := lw_g (lw_at lw_m1 93 rfl) rfl
theorem q191 : (Jvm.Cond.fieldLink "java/lang/Throwable" (198 : Nat) "java/lang/Throwable" "backtrace" "Ljava/lang/Object;") ∈ lw_all := lw_g (lw_at lw_m1 94 rfl) rfl
theorem q192 : (Jvm.Cond.superclass "java/lang/Throwable" "java/lang/Object") ∈ lw_all := lw_g (lw_at lw_m1 95 rfl) rfl
theorem q193 : (Jvm.Cond.instanceMethod ({ cls := "java/lang/Throwable", name := "<init>", desc := "()V" } : Jvm.MethodName)) ∈ lw_all := lw_g (lw_at lw_m1 96 rfl) rfl
theorem q194 : (Jvm.Cond.code ({ cls := "java/lang/Throwable", name := "<init>", desc := "()V" } : Jvm.MethodName) prog_41_method_1_code (1 : Nat) (Option.none : Option Jvm.ClassFile.FieldType)) ∈ lw_all := lw_g (lw_at lw_m1 97 rfl) rfl
theorem q195 : (Jvm.Cond.methodLink "java/lang/Throwable" (1 : Nat) ({ cls := "java/lang/Object", name := "<init>", desc := "()V" } : Jvm.MethodName)) ∈ lw_all := lw_g (lw_at lw_m1 98 rfl) rfl
theorem q196 : (Jvm.Cond.fieldLink "java/lang/Throwable" (13 : Nat) "java/lang/Throwable" "UNASSIGNED_STACK" "[Ljava/lang/StackTraceElement;") ∈ lw_all := lw_g (lw_at lw_m1 99 rfl) rfl
theorem q197 : (Jvm.Cond.laysStatic "java/lang/Throwable" "UNASSIGNED_STACK" "[Ljava/lang/StackTraceElement;") ∈ lw_tbl := lw_at lw_m1 100 rfl
theorem q198 : (Jvm.Cond.fieldLink "java/lang/Throwable" (20 : Nat) "java/lang/Throwable" "SUPPRESSED_SENTINEL" "Ljava/util/List;") ∈ lw_all := lw_g (lw_at lw_m1 101 rfl) rfl
theorem q199 : (Jvm.Cond.laysStatic "java/lang/Throwable" "SUPPRESSED_SENTINEL" "Ljava/util/List;") ∈ lw_tbl := lw_at lw_m1 102 rfl
theorem q200 : (Jvm.Cond.methodLink "java/lang/Throwable" (27 : Nat) ({ cls := "java/lang/Throwable", name := "fillInStackTrace", desc := "()Ljava/lang/Throwable;" } : Jvm.MethodName)) ∈ lw_all := lw_g (lw_at lw_m1 103 rfl) rfl
theorem q201 : (Jvm.Cond.instanceMethod ({ cls := "java/lang/Throwable", name := "fillInStackTrace", desc := "()Ljava/lang/Throwable;" } : Jvm.MethodName)) ∈ lw_all := lw_g (lw_at lw_m1 104 rfl) rfl
theorem q202 : (Jvm.Cond.sameMethod "java/lang/Throwable" "java/lang/Throwable" "fillInStackTrace" "()Ljava/lang/Throwable;") ∈ lw_all := lw_g (lw_at lw_m1 105 rfl) rfl
theorem q205 : (Jvm.Cond.codeSync ({ cls := "java/lang/Throwable", name := "fillInStackTrace", desc := "()Ljava/lang/Throwable;" } : Jvm.MethodName) prog_41_method_18_code (1 : Nat) (Option.some (Jvm.ClassFile.FieldType.object "java/lang/Throwable"))) ∈ lw_all := lw_g (lw_at lw_m1 108 rfl) rfl
theorem q206 : (Jvm.Cond.methodLink "java/lang/Throwable" (202 : Nat) ({ cls := "java/lang/Throwable", name := "fillInStackTrace", desc := "(I)Ljava/lang/Throwable;" } : Jvm.MethodName)) ∈ lw_all := lw_g (lw_at lw_m1 109 rfl) rfl
theorem q207 : (Jvm.Cond.privateMethod ({ cls := "java/lang/Throwable", name := "fillInStackTrace", desc := "(I)Ljava/lang/Throwable;" } : Jvm.MethodName)) ∈ lw_tbl := lw_at lw_m1 110 rfl
theorem q208 : (Jvm.Cond.instanceMethod ({ cls := "java/lang/Throwable", name := "fillInStackTrace", desc := "(I)Ljava/lang/Throwable;" } : Jvm.MethodName)) ∈ lw_all := lw_g (lw_at lw_m1 111 rfl) rfl
theorem q209 : (Jvm.Cond.instantiable "java/lang/Throwable" (6 : Nat)) ∈ lw_all := lw_g (lw_at lw_m1 112 rfl) rfl
theorem q210 : (Jvm.Cond.native ({ cls := "java/lang/Throwable", name := "fillInStackTrace", desc := "(I)Ljava/lang/Throwable;" } : Jvm.MethodName)) ∈ lw_all := lw_g (lw_at lw_m1 113 rfl) rfl
theorem q442 : (Jvm.Cond.instanceMethod ({ cls := "java/lang/Throwable", name := "<init>", desc := "(Ljava/lang/String;)V" } : Jvm.MethodName)) ∈ lw_all := lw_g (lw_at lw_m2 105 rfl) rfl
theorem q443 : (Jvm.Cond.code ({ cls := "java/lang/Throwable", name := "<init>", desc := "(Ljava/lang/String;)V" } : Jvm.MethodName) prog_41_method_2_code (2 : Nat) (Option.none : Option Jvm.ClassFile.FieldType)) ∈ lw_all := lw_g (lw_at lw_m2 106 rfl) rfl
theorem q444 : (Jvm.Cond.fieldLink "java/lang/Throwable" (198 : Nat) "java/lang/Throwable" "backtrace" "Ljava/lang/Object;") ∈ lw_all := lw_g (lw_at lw_m2 107 rfl) rfl
theorem q445 : (Jvm.Cond.fieldLink "java/lang/Throwable" (31 : Nat) "java/lang/Throwable" "detailMessage" "Ljava/lang/String;") ∈ lw_all := lw_g (lw_at lw_m2 108 rfl) rfl
theorem q446 : (Jvm.Cond.fieldLink "java/lang/Throwable" (7 : Nat) "java/lang/Throwable" "cause" "Ljava/lang/Throwable;") ∈ lw_all := lw_g (lw_at lw_m2 109 rfl) rfl
theorem q447 : (Jvm.Cond.fieldLink "java/lang/Throwable" (17 : Nat) "java/lang/Throwable" "stackTrace" "[Ljava/lang/StackTraceElement;") ∈ lw_all := lw_g (lw_at lw_m2 110 rfl) rfl
theorem q448 : (Jvm.Cond.fieldLink "java/lang/Throwable" (24 : Nat) "java/lang/Throwable" "suppressedExceptions" "Ljava/util/List;") ∈ lw_all := lw_g (lw_at lw_m2 111 rfl) rfl
theorem q449 : (Jvm.Cond.soleField "java/lang/Throwable" "backtrace") ∈ lw_all := lw_g (lw_at lw_m2 112 rfl) rfl
theorem q450 : (Jvm.Cond.soleField "java/lang/Throwable" "detailMessage") ∈ lw_all := lw_g (lw_at lw_m2 113 rfl) rfl
theorem q451 : (Jvm.Cond.soleField "java/lang/Throwable" "cause") ∈ lw_all := lw_g (lw_at lw_m2 114 rfl) rfl
theorem q452 : (Jvm.Cond.soleField "java/lang/Throwable" "stackTrace") ∈ lw_all := lw_g (lw_at lw_m2 115 rfl) rfl
theorem q454 : (Jvm.Cond.soleField "java/lang/Throwable" "depth") ∈ lw_all := lw_g (lw_at lw_m2 117 rfl) rfl
theorem q455 : (Jvm.Cond.soleField "java/lang/Throwable" "suppressedExceptions") ∈ lw_all := lw_g (lw_at lw_m2 118 rfl) rfl
theorem q2383 : (Jvm.Cond.sameMethod "java/lang/Throwable" "java/lang/Throwable" "fillInStackTrace" "(I)Ljava/lang/Throwable;") ∈ lw_all := lw_g (lw_at lw_m10 126 rfl) rfl
theorem q2424 : (Jvm.Cond.castable "java/lang/Throwable" "java/lang/Object") ∈ lw_tbl := lw_at lw_m10 167 rfl
theorem q104 : (Jvm.Cond.initialized "java/lang/Exception") ∈ lw_all := lw_g (lw_at lw_m1 7 rfl) rfl
theorem q175 : (Jvm.Cond.declares ({ cls := "java/lang/Exception", name := "<init>", desc := "()V" } : Jvm.MethodName)) ∈ lw_tbl := lw_at lw_m1 78 rfl
theorem q176 : (Jvm.Cond.declares ({ cls := "java/lang/Exception", name := "<init>", desc := "(Ljava/lang/String;)V" } : Jvm.MethodName)) ∈ lw_tbl := lw_at lw_m1 79 rfl
theorem q439 : (Jvm.Cond.instanceMethod ({ cls := "java/lang/Exception", name := "<init>", desc := "(Ljava/lang/String;)V" } : Jvm.MethodName)) ∈ lw_all := lw_g (lw_at lw_m2 102 rfl) rfl
theorem q440 : (Jvm.Cond.code ({ cls := "java/lang/Exception", name := "<init>", desc := "(Ljava/lang/String;)V" } : Jvm.MethodName) prog_29_method_2_code (2 : Nat) (Option.none : Option Jvm.ClassFile.FieldType)) ∈ lw_all := lw_g (lw_at lw_m2 103 rfl) rfl
theorem q441 : (Jvm.Cond.methodLink "java/lang/Exception" (7 : Nat) ({ cls := "java/lang/Throwable", name := "<init>", desc := "(Ljava/lang/String;)V" } : Jvm.MethodName)) ∈ lw_all := lw_g (lw_at lw_m2 104 rfl) rfl
theorem q1172 : (Jvm.Cond.instanceMethod ({ cls := "java/lang/Exception", name := "<init>", desc := "()V" } : Jvm.MethodName)) ∈ lw_all := lw_g (lw_at lw_m5 115 rfl) rfl
theorem q1173 : (Jvm.Cond.code ({ cls := "java/lang/Exception", name := "<init>", desc := "()V" } : Jvm.MethodName) prog_29_method_1_code (1 : Nat) (Option.none : Option Jvm.ClassFile.FieldType)) ∈ lw_all := lw_g (lw_at lw_m5 116 rfl) rfl
theorem q1174 : (Jvm.Cond.methodLink "java/lang/Exception" (1 : Nat) ({ cls := "java/lang/Throwable", name := "<init>", desc := "()V" } : Jvm.MethodName)) ∈ lw_all := lw_g (lw_at lw_m5 117 rfl) rfl
theorem q105 : (Jvm.Cond.initialized "java/lang/RuntimeException") ∈ lw_all := lw_g (lw_at lw_m1 8 rfl) rfl
theorem q173 : (Jvm.Cond.declares ({ cls := "java/lang/RuntimeException", name := "<init>", desc := "()V" } : Jvm.MethodName)) ∈ lw_tbl := lw_at lw_m1 76 rfl
theorem q174 : (Jvm.Cond.declares ({ cls := "java/lang/RuntimeException", name := "<init>", desc := "(Ljava/lang/String;)V" } : Jvm.MethodName)) ∈ lw_tbl := lw_at lw_m1 77 rfl
theorem q436 : (Jvm.Cond.instanceMethod ({ cls := "java/lang/RuntimeException", name := "<init>", desc := "(Ljava/lang/String;)V" } : Jvm.MethodName)) ∈ lw_all := lw_g (lw_at lw_m2 99 rfl) rfl
theorem q437 : (Jvm.Cond.code ({ cls := "java/lang/RuntimeException", name := "<init>", desc := "(Ljava/lang/String;)V" } : Jvm.MethodName) prog_35_method_2_code (2 : Nat) (Option.none : Option Jvm.ClassFile.FieldType)) ∈ lw_all := lw_g (lw_at lw_m2 100 rfl) rfl
theorem q438 : (Jvm.Cond.methodLink "java/lang/RuntimeException" (7 : Nat) ({ cls := "java/lang/Exception", name := "<init>", desc := "(Ljava/lang/String;)V" } : Jvm.MethodName)) ∈ lw_all := lw_g (lw_at lw_m2 101 rfl) rfl
theorem q1169 : (Jvm.Cond.instanceMethod ({ cls := "java/lang/RuntimeException", name := "<init>", desc := "()V" } : Jvm.MethodName)) ∈ lw_all := lw_g (lw_at lw_m5 112 rfl) rfl
theorem q1170 : (Jvm.Cond.code ({ cls := "java/lang/RuntimeException", name := "<init>", desc := "()V" } : Jvm.MethodName) prog_35_method_1_code (1 : Nat) (Option.none : Option Jvm.ClassFile.FieldType)) ∈ lw_all := lw_g (lw_at lw_m5 113 rfl) rfl
theorem q1171 : (Jvm.Cond.methodLink "java/lang/RuntimeException" (1 : Nat) ({ cls := "java/lang/Exception", name := "<init>", desc := "()V" } : Jvm.MethodName)) ∈ lw_all := lw_g (lw_at lw_m5 114 rfl) rfl
theorem q106 : (Jvm.Cond.initialized "java/lang/IllegalArgumentException") ∈ lw_all := lw_g (lw_at lw_m1 9 rfl) rfl
theorem q171 : (Jvm.Cond.instantiable "java/lang/IllegalArgumentException" (6 : Nat)) ∈ lw_all := lw_g (lw_at lw_m1 74 rfl) rfl
theorem q172 : (Jvm.Cond.castable "java/lang/IllegalArgumentException" "java/lang/IllegalArgumentException") ∈ lw_tbl := lw_at lw_m1 75 rfl
theorem q179 : (Jvm.Cond.selects "java/lang/IllegalArgumentException" ({ cls := "java/lang/Throwable", name := "fillInStackTrace", desc := "(I)Ljava/lang/Throwable;" } : Jvm.MethodName) ({ cls := "java/lang/Throwable", name := "fillInStackTrace", desc := "(I)Ljava/lang/Throwable;" } : Jvm.MethodName)) ∈ lw_all := lw_g (lw_at lw_m1 82 rfl) rfl
theorem q180 : (Jvm.Cond.selects "java/lang/IllegalArgumentException" ({ cls := "java/lang/Throwable", name := "fillInStackTrace", desc := "()Ljava/lang/Throwable;" } : Jvm.MethodName) ({ cls := "java/lang/Throwable", name := "fillInStackTrace", desc := "()Ljava/lang/Throwable;" } : Jvm.MethodName)) ∈ lw_all := lw_g (lw_at lw_m1 83 rfl) rfl
theorem q181 : (Jvm.Cond.lays "java/lang/IllegalArgumentException" "java/lang/Throwable" "cause" "Ljava/lang/Throwable;") ∈ lw_all := lw_g (lw_at lw_m1 84 rfl) rfl
theorem q183 : (Jvm.Cond.lays "java/lang/IllegalArgumentException" "java/lang/Throwable" "stackTrace" "[Ljava/lang/StackTraceElement;") ∈ lw_all := lw_g (lw_at lw_m1 86 rfl) rfl
theorem q185 : (Jvm.Cond.lays "java/lang/IllegalArgumentException" "java/lang/Throwable" "suppressedExceptions" "Ljava/util/List;") ∈ lw_all := lw_g (lw_at lw_m1 88 rfl) rfl
theorem q187 : (Jvm.Cond.lays "java/lang/IllegalArgumentException" "java/lang/Throwable" "detailMessage" "Ljava/lang/String;") ∈ lw_all := lw_g (lw_at lw_m1 90 rfl) rfl
theorem q189 : (Jvm.Cond.lays "java/lang/IllegalArgumentException" "java/lang/Throwable" "backtrace" "Ljava/lang/Object;") ∈ lw_all := lw_g (lw_at lw_m1 92 rfl) rfl
theorem q433 : (Jvm.Cond.instanceMethod ({ cls := "java/lang/IllegalArgumentException", name := "<init>", desc := "(Ljava/lang/String;)V" } : Jvm.MethodName)) ∈ lw_all := lw_g (lw_at lw_m2 96 rfl) rfl
theorem q434 : (Jvm.Cond.code ({ cls := "java/lang/IllegalArgumentException", name := "<init>", desc := "(Ljava/lang/String;)V" } : Jvm.MethodName) prog_30_method_2_code (2 : Nat) (Option.none : Option Jvm.ClassFile.FieldType)) ∈ lw_all := lw_g (lw_at lw_m2 97 rfl) rfl
theorem q435 : (Jvm.Cond.methodLink "java/lang/IllegalArgumentException" (7 : Nat) ({ cls := "java/lang/RuntimeException", name := "<init>", desc := "(Ljava/lang/String;)V" } : Jvm.MethodName)) ∈ lw_all := lw_g (lw_at lw_m2 98 rfl) rfl
theorem q453 : (Jvm.Cond.lays "java/lang/IllegalArgumentException" "java/lang/Throwable" "depth" "I") ∈ lw_all := lw_g (lw_at lw_m2 116 rfl) rfl
theorem q456 : (Jvm.Cond.superclass "java/lang/IllegalArgumentException" "java/lang/RuntimeException") ∈ lw_all := lw_g (lw_at lw_m2 119 rfl) rfl
theorem q664 : (Jvm.Cond.selects "java/lang/IllegalArgumentException" ({ cls := "java/lang/Object", name := "getClass", desc := "()Ljava/lang/Class;" } : Jvm.MethodName) ({ cls := "java/lang/Object", name := "getClass", desc := "()Ljava/lang/Class;" } : Jvm.MethodName)) ∈ lw_all := lw_g (lw_at lw_m3 87 rfl) rfl
theorem q1166 : (Jvm.Cond.instanceMethod ({ cls := "java/lang/IllegalArgumentException", name := "<init>", desc := "()V" } : Jvm.MethodName)) ∈ lw_all := lw_g (lw_at lw_m5 109 rfl) rfl
theorem q1167 : (Jvm.Cond.code ({ cls := "java/lang/IllegalArgumentException", name := "<init>", desc := "()V" } : Jvm.MethodName) prog_30_method_1_code (1 : Nat) (Option.none : Option Jvm.ClassFile.FieldType)) ∈ lw_all := lw_g (lw_at lw_m5 110 rfl) rfl
theorem q1168 : (Jvm.Cond.methodLink "java/lang/IllegalArgumentException" (1 : Nat) ({ cls := "java/lang/RuntimeException", name := "<init>", desc := "()V" } : Jvm.MethodName)) ∈ lw_all := lw_g (lw_at lw_m5 111 rfl) rfl
theorem q2405 : (Jvm.Cond.castable "java/lang/IllegalArgumentException" "java/lang/Object") ∈ lw_tbl := lw_at lw_m10 148 rfl
theorem q107 : (Jvm.Cond.initialized "java/lang/AbstractStringBuilder") ∈ lw_all := lw_g (lw_at lw_m1 10 rfl) rfl
theorem q217 : (Jvm.Cond.instanceMethod ({ cls := "java/lang/AbstractStringBuilder", name := "<init>", desc := "(I)V" } : Jvm.MethodName)) ∈ lw_all := lw_g (lw_at lw_m1 120 rfl) rfl
theorem q218 : (Jvm.Cond.code ({ cls := "java/lang/AbstractStringBuilder", name := "<init>", desc := "(I)V" } : Jvm.MethodName) prog_23_method_2_code (2 : Nat) (Option.none : Option Jvm.ClassFile.FieldType)) ∈ lw_all := lw_g (lw_at lw_m1 121 rfl) rfl
theorem q219 : (Jvm.Cond.methodLink "java/lang/AbstractStringBuilder" (3 : Nat) ({ cls := "java/lang/Object", name := "<init>", desc := "()V" } : Jvm.MethodName)) ∈ lw_all := lw_g (lw_at lw_m1 122 rfl) rfl
theorem q220 : (Jvm.Cond.fieldLink "java/lang/AbstractStringBuilder" (18 : Nat) "java/lang/String" "COMPACT_STRINGS" "Z") ∈ lw_all := lw_g (lw_at lw_m1 123 rfl) rfl
theorem q222 : (Jvm.Cond.methodLink "java/lang/AbstractStringBuilder" (26 : Nat) ({ cls := "java/lang/StringUTF16", name := "newBytesFor", desc := "(I)[B" } : Jvm.MethodName)) ∈ lw_all := lw_g (lw_at lw_m1 125 rfl) rfl
theorem q229 : (Jvm.Cond.fieldLink "java/lang/AbstractStringBuilder" (15 : Nat) "java/lang/AbstractStringBuilder" "value" "[B") ∈ lw_all := lw_g (lw_at lw_m1 132 rfl) rfl
theorem q230 : (Jvm.Cond.fieldLink "java/lang/AbstractStringBuilder" (22 : Nat) "java/lang/AbstractStringBuilder" "coder" "B") ∈ lw_all := lw_g (lw_at lw_m1 133 rfl) rfl
theorem q232 : (Jvm.Cond.fieldLink "java/lang/AbstractStringBuilder" (79 : Nat) "java/lang/AbstractStringBuilder" "count" "I") ∈ lw_all := lw_g (lw_at lw_m1 135 rfl) rfl
theorem q234 : (Jvm.Cond.soleField "java/lang/AbstractStringBuilder" "value") ∈ lw_all := lw_g (lw_at lw_m1 137 rfl) rfl
theorem q236 : (Jvm.Cond.soleField "java/lang/AbstractStringBuilder" "coder") ∈ lw_all := lw_g (lw_at lw_m1 139 rfl) rfl
theorem q238 : (Jvm.Cond.soleField "java/lang/AbstractStringBuilder" "maybeLatin1") ∈ lw_all := lw_g (lw_at lw_m1 141 rfl) rfl
theorem q240 : (Jvm.Cond.soleField "java/lang/AbstractStringBuilder" "count") ∈ lw_all := lw_g (lw_at lw_m1 143 rfl) rfl
theorem q249 : (Jvm.Cond.instanceMethod ({ cls := "java/lang/AbstractStringBuilder", name := "append", desc := "(Ljava/lang/String;)Ljava/lang/AbstractStringBuilder;" } : Jvm.MethodName)) ∈ lw_all := lw_g (lw_at lw_m1 152 rfl) rfl
theorem q250 : (Jvm.Cond.code ({ cls := "java/lang/AbstractStringBuilder", name := "append", desc := "(Ljava/lang/String;)Ljava/lang/AbstractStringBuilder;" } : Jvm.MethodName) prog_23_method_22_code (3 : Nat) (Option.some (Jvm.ClassFile.FieldType.object "java/lang/AbstractStringBuilder"))) ∈ lw_all := lw_g (lw_at lw_m1 153 rfl) rfl
theorem q251 : (Jvm.Cond.methodLink "java/lang/AbstractStringBuilder" (204 : Nat) ({ cls := "java/lang/AbstractStringBuilder", name := "appendNull", desc := "()Ljava/lang/AbstractStringBuilder;" } : Jvm.MethodName)) ∈ lw_all := lw_g (lw_at lw_m1 154 rfl) rfl
theorem q252 : (Jvm.Cond.privateMethod ({ cls := "java/lang/AbstractStringBuilder", name := "appendNull", desc := "()Ljava/lang/AbstractStringBuilder;" } : Jvm.MethodName)) ∈ lw_tbl := lw_at lw_m1 155 rfl
theorem q253 : (Jvm.Cond.instanceMethod ({ cls := "java/lang/AbstractStringBuilder", name := "appendNull", desc := "()Ljava/lang/AbstractStringBuilder;" } : Jvm.MethodName)) ∈ lw_all := lw_g (lw_at lw_m1 156 rfl) rfl
theorem q254 : (Jvm.Cond.code ({ cls := "java/lang/AbstractStringBuilder", name := "appendNull", desc := "()Ljava/lang/AbstractStringBuilder;" } : Jvm.MethodName) prog_23_method_26_code (3 : Nat) (Option.some (Jvm.ClassFile.FieldType.object "java/lang/AbstractStringBuilder"))) ∈ lw_all := lw_g (lw_at lw_m1 157 rfl) rfl
theorem q255 : (Jvm.Cond.methodLink "java/lang/AbstractStringBuilder" (100 : Nat) ({ cls := "java/lang/AbstractStringBuilder", name := "ensureCapacityInternal", desc := "(I)V" } : Jvm.MethodName)) ∈ lw_all := lw_g (lw_at lw_m1 158 rfl) rfl
theorem q256 : (Jvm.Cond.privateMethod ({ cls := "java/lang/AbstractStringBuilder", name := "ensureCapacityInternal", desc := "(I)V" } : Jvm.MethodName)) ∈ lw_tbl := lw_at lw_m1 159 rfl
theorem q257 : (Jvm.Cond.instanceMethod ({ cls := "java/lang/AbstractStringBuilder", name := "ensureCapacityInternal", desc := "(I)V" } : Jvm.MethodName)) ∈ lw_all := lw_g (lw_at lw_m1 160 rfl) rfl
theorem q258 : (Jvm.Cond.code ({ cls := "java/lang/AbstractStringBuilder", name := "ensureCapacityInternal", desc := "(I)V" } : Jvm.MethodName) prog_23_method_9_code (3 : Nat) (Option.none : Option Jvm.ClassFile.FieldType)) ∈ lw_all := lw_g (lw_at lw_m1 161 rfl) rfl
theorem q259 : (Jvm.Cond.methodLink "java/lang/AbstractStringBuilder" (104 : Nat) ({ cls := "java/lang/AbstractStringBuilder", name := "newCapacity", desc := "(I)I" } : Jvm.MethodName)) ∈ lw_all := lw_g (lw_at lw_m1 162 rfl) rfl
theorem q260 : (Jvm.Cond.privateMethod ({ cls := "java/lang/AbstractStringBuilder", name := "newCapacity", desc := "(I)I" } : Jvm.MethodName)) ∈ lw_tbl := lw_at lw_m1 163 rfl
theorem q261 : (Jvm.Cond.instanceMethod ({ cls := "java/lang/AbstractStringBuilder", name := "newCapacity", desc := "(I)I" } : Jvm.MethodName)) ∈ lw_all := lw_g (lw_at lw_m1 164 rfl) rfl
theorem q262 : (Jvm.Cond.code ({ cls := "java/lang/AbstractStringBuilder", name := "newCapacity", desc := "(I)I" } : Jvm.MethodName) prog_23_method_10_code (6 : Nat) (Option.some Jvm.ClassFile.FieldType.int)) ∈ lw_all := lw_g (lw_at lw_m1 165 rfl) rfl
theorem q263 : (Jvm.Cond.methodLink "java/lang/AbstractStringBuilder" (114 : Nat) ({ cls := "jdk/internal/util/ArraysSupport", name := "newLength", desc := "(III)I" } : Jvm.MethodName)) ∈ lw_all := lw_g (lw_at lw_m1 166 rfl) rfl
theorem q273 : (Jvm.Cond.constant "java/lang/AbstractStringBuilder" (39 : Nat) (2147483647 : Int32)) ∈ lw_all := lw_g (lw_at lw_m1 176 rfl) rfl
theorem q274 : (Jvm.Cond.methodLink "java/lang/AbstractStringBuilder" (108 : Nat) ({ cls := "java/util/Arrays", name := "copyOf", desc := "([BI)[B" } : Jvm.MethodName)) ∈ lw_all := lw_g (lw_at lw_m1 177 rfl) rfl
theorem q290 : (Jvm.Cond.methodLink "java/lang/AbstractStringBuilder" (83 : Nat) ({ cls := "java/lang/AbstractStringBuilder", name := "isLatin1", desc := "()Z" } : Jvm.MethodName)) ∈ lw_all := lw_g (lw_at lw_m1 193 rfl) rfl
theorem q291 : (Jvm.Cond.instanceMethod ({ cls := "java/lang/AbstractStringBuilder", name := "isLatin1", desc := "()Z" } : Jvm.MethodName)) ∈ lw_all := lw_g (lw_at lw_m1 194 rfl) rfl
theorem q292 : (Jvm.Cond.sameMethod "java/lang/AbstractStringBuilder" "java/lang/AbstractStringBuilder" "isLatin1" "()Z") ∈ lw_all := lw_g (lw_at lw_m1 195 rfl) rfl
theorem q294 : (Jvm.Cond.code ({ cls := "java/lang/AbstractStringBuilder", name := "isLatin1", desc := "()Z" } : Jvm.MethodName) prog_23_method_68_code (1 : Nat) (Option.some Jvm.ClassFile.FieldType.boolean)) ∈ lw_all := lw_g (lw_at lw_m1 197 rfl) rfl
theorem q295 : (Jvm.Cond.methodLink "java/lang/AbstractStringBuilder" (226 : Nat) ({ cls := "java/lang/StringUTF16", name := "putCharsAt", desc := "([BICCCC)I" } : Jvm.MethodName)) ∈ lw_all := lw_g (lw_at lw_m1 198 rfl) rfl
theorem q321 : (Jvm.Cond.methodLink "java/lang/AbstractStringBuilder" (32 : Nat) ({ cls := "java/lang/String", name := "length", desc := "()I" } : Jvm.MethodName)) ∈ lw_all := lw_g (lw_at lw_m1 224 rfl) rfl
theorem q330 : (Jvm.Cond.methodLink "java/lang/AbstractStringBuilder" (208 : Nat) ({ cls := "java/lang/AbstractStringBuilder", name := "putStringAt", desc := "(ILjava/lang/String;)V" } : Jvm.MethodName)) ∈ lw_all := lw_g (lw_at lw_m1 233 rfl) rfl
theorem q331 : (Jvm.Cond.privateMethod ({ cls := "java/lang/AbstractStringBuilder", name := "putStringAt", desc := "(ILjava/lang/String;)V" } : Jvm.MethodName)) ∈ lw_tbl := lw_at lw_m1 234 rfl
theorem q332 : (Jvm.Cond.instanceMethod ({ cls := "java/lang/AbstractStringBuilder", name := "putStringAt", desc := "(ILjava/lang/String;)V" } : Jvm.MethodName)) ∈ lw_all := lw_g (lw_at lw_m1 235 rfl) rfl
theorem q333 : (Jvm.Cond.code ({ cls := "java/lang/AbstractStringBuilder", name := "putStringAt", desc := "(ILjava/lang/String;)V" } : Jvm.MethodName) prog_23_method_73_code (3 : Nat) (Option.none : Option Jvm.ClassFile.FieldType)) ∈ lw_all := lw_g (lw_at lw_m1 236 rfl) rfl
theorem q334 : (Jvm.Cond.methodLink "java/lang/AbstractStringBuilder" (397 : Nat) ({ cls := "java/lang/AbstractStringBuilder", name := "inflateIfNeededFor", desc := "(Ljava/lang/String;)V" } : Jvm.MethodName)) ∈ lw_all := lw_g (lw_at lw_m1 237 rfl) rfl
theorem q335 : (Jvm.Cond.privateMethod ({ cls := "java/lang/AbstractStringBuilder", name := "inflateIfNeededFor", desc := "(Ljava/lang/String;)V" } : Jvm.MethodName)) ∈ lw_tbl := lw_at lw_m1 238 rfl
theorem q336 : (Jvm.Cond.instanceMethod ({ cls := "java/lang/AbstractStringBuilder", name := "inflateIfNeededFor", desc := "(Ljava/lang/String;)V" } : Jvm.MethodName)) ∈ lw_all := lw_g (lw_at lw_m1 239 rfl) rfl
theorem q337 : (Jvm.Cond.code ({ cls := "java/lang/AbstractStringBuilder", name := "inflateIfNeededFor", desc := "(Ljava/lang/String;)V" } : Jvm.MethodName) prog_23_method_71_code (2 : Nat) (Option.none : Option Jvm.ClassFile.FieldType)) ∈ lw_all := lw_g (lw_at lw_m2 0 rfl) rfl
theorem q338 : (Jvm.Cond.methodLink "java/lang/AbstractStringBuilder" (40 : Nat) ({ cls := "java/lang/String", name := "coder", desc := "()B" } : Jvm.MethodName)) ∈ lw_all := lw_g (lw_at lw_m2 1 rfl) rfl
theorem q339 : (Jvm.Cond.methodLink "java/lang/AbstractStringBuilder" (195 : Nat) ({ cls := "java/lang/AbstractStringBuilder", name := "inflate", desc := "()V" } : Jvm.MethodName)) ∈ lw_all := lw_g (lw_at lw_m2 2 rfl) rfl
theorem q340 : (Jvm.Cond.privateMethod ({ cls := "java/lang/AbstractStringBuilder", name := "inflate", desc := "()V" } : Jvm.MethodName)) ∈ lw_tbl := lw_at lw_m2 3 rfl
theorem q341 : (Jvm.Cond.instanceMethod ({ cls := "java/lang/AbstractStringBuilder", name := "inflate", desc := "()V" } : Jvm.MethodName)) ∈ lw_all := lw_g (lw_at lw_m2 4 rfl) rfl
theorem q342 : (Jvm.Cond.code ({ cls := "java/lang/AbstractStringBuilder", name := "inflate", desc := "()V" } : Jvm.MethodName) prog_23_method_11_code (2 : Nat) (Option.none : Option Jvm.ClassFile.FieldType)) ∈ lw_all := lw_g (lw_at lw_m2 5 rfl) rfl
theorem q343 : (Jvm.Cond.methodLink "java/lang/AbstractStringBuilder" (125 : Nat) ({ cls := "java/lang/StringLatin1", name := "inflate", desc := "([BI[BII)V" } : Jvm.MethodName)) ∈ lw_all := lw_g (lw_at lw_m2 6 rfl) rfl
theorem q358 : (Jvm.Cond.methodLink "java/lang/AbstractStringBuilder" (399 : Nat) ({ cls := "java/lang/String", name := "getBytes", desc := "([BIB)V" } : Jvm.MethodName)) ∈ lw_all := lw_g (lw_at lw_m2 21 rfl) rfl
theorem q369 : (Jvm.Cond.instanceMethod ({ cls := "java/lang/AbstractStringBuilder", name := "append", desc := "(I)Ljava/lang/AbstractStringBuilder;" } : Jvm.MethodName)) ∈ lw_all := lw_g (lw_at lw_m2 32 rfl) rfl
theorem q370 : (Jvm.Cond.code ({ cls := "java/lang/AbstractStringBuilder", name := "append", desc := "(I)Ljava/lang/AbstractStringBuilder;" } : Jvm.MethodName) prog_23_method_32_code (4 : Nat) (Option.some (Jvm.ClassFile.FieldType.object "java/lang/AbstractStringBuilder"))) ∈ lw_all := lw_g (lw_at lw_m2 33 rfl) rfl
theorem q371 : (Jvm.Cond.methodLink "java/lang/AbstractStringBuilder" (245 : Nat) ({ cls := "java/lang/Integer", name := "stringSize", desc := "(I)I" } : Jvm.MethodName)) ∈ lw_all := lw_g (lw_at lw_m2 34 rfl) rfl
theorem q374 : (Jvm.Cond.methodLink "java/lang/AbstractStringBuilder" (248 : Nat) ({ cls := "java/lang/Integer", name := "getChars", desc := "(II[B)I" } : Jvm.MethodName)) ∈ lw_all := lw_g (lw_at lw_m2 37 rfl) rfl
theorem q381 : (Jvm.Cond.methodLink "java/lang/AbstractStringBuilder" (251 : Nat) ({ cls := "java/lang/StringUTF16", name := "getChars", desc := "(III[B)I" } : Jvm.MethodName)) ∈ lw_all := lw_g (lw_at lw_m2 44 rfl) rfl
theorem q403 : (Jvm.Cond.instanceMethod ({ cls := "java/lang/AbstractStringBuilder", name := "getValue", desc := "()[B" } : Jvm.MethodName)) ∈ lw_all := lw_g (lw_at lw_m2 66 rfl) rfl
theorem q404 : (Jvm.Cond.sameMethod "java/lang/AbstractStringBuilder" "java/lang/AbstractStringBuilder" "getValue" "()[B") ∈ lw_all := lw_g (lw_at lw_m2 67 rfl) rfl
theorem q406 : (Jvm.Cond.code ({ cls := "java/lang/AbstractStringBuilder", name := "getValue", desc := "()[B" } : Jvm.MethodName) prog_23_method_64_code (1 : Nat) (Option.some (Jvm.ClassFile.FieldType.array Jvm.ClassFile.FieldType.byte))) ∈ lw_all := lw_g (lw_at lw_m2 69 rfl) rfl
theorem q408 : (Jvm.Cond.instanceMethod ({ cls := "java/lang/AbstractStringBuilder", name := "length", desc := "()I" } : Jvm.MethodName)) ∈ lw_all := lw_g (lw_at lw_m2 71 rfl) rfl
theorem q409 : (Jvm.Cond.sameMethod "java/lang/AbstractStringBuilder" "java/lang/AbstractStringBuilder" "length" "()I") ∈ lw_all := lw_g (lw_at lw_m2 72 rfl) rfl
theorem q414 : (Jvm.Cond.code ({ cls := "java/lang/AbstractStringBuilder", name := "length", desc := "()I" } : Jvm.MethodName) prog_23_method_6_code (1 : Nat) (Option.some Jvm.ClassFile.FieldType.int)) ∈ lw_all := lw_g (lw_at lw_m2 77 rfl) rfl
theorem q1205 : (Jvm.Cond.instanceMethod ({ cls := "java/lang/AbstractStringBuilder", name := "append", desc := "(C)Ljava/lang/AbstractStringBuilder;" } : Jvm.MethodName)) ∈ lw_all := lw_g (lw_at lw_m5 148 rfl) rfl
theorem q1206 : (Jvm.Cond.code ({ cls := "java/lang/AbstractStringBuilder", name := "append", desc := "(C)Ljava/lang/AbstractStringBuilder;" } : Jvm.MethodName) prog_23_method_31_code (2 : Nat) (Option.some (Jvm.ClassFile.FieldType.object "java/lang/AbstractStringBuilder"))) ∈ lw_all := lw_g (lw_at lw_m5 149 rfl) rfl
theorem q1207 : (Jvm.Cond.methodLink "java/lang/AbstractStringBuilder" (191 : Nat) ({ cls := "java/lang/StringLatin1", name := "canEncode", desc := "(C)Z" } : Jvm.MethodName)) ∈ lw_all := lw_g (lw_at lw_m5 150 rfl) rfl
theorem q1210 : (Jvm.Cond.methodLink "java/lang/AbstractStringBuilder" (197 : Nat) ({ cls := "java/lang/StringUTF16", name := "putCharSB", desc := "([BII)V" } : Jvm.MethodName)) ∈ lw_all := lw_g (lw_at lw_m5 153 rfl) rfl
theorem q2384 : (Jvm.Cond.sameMethod "java/lang/AbstractStringBuilder" "java/lang/AbstractStringBuilder" "append" "(Ljava/lang/String;)Ljava/lang/AbstractStringBuilder;") ∈ lw_all := lw_g (lw_at lw_m10 127 rfl) rfl
theorem q2385 : (Jvm.Cond.sameMethod "java/lang/AbstractStringBuilder" "java/lang/AbstractStringBuilder" "appendNull" "()Ljava/lang/AbstractStringBuilder;") ∈ lw_all := lw_g (lw_at lw_m10 128 rfl) rfl
theorem q2386 : (Jvm.Cond.sameMethod "java/lang/AbstractStringBuilder" "java/lang/AbstractStringBuilder" "ensureCapacityInternal" "(I)V") ∈ lw_all := lw_g (lw_at lw_m10 129 rfl) rfl
theorem q2387 : (Jvm.Cond.sameMethod "java/lang/AbstractStringBuilder" "java/lang/AbstractStringBuilder" "newCapacity" "(I)I") ∈ lw_all := lw_g (lw_at lw_m10 130 rfl) rfl
theorem q2388 : (Jvm.Cond.sameMethod "java/lang/AbstractStringBuilder" "java/lang/AbstractStringBuilder" "putStringAt" "(ILjava/lang/String;)V") ∈ lw_all := lw_g (lw_at lw_m10 131 rfl) rfl
theorem q2389 : (Jvm.Cond.sameMethod "java/lang/AbstractStringBuilder" "java/lang/AbstractStringBuilder" "inflateIfNeededFor" "(Ljava/lang/String;)V") ∈ lw_all := lw_g (lw_at lw_m10 132 rfl) rfl
theorem q2390 : (Jvm.Cond.sameMethod "java/lang/AbstractStringBuilder" "java/lang/AbstractStringBuilder" "inflate" "()V") ∈ lw_all := lw_g (lw_at lw_m10 133 rfl) rfl
theorem q2391 : (Jvm.Cond.sameMethod "java/lang/AbstractStringBuilder" "java/lang/AbstractStringBuilder" "append" "(I)Ljava/lang/AbstractStringBuilder;") ∈ lw_all := lw_g (lw_at lw_m10 134 rfl) rfl
theorem q2394 : (Jvm.Cond.sameMethod "java/lang/AbstractStringBuilder" "java/lang/AbstractStringBuilder" "append" "(C)Ljava/lang/AbstractStringBuilder;") ∈ lw_all := lw_g (lw_at lw_m10 137 rfl) rfl
theorem q108 : (Jvm.Cond.initialized "java/lang/StringBuilder") ∈ lw_all := lw_g (lw_at lw_m1 11 rfl) rfl
theorem q212 : (Jvm.Cond.instantiable "java/lang/StringBuilder" (4 : Nat)) ∈ lw_all := lw_g (lw_at lw_m1 115 rfl) rfl
theorem q214 : (Jvm.Cond.instanceMethod ({ cls := "java/lang/StringBuilder", name := "<init>", desc := "()V" } : Jvm.MethodName)) ∈ lw_all := lw_g (lw_at lw_m1 117 rfl) rfl
theorem q215 : (Jvm.Cond.code ({ cls := "java/lang/StringBuilder", name := "<init>", desc := "()V" } : Jvm.MethodName) prog_37_method_1_code (1 : Nat) (Option.none : Option Jvm.ClassFile.FieldType)) ∈ lw_all := lw_g (lw_at lw_m1 118 rfl) rfl
theorem q216 : (Jvm.Cond.methodLink "java/lang/StringBuilder" (1 : Nat) ({ cls := "java/lang/AbstractStringBuilder", name := "<init>", desc := "(I)V" } : Jvm.MethodName)) ∈ lw_all := lw_g (lw_at lw_m1 119 rfl) rfl
theorem q233 : (Jvm.Cond.lays "java/lang/StringBuilder" "java/lang/AbstractStringBuilder" "value" "[B") ∈ lw_all := lw_g (lw_at lw_m1 136 rfl) rfl
theorem q235 : (Jvm.Cond.lays "java/lang/StringBuilder" "java/lang/AbstractStringBuilder" "coder" "B") ∈ lw_all := lw_g (lw_at lw_m1 138 rfl) rfl
theorem q237 : (Jvm.Cond.lays "java/lang/StringBuilder" "java/lang/AbstractStringBuilder" "maybeLatin1" "Z") ∈ lw_all := lw_g (lw_at lw_m1 140 rfl) rfl
theorem q239 : (Jvm.Cond.lays "java/lang/StringBuilder" "java/lang/AbstractStringBuilder" "count" "I") ∈ lw_all := lw_g (lw_at lw_m1 142 rfl) rfl
theorem q241 : (Jvm.Cond.superclass "java/lang/StringBuilder" "java/lang/AbstractStringBuilder") ∈ lw_all := lw_g (lw_at lw_m1 144 rfl) rfl
theorem q245 : (Jvm.Cond.instanceMethod ({ cls := "java/lang/StringBuilder", name := "append", desc := "(Ljava/lang/String;)Ljava/lang/StringBuilder;" } : Jvm.MethodName)) ∈ lw_all := lw_g (lw_at lw_m1 148 rfl) rfl
theorem q246 : (Jvm.Cond.selects "java/lang/StringBuilder" ({ cls := "java/lang/StringBuilder", name := "append", desc := "(Ljava/lang/String;)Ljava/lang/StringBuilder;" } : Jvm.MethodName) ({ cls := "java/lang/StringBuilder", name := "append", desc := "(Ljava/lang/String;)Ljava/lang/StringBuilder;" } : Jvm.MethodName)) ∈ lw_all := lw_g (lw_at lw_m1 149 rfl) rfl
theorem q247 : (Jvm.Cond.code ({ cls := "java/lang/StringBuilder", name := "append", desc := "(Ljava/lang/String;)Ljava/lang/StringBuilder;" } : Jvm.MethodName) prog_37_method_7_code (2 : Nat) (Option.some (Jvm.ClassFile.FieldType.object "java/lang/StringBuilder"))) ∈ lw_all := lw_g (lw_at lw_m1 150 rfl) rfl
theorem q248 : (Jvm.Cond.methodLink "java/lang/StringBuilder" (29 : Nat) ({ cls := "java/lang/AbstractStringBuilder", name := "append", desc := "(Ljava/lang/String;)Ljava/lang/AbstractStringBuilder;" } : Jvm.MethodName)) ∈ lw_all := lw_g (lw_at lw_m1 151 rfl) rfl
theorem q293 : (Jvm.Cond.selects "java/lang/StringBuilder" ({ cls := "java/lang/AbstractStringBuilder", name := "isLatin1", desc := "()Z" } : Jvm.MethodName) ({ cls := "java/lang/AbstractStringBuilder", name := "isLatin1", desc := "()Z" } : Jvm.MethodName)) ∈ lw_all := lw_g (lw_at lw_m1 196 rfl) rfl
theorem q365 : (Jvm.Cond.instanceMethod ({ cls := "java/lang/StringBuilder", name := "append", desc := "(I)Ljava/lang/StringBuilder;" } : Jvm.MethodName)) ∈ lw_all := lw_g (lw_at lw_m2 28 rfl) rfl
theorem q366 : (Jvm.Cond.selects "java/lang/StringBuilder" ({ cls := "java/lang/StringBuilder", name := "append", desc := "(I)Ljava/lang/StringBuilder;" } : Jvm.MethodName) ({ cls := "java/lang/StringBuilder", name := "append", desc := "(I)Ljava/lang/StringBuilder;" } : Jvm.MethodName)) ∈ lw_all := lw_g (lw_at lw_m2 29 rfl) rfl
theorem q367 : (Jvm.Cond.code ({ cls := "java/lang/StringBuilder", name := "append", desc := "(I)Ljava/lang/StringBuilder;" } : Jvm.MethodName) prog_37_method_15_code (2 : Nat) (Option.some (Jvm.ClassFile.FieldType.object "java/lang/StringBuilder"))) ∈ lw_all := lw_g (lw_at lw_m2 30 rfl) rfl
theorem q368 : (Jvm.Cond.methodLink "java/lang/StringBuilder" (53 : Nat) ({ cls := "java/lang/AbstractStringBuilder", name := "append", desc := "(I)Ljava/lang/AbstractStringBuilder;" } : Jvm.MethodName)) ∈ lw_all := lw_g (lw_at lw_m2 31 rfl) rfl
theorem q390 : (Jvm.Cond.instanceMethod ({ cls := "java/lang/StringBuilder", name := "toString", desc := "()Ljava/lang/String;" } : Jvm.MethodName)) ∈ lw_all := lw_g (lw_at lw_m2 53 rfl) rfl
theorem q391 : (Jvm.Cond.selects "java/lang/StringBuilder" ({ cls := "java/lang/StringBuilder", name := "toString", desc := "()Ljava/lang/String;" } : Jvm.MethodName) ({ cls := "java/lang/StringBuilder", name := "toString", desc := "()Ljava/lang/String;" } : Jvm.MethodName)) ∈ lw_all := lw_g (lw_at lw_m2 54 rfl) rfl
theorem q392 : (Jvm.Cond.code ({ cls := "java/lang/StringBuilder", name := "toString", desc := "()Ljava/lang/String;" } : Jvm.MethodName) prog_37_method_42_code (1 : Nat) (Option.some (Jvm.ClassFile.FieldType.object "java/lang/String"))) ∈ lw_all := lw_g (lw_at lw_m2 55 rfl) rfl
theorem q393 : (Jvm.Cond.classLink "java/lang/StringBuilder" (18 : Nat) "java/lang/String") ∈ lw_all := lw_g (lw_at lw_m2 56 rfl) rfl
theorem q395 : (Jvm.Cond.methodLink "java/lang/StringBuilder" (137 : Nat) ({ cls := "java/lang/String", name := "<init>", desc := "(Ljava/lang/StringBuilder;)V" } : Jvm.MethodName)) ∈ lw_all := lw_g (lw_at lw_m2 58 rfl) rfl
theorem q405 : (Jvm.Cond.selects "java/lang/StringBuilder" ({ cls := "java/lang/AbstractStringBuilder", name := "getValue", desc := "()[B" } : Jvm.MethodName) ({ cls := "java/lang/AbstractStringBuilder", name := "getValue", desc := "()[B" } : Jvm.MethodName)) ∈ lw_all := lw_g (lw_at lw_m2 68 rfl) rfl
theorem q410 : (Jvm.Cond.selects "java/lang/StringBuilder" ({ cls := "java/lang/AbstractStringBuilder", name := "length", desc := "()I" } : Jvm.MethodName) ({ cls := "java/lang/StringBuilder", name := "length", desc := "()I" } : Jvm.MethodName)) ∈ lw_all := lw_g (lw_at lw_m2 73 rfl) rfl
theorem q411 : (Jvm.Cond.instanceMethod ({ cls := "java/lang/StringBuilder", name := "length", desc := "()I" } : Jvm.MethodName)) ∈ lw_all := lw_g (lw_at lw_m2 74 rfl) rfl
theorem q412 : (Jvm.Cond.code ({ cls := "java/lang/StringBuilder", name := "length", desc := "()I" } : Jvm.MethodName) prog_37_method_93_code (1 : Nat) (Option.some Jvm.ClassFile.FieldType.int)) ∈ lw_all := lw_g (lw_at lw_m2 75 rfl) rfl
theorem q413 : (Jvm.Cond.methodLink "java/lang/StringBuilder" (343 : Nat) ({ cls := "java/lang/AbstractStringBuilder", name := "length", desc := "()I" } : Jvm.MethodName)) ∈ lw_all := lw_g (lw_at lw_m2 76 rfl) rfl
theorem q666 : (Jvm.Cond.selects "java/lang/StringBuilder" ({ cls := "java/lang/Object", name := "getClass", desc := "()Ljava/lang/Class;" } : Jvm.MethodName) ({ cls := "java/lang/Object", name := "getClass", desc := "()Ljava/lang/Class;" } : Jvm.MethodName)) ∈ lw_all := lw_g (lw_at lw_m3 89 rfl) rfl
theorem q1197 : (Jvm.Cond.instanceMethod ({ cls := "java/lang/StringBuilder", name := "<init>", desc := "(I)V" } : Jvm.MethodName)) ∈ lw_all := lw_g (lw_at lw_m5 140 rfl) rfl
theorem q1198 : (Jvm.Cond.code ({ cls := "java/lang/StringBuilder", name := "<init>", desc := "(I)V" } : Jvm.MethodName) prog_37_method_2_code (2 : Nat) (Option.none : Option Jvm.ClassFile.FieldType)) ∈ lw_all := lw_g (lw_at lw_m5 141 rfl) rfl
theorem q1201 : (Jvm.Cond.instanceMethod ({ cls := "java/lang/StringBuilder", name := "append", desc := "(C)Ljava/lang/StringBuilder;" } : Jvm.MethodName)) ∈ lw_all := lw_g (lw_at lw_m5 144 rfl) rfl
theorem q1202 : (Jvm.Cond.selects "java/lang/StringBuilder" ({ cls := "java/lang/StringBuilder", name := "append", desc := "(C)Ljava/lang/StringBuilder;" } : Jvm.MethodName) ({ cls := "java/lang/StringBuilder", name := "append", desc := "(C)Ljava/lang/StringBuilder;" } : Jvm.MethodName)) ∈ lw_all := lw_g (lw_at lw_m5 145 rfl) rfl
theorem q1203 : (Jvm.Cond.code ({ cls := "java/lang/StringBuilder", name := "append", desc := "(C)Ljava/lang/StringBuilder;" } : Jvm.MethodName) prog_37_method_14_code (2 : Nat) (Option.some (Jvm.ClassFile.FieldType.object "java/lang/StringBuilder"))) ∈ lw_all := lw_g (lw_at lw_m5 146 rfl) rfl
theorem q1204 : (Jvm.Cond.methodLink "java/lang/StringBuilder" (50 : Nat) ({ cls := "java/lang/AbstractStringBuilder", name := "append", desc := "(C)Ljava/lang/AbstractStringBuilder;" } : Jvm.MethodName)) ∈ lw_all := lw_g (lw_at lw_m5 147 rfl) rfl
theorem q2393 : (Jvm.Cond.selects "java/lang/StringBuilder" ({ cls := "java/lang/StringBuilder", name := "length", desc := "()I" } : Jvm.MethodName) ({ cls := "java/lang/StringBuilder", name := "length", desc := "()I" } : Jvm.MethodName)) ∈ lw_all := lw_g (lw_at lw_m10 136 rfl) rfl
theorem q2406 : (Jvm.Cond.castable "java/lang/StringBuilder" "java/lang/Object") ∈ lw_tbl := lw_at lw_m10 149 rfl
theorem q109 : (Jvm.Cond.initialized "java/lang/String") ∈ lw_all := lw_g (lw_at lw_m1 12 rfl) rfl
theorem q221 : (Jvm.Cond.laysStatic "java/lang/String" "COMPACT_STRINGS" "Z") ∈ lw_tbl := lw_at lw_m1 124 rfl
theorem q231 : (Jvm.Cond.fieldLink "java/lang/String" (1048 : Nat) "java/lang/AbstractStringBuilder" "maybeLatin1" "Z") ∈ lw_all := lw_g (lw_at lw_m1 134 rfl) rfl
theorem q305 : (Jvm.Cond.static ({ cls := "java/lang/String", name := "checkBoundsBeginEnd", desc := "(III)V" } : Jvm.MethodName)) ∈ lw_all := lw_g (lw_at lw_m1 208 rfl) rfl
theorem q306 : (Jvm.Cond.code ({ cls := "java/lang/String", name := "checkBoundsBeginEnd", desc := "(III)V" } : Jvm.MethodName) prog_36_method_158_code (3 : Nat) (Option.none : Option Jvm.ClassFile.FieldType)) ∈ lw_all := lw_g (lw_at lw_m1 209 rfl) rfl
theorem q307 : (Jvm.Cond.fieldLink "java/lang/String" (1053 : Nat) "jdk/internal/util/Preconditions" "SIOOBE_FORMATTER" "Ljava/util/function/BiFunction;") ∈ lw_all := lw_g (lw_at lw_m1 210 rfl) rfl
theorem q309 : (Jvm.Cond.methodLink "java/lang/String" (1062 : Nat) ({ cls := "jdk/internal/util/Preconditions", name := "checkFromToIndex", desc := "(IIILjava/util/function/BiFunction;)I" } : Jvm.MethodName)) ∈ lw_all := lw_g (lw_at lw_m1 212 rfl) rfl
theorem q322 : (Jvm.Cond.instanceMethod ({ cls := "java/lang/String", name := "length", desc := "()I" } : Jvm.MethodName)) ∈ lw_all := lw_g (lw_at lw_m1 225 rfl) rfl
theorem q323 : (Jvm.Cond.selects "java/lang/String" ({ cls := "java/lang/String", name := "length", desc := "()I" } : Jvm.MethodName) ({ cls := "java/lang/String", name := "length", desc := "()I" } : Jvm.MethodName)) ∈ lw_all := lw_g (lw_at lw_m1 226 rfl) rfl
theorem q324 : (Jvm.Cond.code ({ cls := "java/lang/String", name := "length", desc := "()I" } : Jvm.MethodName) prog_36_method_54_code (1 : Nat) (Option.some Jvm.ClassFile.FieldType.int)) ∈ lw_all := lw_g (lw_at lw_m1 227 rfl) rfl
theorem q325 : (Jvm.Cond.methodLink "java/lang/String" (335 : Nat) ({ cls := "java/lang/String", name := "coder", desc := "()B" } : Jvm.MethodName)) ∈ lw_all := lw_g (lw_at lw_m1 228 rfl) rfl
theorem q326 : (Jvm.Cond.instanceMethod ({ cls := "java/lang/String", name := "coder", desc := "()B" } : Jvm.MethodName)) ∈ lw_all := lw_g (lw_at lw_m1 229 rfl) rfl
theorem q327 : (Jvm.Cond.selects "java/lang/String" ({ cls := "java/lang/String", name := "coder", desc := "()B" } : Jvm.MethodName) ({ cls := "java/lang/String", name := "coder", desc := "()B" } : Jvm.MethodName)) ∈ lw_all := lw_g (lw_at lw_m1 230 rfl) rfl
theorem q328 : (Jvm.Cond.code ({ cls := "java/lang/String", name := "coder", desc := "()B" } : Jvm.MethodName) prog_36_method_152_code (1 : Nat) (Option.some Jvm.ClassFile.FieldType.byte)) ∈ lw_all := lw_g (lw_at lw_m1 231 rfl) rfl
theorem q329 : (Jvm.Cond.fieldLink "java/lang/String" (38 : Nat) "java/lang/String" "COMPACT_STRINGS" "Z") ∈ lw_all := lw_g (lw_at lw_m1 232 rfl) rfl
theorem q353 : (Jvm.Cond.static ({ cls := "java/lang/String", name := "checkBoundsOffCount", desc := "(III)I" } : Jvm.MethodName)) ∈ lw_all := lw_g (lw_at lw_m2 16 rfl) rfl
theorem q354 : (Jvm.Cond.code ({ cls := "java/lang/String", name := "checkBoundsOffCount", desc := "(III)I" } : Jvm.MethodName) prog_36_method_157_code (3 : Nat) (Option.some Jvm.ClassFile.FieldType.int)) ∈ lw_all := lw_g (lw_at lw_m2 17 rfl) rfl
theorem q355 : (Jvm.Cond.methodLink "java/lang/String" (1065 : Nat) ({ cls := "jdk/internal/util/Preconditions", name := "checkFromIndexSize", desc := "(IIILjava/util/function/BiFunction;)I" } : Jvm.MethodName)) ∈ lw_all := lw_g (lw_at lw_m2 18 rfl) rfl
theorem q359 : (Jvm.Cond.instanceMethod ({ cls := "java/lang/String", name := "getBytes", desc := "([BIB)V" } : Jvm.MethodName)) ∈ lw_all := lw_g (lw_at lw_m2 22 rfl) rfl
theorem q360 : (Jvm.Cond.selects "java/lang/String" ({ cls := "java/lang/String", name := "getBytes", desc := "([BIB)V" } : Jvm.MethodName) ({ cls := "java/lang/String", name := "getBytes", desc := "([BIB)V" } : Jvm.MethodName)) ∈ lw_all := lw_g (lw_at lw_m2 23 rfl) rfl
theorem q361 : (Jvm.Cond.code ({ cls := "java/lang/String", name := "getBytes", desc := "([BIB)V" } : Jvm.MethodName) prog_36_method_147_code (4 : Nat) (Option.none : Option Jvm.ClassFile.FieldType)) ∈ lw_all := lw_g (lw_at lw_m2 24 rfl) rfl
theorem q362 : (Jvm.Cond.methodLink "java/lang/String" (212 : Nat) ({ cls := "java/lang/System", name := "arraycopy", desc := "(Ljava/lang/Object;ILjava/lang/Object;II)V" } : Jvm.MethodName)) ∈ lw_all := lw_g (lw_at lw_m2 25 rfl) rfl
theorem q363 : (Jvm.Cond.methodLink "java/lang/String" (106 : Nat) ({ cls := "java/lang/StringLatin1", name := "inflate", desc := "([BI[BII)V" } : Jvm.MethodName)) ∈ lw_all := lw_g (lw_at lw_m2 26 rfl) rfl
theorem q394 : (Jvm.Cond.instantiable "java/lang/String" (4 : Nat)) ∈ lw_all := lw_g (lw_at lw_m2 57 rfl) rfl
theorem q396 : (Jvm.Cond.instanceMethod ({ cls := "java/lang/String", name := "<init>", desc := "(Ljava/lang/StringBuilder;)V" } : Jvm.MethodName)) ∈ lw_all := lw_g (lw_at lw_m2 59 rfl) rfl
theorem q397 : (Jvm.Cond.code ({ cls := "java/lang/String", name := "<init>", desc := "(Ljava/lang/StringBuilder;)V" } : Jvm.MethodName) prog_36_method_53_code (2 : Nat) (Option.none : Option Jvm.ClassFile.FieldType)) ∈ lw_all := lw_g (lw_at lw_m2 60 rfl) rfl
theorem q398 : (Jvm.Cond.methodLink "java/lang/String" (489 : Nat) ({ cls := "java/lang/String", name := "<init>", desc := "(Ljava/lang/AbstractStringBuilder;Ljava/lang/Void;)V" } : Jvm.MethodName)) ∈ lw_all := lw_g (lw_at lw_m2 61 rfl) rfl
theorem q399 : (Jvm.Cond.instanceMethod ({ cls := "java/lang/String", name := "<init>", desc := "(Ljava/lang/AbstractStringBuilder;Ljava/lang/Void;)V" } : Jvm.MethodName)) ∈ lw_all := lw_g (lw_at lw_m2 62 rfl) rfl
theorem q400 : (Jvm.Cond.code ({ cls := "java/lang/String", name := "<init>", desc := "(Ljava/lang/AbstractStringBuilder;Ljava/lang/Void;)V" } : Jvm.MethodName) prog_36_method_150_code (5 : Nat) (Option.none : Option Jvm.ClassFile.FieldType)) ∈ lw_all := lw_g (lw_at lw_m2 63 rfl) rfl
theorem q401 : (Jvm.Cond.methodLink "java/lang/String" (1 : Nat) ({ cls := "java/lang/Object", name := "<init>", desc := "()V" } : Jvm.MethodName)) ∈ lw_all := lw_g (lw_at lw_m2 64 rfl) rfl
theorem q402 : (Jvm.Cond.methodLink "java/lang/String" (552 : Nat) ({ cls := "java/lang/AbstractStringBuilder", name := "getValue", desc := "()[B" } : Jvm.MethodName)) ∈ lw_all := lw_g (lw_at lw_m2 65 rfl) rfl
theorem q407 : (Jvm.Cond.methodLink "java/lang/String" (549 : Nat) ({ cls := "java/lang/AbstractStringBuilder", name := "length", desc := "()I" } : Jvm.MethodName)) ∈ lw_all := lw_g (lw_at lw_m2 70 rfl) rfl
theorem q415 : (Jvm.Cond.methodLink "java/lang/String" (1047 : Nat) ({ cls := "java/lang/AbstractStringBuilder", name := "isLatin1", desc := "()Z" } : Jvm.MethodName)) ∈ lw_all := lw_g (lw_at lw_m2 78 rfl) rfl
theorem q416 : (Jvm.Cond.methodLink "java/lang/String" (54 : Nat) ({ cls := "java/util/Arrays", name := "copyOfRange", desc := "([BII)[B" } : Jvm.MethodName)) ∈ lw_all := lw_g (lw_at lw_m2 79 rfl) rfl
theorem q457 : (Jvm.Cond.methodLink "java/lang/String" (1051 : Nat) ({ cls := "java/lang/StringUTF16", name := "compress", desc := "([BII)[B" } : Jvm.MethodName)) ∈ lw_all := lw_g (lw_at lw_m2 120 rfl) rfl
theorem q467 : (Jvm.Cond.methodLink "java/lang/String" (47 : Nat) ({ cls := "java/lang/StringUTF16", name := "coderFromArrayLen", desc := "([BI)B" } : Jvm.MethodName)) ∈ lw_all := lw_g (lw_at lw_m2 130 rfl) rfl
theorem q470 : (Jvm.Cond.fieldLink "java/lang/String" (9 : Nat) "java/lang/String" "value" "[B") ∈ lw_all := lw_g (lw_at lw_m2 133 rfl) rfl
theorem q471 : (Jvm.Cond.fieldLink "java/lang/String" (15 : Nat) "java/lang/String" "coder" "B") ∈ lw_all := lw_g (lw_at lw_m2 134 rfl) rfl
theorem q472 : (Jvm.Cond.laysFinal "java/lang/String" "java/lang/String" "value" "[B") ∈ lw_all := lw_g (lw_at lw_m2 135 rfl) rfl
theorem q473 : (Jvm.Cond.soleField "java/lang/String" "value") ∈ lw_all := lw_g (lw_at lw_m2 136 rfl) rfl
theorem q474 : (Jvm.Cond.laysFinal "java/lang/String" "java/lang/String" "coder" "B") ∈ lw_all := lw_g (lw_at lw_m2 137 rfl) rfl
theorem q475 : (Jvm.Cond.soleField "java/lang/String" "coder") ∈ lw_all := lw_g (lw_at lw_m2 138 rfl) rfl
theorem q476 : (Jvm.Cond.lays "java/lang/String" "java/lang/String" "hash" "I") ∈ lw_all := lw_g (lw_at lw_m2 139 rfl) rfl
theorem q477 : (Jvm.Cond.soleField "java/lang/String" "hash") ∈ lw_all := lw_g (lw_at lw_m2 140 rfl) rfl
theorem q478 : (Jvm.Cond.lays "java/lang/String" "java/lang/String" "hashIsZero" "Z") ∈ lw_all := lw_g (lw_at lw_m2 141 rfl) rfl
theorem q479 : (Jvm.Cond.soleField "java/lang/String" "hashIsZero") ∈ lw_all := lw_g (lw_at lw_m2 142 rfl) rfl
theorem q480 : (Jvm.Cond.superclass "java/lang/String" "java/lang/Object") ∈ lw_all := lw_g (lw_at lw_m2 143 rfl) rfl
theorem q665 : (Jvm.Cond.selects "java/lang/String" ({ cls := "java/lang/Object", name := "getClass", desc := "()Ljava/lang/Class;" } : Jvm.MethodName) ({ cls := "java/lang/Object", name := "getClass", desc := "()Ljava/lang/Class;" } : Jvm.MethodName)) ∈ lw_all := lw_g (lw_at lw_m3 88 rfl) rfl
theorem q1217 : (Jvm.Cond.static ({ cls := "java/lang/String", name := "checkIndex", desc := "(II)V" } : Jvm.MethodName)) ∈ lw_all := lw_g (lw_at lw_m5 160 rfl) rfl
theorem q1218 : (Jvm.Cond.code ({ cls := "java/lang/String", name := "checkIndex", desc := "(II)V" } : Jvm.MethodName) prog_36_method_155_code (2 : Nat) (Option.none : Option Jvm.ClassFile.FieldType)) ∈ lw_all := lw_g (lw_at lw_m5 161 rfl) rfl
theorem q1219 : (Jvm.Cond.methodLink "java/lang/String" (1059 : Nat) ({ cls := "jdk/internal/util/Preconditions", name := "checkIndex", desc := "(IILjava/util/function/BiFunction;)I" } : Jvm.MethodName)) ∈ lw_all := lw_g (lw_at lw_m5 162 rfl) rfl
theorem q1236 : (Jvm.Cond.static ({ cls := "java/lang/String", name := "valueOf", desc := "(C)Ljava/lang/String;" } : Jvm.MethodName)) ∈ lw_all := lw_g (lw_at lw_m5 179 rfl) rfl
theorem q1237 : (Jvm.Cond.code ({ cls := "java/lang/String", name := "valueOf", desc := "(C)Ljava/lang/String;" } : Jvm.MethodName) prog_36_method_139_code (1 : Nat) (Option.some (Jvm.ClassFile.FieldType.object "java/lang/String"))) ∈ lw_all := lw_g (lw_at lw_m5 180 rfl) rfl
theorem q1238 : (Jvm.Cond.methodLink "java/lang/String" (1015 : Nat) ({ cls := "java/lang/StringLatin1", name := "canEncode", desc := "(C)Z" } : Jvm.MethodName)) ∈ lw_all := lw_g (lw_at lw_m5 181 rfl) rfl
theorem q1239 : (Jvm.Cond.classLink "java/lang/String" (10 : Nat) "java/lang/String") ∈ lw_all := lw_g (lw_at lw_m5 182 rfl) rfl
theorem q1240 : (Jvm.Cond.methodLink "java/lang/String" (1018 : Nat) ({ cls := "java/lang/StringLatin1", name := "toBytes", desc := "(C)[B" } : Jvm.MethodName)) ∈ lw_all := lw_g (lw_at lw_m5 183 rfl) rfl
theorem q1243 : (Jvm.Cond.methodLink "java/lang/String" (209 : Nat) ({ cls := "java/lang/String", name := "<init>", desc := "([BB)V" } : Jvm.MethodName)) ∈ lw_all := lw_g (lw_at lw_m5 186 rfl) rfl
theorem q1244 : (Jvm.Cond.instanceMethod ({ cls := "java/lang/String", name := "<init>", desc := "([BB)V" } : Jvm.MethodName)) ∈ lw_all := lw_g (lw_at lw_m5 187 rfl) rfl
theorem q1245 : (Jvm.Cond.code ({ cls := "java/lang/String", name := "<init>", desc := "([BB)V" } : Jvm.MethodName) prog_36_method_151_code (3 : Nat) (Option.none : Option Jvm.ClassFile.FieldType)) ∈ lw_all := lw_g (lw_at lw_m5 188 rfl) rfl
theorem q1246 : (Jvm.Cond.methodLink "java/lang/String" (1021 : Nat) ({ cls := "java/lang/StringUTF16", name := "toBytes", desc := "(C)[B" } : Jvm.MethodName)) ∈ lw_all := lw_g (lw_at lw_m5 189 rfl) rfl
theorem q1294 : (Jvm.Cond.instanceMethod ({ cls := "java/lang/String", name := "equals", desc := "(Ljava/lang/Object;)Z" } : Jvm.MethodName)) ∈ lw_all := lw_g (lw_at lw_m5 237 rfl) rfl
theorem q1295 : (Jvm.Cond.selects "java/lang/String" ({ cls := "java/lang/String", name := "equals", desc := "(Ljava/lang/Object;)Z" } : Jvm.MethodName) ({ cls := "java/lang/String", name := "equals", desc := "(Ljava/lang/Object;)Z" } : Jvm.MethodName)) ∈ lw_all := lw_g (lw_at lw_m5 238 rfl) rfl
theorem q1296 : (Jvm.Cond.code ({ cls := "java/lang/String", name := "equals", desc := "(Ljava/lang/Object;)Z" } : Jvm.MethodName) prog_36_method_66_code (3 : Nat) (Option.some Jvm.ClassFile.FieldType.boolean)) ∈ lw_all := lw_g (lw_at lw_m5 239 rfl) rfl
theorem q1297 : (Jvm.Cond.methodLink "java/lang/String" (541 : Nat) ({ cls := "java/lang/StringLatin1", name := "equals", desc := "([B[B)Z" } : Jvm.MethodName)) ∈ lw_all := lw_g (lw_at lw_m6 0 rfl) rfl
theorem q1408 : (Jvm.Cond.instanceMethod ({ cls := "java/lang/String", name := "charAt", desc := "(I)C" } : Jvm.MethodName)) ∈ lw_all := lw_g (lw_at lw_m6 111 rfl) rfl
theorem q1409 : (Jvm.Cond.selects "java/lang/String" ({ cls := "java/lang/String", name := "charAt", desc := "(I)C" } : Jvm.MethodName) ({ cls := "java/lang/String", name := "charAt", desc := "(I)C" } : Jvm.MethodName)) ∈ lw_all := lw_g (lw_at lw_m6 112 rfl) rfl
theorem q1410 : (Jvm.Cond.code ({ cls := "java/lang/String", name := "charAt", desc := "(I)C" } : Jvm.MethodName) prog_36_method_56_code (2 : Nat) (Option.some Jvm.ClassFile.FieldType.char)) ∈ lw_all := lw_g (lw_at lw_m6 113 rfl) rfl
theorem q1411 : (Jvm.Cond.methodLink "java/lang/String" (492 : Nat) ({ cls := "java/lang/String", name := "isLatin1", desc := "()Z" } : Jvm.MethodName)) ∈ lw_all := lw_g (lw_at lw_m6 114 rfl) rfl
theorem q1412 : (Jvm.Cond.instanceMethod ({ cls := "java/lang/String", name := "isLatin1", desc := "()Z" } : Jvm.MethodName)) ∈ lw_all := lw_g (lw_at lw_m6 115 rfl) rfl
theorem q1413 : (Jvm.Cond.selects "java/lang/String" ({ cls := "java/lang/String", name := "isLatin1", desc := "()Z" } : Jvm.MethodName) ({ cls := "java/lang/String", name := "isLatin1", desc := "()Z" } : Jvm.MethodName)) ∈ lw_all := lw_g (lw_at lw_m6 116 rfl) rfl
theorem q1414 : (Jvm.Cond.code ({ cls := "java/lang/String", name := "isLatin1", desc := "()Z" } : Jvm.MethodName) prog_36_method_154_code (1 : Nat) (Option.some Jvm.ClassFile.FieldType.boolean)) ∈ lw_all := lw_g (lw_at lw_m6 117 rfl) rfl
theorem q1415 : (Jvm.Cond.methodLink "java/lang/String" (495 : Nat) ({ cls := "java/lang/StringLatin1", name := "charAt", desc := "([BI)C" } : Jvm.MethodName)) ∈ lw_all := lw_g (lw_at lw_m6 118 rfl) rfl
theorem q1419 : (Jvm.Cond.methodLink "java/lang/String" (498 : Nat) ({ cls := "java/lang/StringUTF16", name := "charAt", desc := "([BI)C" } : Jvm.MethodName)) ∈ lw_all := lw_g (lw_at lw_m6 122 rfl) rfl
theorem q2401 : (Jvm.Cond.castable "java/lang/String" "java/lang/Object") ∈ lw_tbl := lw_at lw_m10 144 rfl
theorem q97 : (Jvm.Cond.initialized "SpoonRowLaw") ∈ lw_all := lw_g (lw_at lw_m1 0 rfl) rfl
theorem q140 : (Jvm.Cond.classLink "SpoonRowLaw" (8 : Nat) "SpoonRow") ∈ lw_all := lw_g (lw_at lw_m1 43 rfl) rfl
theorem q142 : (Jvm.Cond.methodLink "SpoonRowLaw" (73 : Nat) ({ cls := "SpoonRow", name := "<init>", desc := "()V" } : Jvm.MethodName)) ∈ lw_all := lw_g (lw_at lw_m1 45 rfl) rfl
theorem q863 : (Jvm.Cond.methodLink "SpoonRowLaw" (77 : Nat) ({ cls := "SpoonRow", name := "feed", desc := "(IIIII)I" } : Jvm.MethodName)) ∈ lw_all := lw_g (lw_at lw_m4 46 rfl) rfl
theorem q871 : (Jvm.Cond.methodLink "SpoonRowLaw" (92 : Nat) ({ cls := "SpoonRow", name := "fault", desc := "()I" } : Jvm.MethodName)) ∈ lw_all := lw_g (lw_at lw_m4 54 rfl) rfl
theorem q875 : (Jvm.Cond.methodLink "SpoonRowLaw" (103 : Nat) ({ cls := "SpoonRow", name := "swap", desc := "(II)Z" } : Jvm.MethodName)) ∈ lw_all := lw_g (lw_at lw_m4 58 rfl) rfl
theorem q915 : (Jvm.Cond.methodLink "SpoonRowLaw" (108 : Nat) ({ cls := "SpoonRow", name := "side", desc := "(I)I" } : Jvm.MethodName)) ∈ lw_all := lw_g (lw_at lw_m4 98 rfl) rfl
theorem q922 : (Jvm.Cond.methodLink "SpoonRowLaw" (115 : Nat) ({ cls := "SpoonRow", name := "bolster", desc := "(IZ)Z" } : Jvm.MethodName)) ∈ lw_all := lw_g (lw_at lw_m4 105 rfl) rfl
theorem q926 : (Jvm.Cond.methodLink "SpoonRowLaw" (123 : Nat) ({ cls := "SpoonRow", name := "undo", desc := "()I" } : Jvm.MethodName)) ∈ lw_all := lw_g (lw_at lw_m4 109 rfl) rfl
theorem q932 : (Jvm.Cond.methodLink "SpoonRowLaw" (140 : Nat) ({ cls := "SpoonRow", name := "orders", desc := "()I" } : Jvm.MethodName)) ∈ lw_all := lw_g (lw_at lw_m4 115 rfl) rfl
theorem q952 : (Jvm.Cond.methodLink "SpoonRowLaw" (144 : Nat) ({ cls := "SpoonRow", name := "order", desc := "()I" } : Jvm.MethodName)) ∈ lw_all := lw_g (lw_at lw_m4 135 rfl) rfl
theorem q1125 : (Jvm.Cond.methodLink "SpoonRowLaw" (163 : Nat) ({ cls := "SpoonRow", name := "edge", desc := "()I" } : Jvm.MethodName)) ∈ lw_all := lw_g (lw_at lw_m5 68 rfl) rfl
theorem q1135 : (Jvm.Cond.methodLink "SpoonRowLaw" (173 : Nat) ({ cls := "SpoonRow", name := "forget", desc := "()I" } : Jvm.MethodName)) ∈ lw_all := lw_g (lw_at lw_m5 78 rfl) rfl
theorem q1139 : (Jvm.Cond.methodLink "SpoonRowLaw" (186 : Nat) ({ cls := "SpoonRow", name := "image", desc := "()V" } : Jvm.MethodName)) ∈ lw_all := lw_g (lw_at lw_m5 82 rfl) rfl
theorem q1148 : (Jvm.Cond.methodLink "SpoonRowLaw" (190 : Nat) ({ cls := "SpoonRow", name := "restore", desc := "()Z" } : Jvm.MethodName)) ∈ lw_all := lw_g (lw_at lw_m5 91 rfl) rfl
theorem q1152 : (Jvm.Cond.methodLink "SpoonRowLaw" (82 : Nat) ({ cls := "SpoonRowLaw", name := "bed", desc := "(LSpoonRow;I[J)I" } : Jvm.MethodName)) ∈ lw_all := lw_g (lw_at lw_m5 95 rfl) rfl
theorem q1153 : (Jvm.Cond.static ({ cls := "SpoonRowLaw", name := "bed", desc := "(LSpoonRow;I[J)I" } : Jvm.MethodName)) ∈ lw_all := lw_g (lw_at lw_m5 96 rfl) rfl
theorem q1154 : (Jvm.Cond.codeWith ({ cls := "SpoonRowLaw", name := "bed", desc := "(LSpoonRow;I[J)I" } : Jvm.MethodName) method_3_code (4 : Nat) (Option.some Jvm.ClassFile.FieldType.int) [((0 : Nat), (9 : Nat), (12 : Nat), (13 : Nat))]) ∈ lw_all := lw_g (lw_at lw_m5 97 rfl) rfl
theorem q1155 : (Jvm.Cond.classLink "SpoonRowLaw" (13 : Nat) "java/lang/IllegalArgumentException") ∈ lw_all := lw_g (lw_at lw_m5 98 rfl) rfl
theorem q1156 : (Jvm.Cond.methodLink "SpoonRowLaw" (7 : Nat) ({ cls := "SpoonRow", name := "bed", desc := "(I)I" } : Jvm.MethodName)) ∈ lw_all := lw_g (lw_at lw_m5 99 rfl) rfl
theorem q1548 : (Jvm.Cond.methodLink "SpoonRowLaw" (96 : Nat) ({ cls := "SpoonRowLaw", name := "count", desc := "(LSpoonRow;I[J)I" } : Jvm.MethodName)) ∈ lw_all := lw_g (lw_at lw_m7 11 rfl) rfl
theorem q1549 : (Jvm.Cond.static ({ cls := "SpoonRowLaw", name := "count", desc := "(LSpoonRow;I[J)I" } : Jvm.MethodName)) ∈ lw_all := lw_g (lw_at lw_m7 12 rfl) rfl
theorem q1550 : (Jvm.Cond.codeWith ({ cls := "SpoonRowLaw", name := "count", desc := "(LSpoonRow;I[J)I" } : Jvm.MethodName) method_4_code (4 : Nat) (Option.some Jvm.ClassFile.FieldType.int) [((0 : Nat), (9 : Nat), (12 : Nat), (18 : Nat))]) ∈ lw_all := lw_g (lw_at lw_m7 13 rfl) rfl
theorem q1551 : (Jvm.Cond.classLink "SpoonRowLaw" (18 : Nat) "java/util/NoSuchElementException") ∈ lw_all := lw_g (lw_at lw_m7 14 rfl) rfl
theorem q1552 : (Jvm.Cond.methodLink "SpoonRowLaw" (15 : Nat) ({ cls := "SpoonRow", name := "count", desc := "(I)I" } : Jvm.MethodName)) ∈ lw_all := lw_g (lw_at lw_m7 15 rfl) rfl
theorem q1574 : (Jvm.Cond.methodLink "SpoonRowLaw" (99 : Nat) ({ cls := "SpoonRowLaw", name := "sleeper", desc := "(LSpoonRow;II[J)I" } : Jvm.MethodName)) ∈ lw_all := lw_g (lw_at lw_m7 37 rfl) rfl
theorem q1575 : (Jvm.Cond.static ({ cls := "SpoonRowLaw", name := "sleeper", desc := "(LSpoonRow;II[J)I" } : Jvm.MethodName)) ∈ lw_all := lw_g (lw_at lw_m7 38 rfl) rfl
theorem q1576 : (Jvm.Cond.codeWith ({ cls := "SpoonRowLaw", name := "sleeper", desc := "(LSpoonRow;II[J)I" } : Jvm.MethodName) method_5_code (5 : Nat) (Option.some Jvm.ClassFile.FieldType.int) [((0 : Nat), (10 : Nat), (13 : Nat), (18 : Nat))]) ∈ lw_all := lw_g (lw_at lw_m7 39 rfl) rfl
theorem q1577 : (Jvm.Cond.methodLink "SpoonRowLaw" (20 : Nat) ({ cls := "SpoonRow", name := "sleeper", desc := "(II)I" } : Jvm.MethodName)) ∈ lw_all := lw_g (lw_at lw_m7 40 rfl) rfl
theorem q1601 : (Jvm.Cond.methodLink "SpoonRowLaw" (112 : Nat) ({ cls := "SpoonRowLaw", name := "word", desc := "(LSpoonRow;II[J)I" } : Jvm.MethodName)) ∈ lw_all := lw_g (lw_at lw_m7 64 rfl) rfl
theorem q1602 : (Jvm.Cond.static ({ cls := "SpoonRowLaw", name := "word", desc := "(LSpoonRow;II[J)I" } : Jvm.MethodName)) ∈ lw_all := lw_g (lw_at lw_m7 65 rfl) rfl
theorem q1603 : (Jvm.Cond.codeWith ({ cls := "SpoonRowLaw", name := "word", desc := "(LSpoonRow;II[J)I" } : Jvm.MethodName) method_6_code (5 : Nat) (Option.some Jvm.ClassFile.FieldType.int) [((0 : Nat), (10 : Nat), (13 : Nat), (18 : Nat))]) ∈ lw_all := lw_g (lw_at lw_m7 66 rfl) rfl
theorem q1604 : (Jvm.Cond.methodLink "SpoonRowLaw" (24 : Nat) ({ cls := "SpoonRow", name := "word", desc := "(II)I" } : Jvm.MethodName)) ∈ lw_all := lw_g (lw_at lw_m7 67 rfl) rfl
theorem q1609 : (Jvm.Cond.methodLink "SpoonRowLaw" (120 : Nat) ({ cls := "SpoonRowLaw", name := "out", desc := "(LSpoonRow;II[J)I" } : Jvm.MethodName)) ∈ lw_all := lw_g (lw_at lw_m7 72 rfl) rfl
theorem q1610 : (Jvm.Cond.static ({ cls := "SpoonRowLaw", name := "out", desc := "(LSpoonRow;II[J)I" } : Jvm.MethodName)) ∈ lw_all := lw_g (lw_at lw_m7 73 rfl) rfl
theorem q1611 : (Jvm.Cond.codeWith ({ cls := "SpoonRowLaw", name := "out", desc := "(LSpoonRow;II[J)I" } : Jvm.MethodName) method_7_code (5 : Nat) (Option.some Jvm.ClassFile.FieldType.int) [((0 : Nat), (10 : Nat), (13 : Nat), (18 : Nat))]) ∈ lw_all := lw_g (lw_at lw_m7 74 rfl) rfl
theorem q1612 : (Jvm.Cond.methodLink "SpoonRowLaw" (27 : Nat) ({ cls := "SpoonRow", name := "out", desc := "(II)I" } : Jvm.MethodName)) ∈ lw_all := lw_g (lw_at lw_m7 75 rfl) rfl
theorem q1616 : (Jvm.Cond.methodLink "SpoonRowLaw" (127 : Nat) ({ cls := "SpoonRowLaw", name := "night", desc := "(LSpoonRow;I[J)I" } : Jvm.MethodName)) ∈ lw_all := lw_g (lw_at lw_m7 79 rfl) rfl
theorem q1617 : (Jvm.Cond.static ({ cls := "SpoonRowLaw", name := "night", desc := "(LSpoonRow;I[J)I" } : Jvm.MethodName)) ∈ lw_all := lw_g (lw_at lw_m7 80 rfl) rfl
theorem q1618 : (Jvm.Cond.codeWith ({ cls := "SpoonRowLaw", name := "night", desc := "(LSpoonRow;I[J)I" } : Jvm.MethodName) method_8_code (4 : Nat) (Option.some Jvm.ClassFile.FieldType.int) [((0 : Nat), (9 : Nat), (12 : Nat), (18 : Nat))]) ∈ lw_all := lw_g (lw_at lw_m7 81 rfl) rfl
theorem q1619 : (Jvm.Cond.methodLink "SpoonRowLaw" (30 : Nat) ({ cls := "SpoonRow", name := "night", desc := "(I)I" } : Jvm.MethodName)) ∈ lw_all := lw_g (lw_at lw_m7 82 rfl) rfl
theorem q1623 : (Jvm.Cond.methodLink "SpoonRowLaw" (130 : Nat) ({ cls := "SpoonRowLaw", name := "woken", desc := "(LSpoonRow;II[J)I" } : Jvm.MethodName)) ∈ lw_all := lw_g (lw_at lw_m7 86 rfl) rfl
theorem q1624 : (Jvm.Cond.static ({ cls := "SpoonRowLaw", name := "woken", desc := "(LSpoonRow;II[J)I" } : Jvm.MethodName)) ∈ lw_all := lw_g (lw_at lw_m7 87 rfl) rfl
theorem q1625 : (Jvm.Cond.codeWith ({ cls := "SpoonRowLaw", name := "woken", desc := "(LSpoonRow;II[J)I" } : Jvm.MethodName) method_9_code (5 : Nat) (Option.some Jvm.ClassFile.FieldType.int) [((0 : Nat), (10 : Nat), (13 : Nat), (18 : Nat))]) ∈ lw_all := lw_g (lw_at lw_m7 88 rfl) rfl
theorem q1626 : (Jvm.Cond.methodLink "SpoonRowLaw" (33 : Nat) ({ cls := "SpoonRow", name := "woken", desc := "(II)I" } : Jvm.MethodName)) ∈ lw_all := lw_g (lw_at lw_m7 89 rfl) rfl
theorem q1630 : (Jvm.Cond.methodLink "SpoonRowLaw" (133 : Nat) ({ cls := "SpoonRowLaw", name := "lies", desc := "(LSpoonRow;III[J)I" } : Jvm.MethodName)) ∈ lw_all := lw_g (lw_at lw_m7 93 rfl) rfl
theorem q1631 : (Jvm.Cond.static ({ cls := "SpoonRowLaw", name := "lies", desc := "(LSpoonRow;III[J)I" } : Jvm.MethodName)) ∈ lw_all := lw_g (lw_at lw_m7 94 rfl) rfl
theorem q1632 : (Jvm.Cond.codeWith ({ cls := "SpoonRowLaw", name := "lies", desc := "(LSpoonRow;III[J)I" } : Jvm.MethodName) method_10_code (6 : Nat) (Option.some Jvm.ClassFile.FieldType.int) [((0 : Nat), (12 : Nat), (15 : Nat), (18 : Nat)), ((0 : Nat), (12 : Nat), (19 : Nat), (13 : Nat))]) ∈ lw_all := lw_g (lw_at lw_m7 95 rfl) rfl
theorem q1633 : (Jvm.Cond.methodLink "SpoonRowLaw" (36 : Nat) ({ cls := "SpoonRow", name := "lies", desc := "(III)I" } : Jvm.MethodName)) ∈ lw_all := lw_g (lw_at lw_m7 96 rfl) rfl
theorem q1639 : (Jvm.Cond.methodLink "SpoonRowLaw" (137 : Nat) ({ cls := "SpoonRowLaw", name := "turn", desc := "(LSpoonRow;II[J)I" } : Jvm.MethodName)) ∈ lw_all := lw_g (lw_at lw_m7 102 rfl) rfl
theorem q1640 : (Jvm.Cond.static ({ cls := "SpoonRowLaw", name := "turn", desc := "(LSpoonRow;II[J)I" } : Jvm.MethodName)) ∈ lw_all := lw_g (lw_at lw_m7 103 rfl) rfl
theorem q1641 : (Jvm.Cond.codeWith ({ cls := "SpoonRowLaw", name := "turn", desc := "(LSpoonRow;II[J)I" } : Jvm.MethodName) method_11_code (5 : Nat) (Option.some Jvm.ClassFile.FieldType.int) [((0 : Nat), (10 : Nat), (13 : Nat), (18 : Nat))]) ∈ lw_all := lw_g (lw_at lw_m7 104 rfl) rfl
theorem q1642 : (Jvm.Cond.methodLink "SpoonRowLaw" (40 : Nat) ({ cls := "SpoonRow", name := "turn", desc := "(II)I" } : Jvm.MethodName)) ∈ lw_all := lw_g (lw_at lw_m7 105 rfl) rfl
theorem q1646 : (Jvm.Cond.methodLink "SpoonRowLaw" (148 : Nat) ({ cls := "SpoonRowLaw", name := "kept", desc := "(LSpoonRow;I[J)I" } : Jvm.MethodName)) ∈ lw_all := lw_g (lw_at lw_m7 109 rfl) rfl
theorem q1647 : (Jvm.Cond.static ({ cls := "SpoonRowLaw", name := "kept", desc := "(LSpoonRow;I[J)I" } : Jvm.MethodName)) ∈ lw_all := lw_g (lw_at lw_m7 110 rfl) rfl
theorem q1648 : (Jvm.Cond.codeWith ({ cls := "SpoonRowLaw", name := "kept", desc := "(LSpoonRow;I[J)I" } : Jvm.MethodName) method_12_code (4 : Nat) (Option.some Jvm.ClassFile.FieldType.int) [((0 : Nat), (9 : Nat), (12 : Nat), (18 : Nat))]) ∈ lw_all := lw_g (lw_at lw_m7 111 rfl) rfl
theorem q1649 : (Jvm.Cond.methodLink "SpoonRowLaw" (43 : Nat) ({ cls := "SpoonRow", name := "kept", desc := "(I)I" } : Jvm.MethodName)) ∈ lw_all := lw_g (lw_at lw_m7 112 rfl) rfl
theorem q1653 : (Jvm.Cond.methodLink "SpoonRowLaw" (151 : Nat) ({ cls := "SpoonRowLaw", name := "every", desc := "(LSpoonRow;II[J)I" } : Jvm.MethodName)) ∈ lw_all := lw_g (lw_at lw_m7 116 rfl) rfl
theorem q1654 : (Jvm.Cond.static ({ cls := "SpoonRowLaw", name := "every", desc := "(LSpoonRow;II[J)I" } : Jvm.MethodName)) ∈ lw_all := lw_g (lw_at lw_m7 117 rfl) rfl
theorem q1655 : (Jvm.Cond.codeWith ({ cls := "SpoonRowLaw", name := "every", desc := "(LSpoonRow;II[J)I" } : Jvm.MethodName) method_13_code (5 : Nat) (Option.some Jvm.ClassFile.FieldType.int) [((0 : Nat), (10 : Nat), (13 : Nat), (18 : Nat)), ((0 : Nat), (10 : Nat), (17 : Nat), (13 : Nat))]) ∈ lw_all := lw_g (lw_at lw_m7 118 rfl) rfl
theorem q1656 : (Jvm.Cond.methodLink "SpoonRowLaw" (46 : Nat) ({ cls := "SpoonRow", name := "every", desc := "(II)I" } : Jvm.MethodName)) ∈ lw_all := lw_g (lw_at lw_m7 119 rfl) rfl
theorem q1660 : (Jvm.Cond.methodLink "SpoonRowLaw" (154 : Nat) ({ cls := "SpoonRowLaw", name := "bolsters", desc := "(LSpoonRow;I[J)I" } : Jvm.MethodName)) ∈ lw_all := lw_g (lw_at lw_m7 123 rfl) rfl
theorem q1661 : (Jvm.Cond.static ({ cls := "SpoonRowLaw", name := "bolsters", desc := "(LSpoonRow;I[J)I" } : Jvm.MethodName)) ∈ lw_all := lw_g (lw_at lw_m7 124 rfl) rfl
theorem q1662 : (Jvm.Cond.codeWith ({ cls := "SpoonRowLaw", name := "bolsters", desc := "(LSpoonRow;I[J)I" } : Jvm.MethodName) method_14_code (4 : Nat) (Option.some Jvm.ClassFile.FieldType.int) [((0 : Nat), (9 : Nat), (12 : Nat), (18 : Nat))]) ∈ lw_all := lw_g (lw_at lw_m7 125 rfl) rfl
theorem q1663 : (Jvm.Cond.methodLink "SpoonRowLaw" (49 : Nat) ({ cls := "SpoonRow", name := "bolsters", desc := "(I)I" } : Jvm.MethodName)) ∈ lw_all := lw_g (lw_at lw_m7 126 rfl) rfl
theorem q1674 : (Jvm.Cond.methodLink "SpoonRowLaw" (157 : Nat) ({ cls := "SpoonRowLaw", name := "free", desc := "(LSpoonRow;I[J)I" } : Jvm.MethodName)) ∈ lw_all := lw_g (lw_at lw_m7 137 rfl) rfl
theorem q1675 : (Jvm.Cond.static ({ cls := "SpoonRowLaw", name := "free", desc := "(LSpoonRow;I[J)I" } : Jvm.MethodName)) ∈ lw_all := lw_g (lw_at lw_m7 138 rfl) rfl
theorem q1676 : (Jvm.Cond.codeWith ({ cls := "SpoonRowLaw", name := "free", desc := "(LSpoonRow;I[J)I" } : Jvm.MethodName) method_15_code (4 : Nat) (Option.some Jvm.ClassFile.FieldType.int) [((0 : Nat), (9 : Nat), (12 : Nat), (18 : Nat))]) ∈ lw_all := lw_g (lw_at lw_m7 139 rfl) rfl
theorem q1677 : (Jvm.Cond.methodLink "SpoonRowLaw" (52 : Nat) ({ cls := "SpoonRow", name := "free", desc := "(I)I" } : Jvm.MethodName)) ∈ lw_all := lw_g (lw_at lw_m7 140 rfl) rfl
theorem q1681 : (Jvm.Cond.methodLink "SpoonRowLaw" (160 : Nat) ({ cls := "SpoonRowLaw", name := "outs", desc := "(LSpoonRow;I[J)I" } : Jvm.MethodName)) ∈ lw_all := lw_g (lw_at lw_m7 144 rfl) rfl
theorem q1682 : (Jvm.Cond.static ({ cls := "SpoonRowLaw", name := "outs", desc := "(LSpoonRow;I[J)I" } : Jvm.MethodName)) ∈ lw_all := lw_g (lw_at lw_m7 145 rfl) rfl
theorem q1683 : (Jvm.Cond.codeWith ({ cls := "SpoonRowLaw", name := "outs", desc := "(LSpoonRow;I[J)I" } : Jvm.MethodName) method_16_code (4 : Nat) (Option.some Jvm.ClassFile.FieldType.int) [((0 : Nat), (9 : Nat), (12 : Nat), (18 : Nat))]) ∈ lw_all := lw_g (lw_at lw_m7 146 rfl) rfl
theorem q1684 : (Jvm.Cond.methodLink "SpoonRowLaw" (55 : Nat) ({ cls := "SpoonRow", name := "outs", desc := "(I)I" } : Jvm.MethodName)) ∈ lw_all := lw_g (lw_at lw_m7 147 rfl) rfl
theorem q1691 : (Jvm.Cond.methodLink "SpoonRowLaw" (167 : Nat) ({ cls := "SpoonRowLaw", name := "fair", desc := "(LSpoonRow;II[J)I" } : Jvm.MethodName)) ∈ lw_all := lw_g (lw_at lw_m7 154 rfl) rfl
theorem q1692 : (Jvm.Cond.static ({ cls := "SpoonRowLaw", name := "fair", desc := "(LSpoonRow;II[J)I" } : Jvm.MethodName)) ∈ lw_all := lw_g (lw_at lw_m7 155 rfl) rfl
theorem q1693 : (Jvm.Cond.codeWith ({ cls := "SpoonRowLaw", name := "fair", desc := "(LSpoonRow;II[J)I" } : Jvm.MethodName) method_17_code (5 : Nat) (Option.some Jvm.ClassFile.FieldType.int) [((0 : Nat), (10 : Nat), (13 : Nat), (18 : Nat)), ((0 : Nat), (10 : Nat), (17 : Nat), (13 : Nat))]) ∈ lw_all := lw_g (lw_at lw_m7 156 rfl) rfl
theorem q1694 : (Jvm.Cond.methodLink "SpoonRowLaw" (58 : Nat) ({ cls := "SpoonRow", name := "fair", desc := "(II)I" } : Jvm.MethodName)) ∈ lw_all := lw_g (lw_at lw_m7 157 rfl) rfl
theorem q1703 : (Jvm.Cond.methodLink "SpoonRowLaw" (170 : Nat) ({ cls := "SpoonRowLaw", name := "see", desc := "(LSpoonRow;III[J)I" } : Jvm.MethodName)) ∈ lw_all := lw_g (lw_at lw_m7 166 rfl) rfl
theorem q1704 : (Jvm.Cond.static ({ cls := "SpoonRowLaw", name := "see", desc := "(LSpoonRow;III[J)I" } : Jvm.MethodName)) ∈ lw_all := lw_g (lw_at lw_m7 167 rfl) rfl
theorem q1705 : (Jvm.Cond.codeWith ({ cls := "SpoonRowLaw", name := "see", desc := "(LSpoonRow;III[J)I" } : Jvm.MethodName) method_18_code (6 : Nat) (Option.some Jvm.ClassFile.FieldType.int) [((0 : Nat), (12 : Nat), (15 : Nat), (18 : Nat))]) ∈ lw_all := lw_g (lw_at lw_m7 168 rfl) rfl
theorem q1706 : (Jvm.Cond.methodLink "SpoonRowLaw" (61 : Nat) ({ cls := "SpoonRow", name := "see", desc := "(III)I" } : Jvm.MethodName)) ∈ lw_all := lw_g (lw_at lw_m7 169 rfl) rfl
theorem q1710 : (Jvm.Cond.methodLink "SpoonRowLaw" (177 : Nat) ({ cls := "SpoonRowLaw", name := "fits", desc := "(LSpoonRow;I[J)I" } : Jvm.MethodName)) ∈ lw_all := lw_g (lw_at lw_m7 173 rfl) rfl
theorem q1711 : (Jvm.Cond.static ({ cls := "SpoonRowLaw", name := "fits", desc := "(LSpoonRow;I[J)I" } : Jvm.MethodName)) ∈ lw_all := lw_g (lw_at lw_m7 174 rfl) rfl
theorem q1712 : (Jvm.Cond.codeWith ({ cls := "SpoonRowLaw", name := "fits", desc := "(LSpoonRow;I[J)I" } : Jvm.MethodName) method_19_code (4 : Nat) (Option.some Jvm.ClassFile.FieldType.int) [((0 : Nat), (9 : Nat), (12 : Nat), (18 : Nat))]) ∈ lw_all := lw_g (lw_at lw_m7 175 rfl) rfl
theorem q1713 : (Jvm.Cond.methodLink "SpoonRowLaw" (64 : Nat) ({ cls := "SpoonRow", name := "fits", desc := "(I)I" } : Jvm.MethodName)) ∈ lw_all := lw_g (lw_at lw_m7 176 rfl) rfl
theorem q1728 : (Jvm.Cond.methodLink "SpoonRowLaw" (180 : Nat) ({ cls := "SpoonRowLaw", name := "without", desc := "(LSpoonRow;I[J)I" } : Jvm.MethodName)) ∈ lw_all := lw_g (lw_at lw_m7 191 rfl) rfl
theorem q1729 : (Jvm.Cond.static ({ cls := "SpoonRowLaw", name := "without", desc := "(LSpoonRow;I[J)I" } : Jvm.MethodName)) ∈ lw_all := lw_g (lw_at lw_m7 192 rfl) rfl
theorem q1730 : (Jvm.Cond.codeWith ({ cls := "SpoonRowLaw", name := "without", desc := "(LSpoonRow;I[J)I" } : Jvm.MethodName) method_20_code (4 : Nat) (Option.some Jvm.ClassFile.FieldType.int) [((0 : Nat), (9 : Nat), (12 : Nat), (18 : Nat))]) ∈ lw_all := lw_g (lw_at lw_m7 193 rfl) rfl
theorem q1731 : (Jvm.Cond.methodLink "SpoonRowLaw" (67 : Nat) ({ cls := "SpoonRow", name := "without", desc := "(I)I" } : Jvm.MethodName)) ∈ lw_all := lw_g (lw_at lw_m7 194 rfl) rfl
theorem q1740 : (Jvm.Cond.methodLink "SpoonRowLaw" (183 : Nat) ({ cls := "SpoonRowLaw", name := "year", desc := "(LSpoonRow;III[J)I" } : Jvm.MethodName)) ∈ lw_all := lw_g (lw_at lw_m7 203 rfl) rfl
theorem q1741 : (Jvm.Cond.static ({ cls := "SpoonRowLaw", name := "year", desc := "(LSpoonRow;III[J)I" } : Jvm.MethodName)) ∈ lw_all := lw_g (lw_at lw_m7 204 rfl) rfl
theorem q1742 : (Jvm.Cond.codeWith ({ cls := "SpoonRowLaw", name := "year", desc := "(LSpoonRow;III[J)I" } : Jvm.MethodName) method_21_code (6 : Nat) (Option.some Jvm.ClassFile.FieldType.int) [((0 : Nat), (12 : Nat), (15 : Nat), (18 : Nat)), ((0 : Nat), (12 : Nat), (19 : Nat), (13 : Nat))]) ∈ lw_all := lw_g (lw_at lw_m7 205 rfl) rfl
theorem q1743 : (Jvm.Cond.methodLink "SpoonRowLaw" (70 : Nat) ({ cls := "SpoonRow", name := "year", desc := "(III)I" } : Jvm.MethodName)) ∈ lw_all := lw_g (lw_at lw_m7 206 rfl) rfl
theorem q1752 : (Jvm.Cond.classLink "SpoonRowLaw" (74 : Nat) "SpoonRowModel") ∈ lw_all := lw_g (lw_at lw_m7 215 rfl) rfl
theorem q1754 : (Jvm.Cond.methodLink "SpoonRowLaw" (76 : Nat) ({ cls := "SpoonRowModel", name := "<init>", desc := "()V" } : Jvm.MethodName)) ∈ lw_all := lw_g (lw_at lw_m7 217 rfl) rfl
theorem q1990 : (Jvm.Cond.methodLink "SpoonRowLaw" (88 : Nat) ({ cls := "SpoonRowModel", name := "thrown", desc := "()I" } : Jvm.MethodName)) ∈ lw_all := lw_g (lw_at lw_m8 213 rfl) rfl
theorem q1994 : (Jvm.Cond.methodLink "SpoonRowLaw" (81 : Nat) ({ cls := "SpoonRowModel", name := "feed", desc := "(IIIII)I" } : Jvm.MethodName)) ∈ lw_all := lw_g (lw_at lw_m8 217 rfl) rfl
theorem q1998 : (Jvm.Cond.methodLink "SpoonRowLaw" (87 : Nat) ({ cls := "SpoonRowModel", name := "bed", desc := "(I)I" } : Jvm.MethodName)) ∈ lw_all := lw_g (lw_at lw_m8 221 rfl) rfl
theorem q2120 : (Jvm.Cond.methodLink "SpoonRowLaw" (95 : Nat) ({ cls := "SpoonRowModel", name := "fault", desc := "()I" } : Jvm.MethodName)) ∈ lw_all := lw_g (lw_at lw_m9 103 rfl) rfl
theorem q2124 : (Jvm.Cond.methodLink "SpoonRowLaw" (98 : Nat) ({ cls := "SpoonRowModel", name := "count", desc := "(I)I" } : Jvm.MethodName)) ∈ lw_all := lw_g (lw_at lw_m9 107 rfl) rfl
theorem q2136 : (Jvm.Cond.methodLink "SpoonRowLaw" (102 : Nat) ({ cls := "SpoonRowModel", name := "sleeper", desc := "(II)I" } : Jvm.MethodName)) ∈ lw_all := lw_g (lw_at lw_m9 119 rfl) rfl
theorem q2151 : (Jvm.Cond.methodLink "SpoonRowLaw" (107 : Nat) ({ cls := "SpoonRowModel", name := "swap", desc := "(II)Z" } : Jvm.MethodName)) ∈ lw_all := lw_g (lw_at lw_m9 134 rfl) rfl
theorem q2163 : (Jvm.Cond.methodLink "SpoonRowLaw" (111 : Nat) ({ cls := "SpoonRowModel", name := "side", desc := "(I)I" } : Jvm.MethodName)) ∈ lw_all := lw_g (lw_at lw_m9 146 rfl) rfl
theorem q2171 : (Jvm.Cond.methodLink "SpoonRowLaw" (114 : Nat) ({ cls := "SpoonRowModel", name := "word", desc := "(II)I" } : Jvm.MethodName)) ∈ lw_all := lw_g (lw_at lw_m9 154 rfl) rfl
theorem q2176 : (Jvm.Cond.methodLink "SpoonRowLaw" (119 : Nat) ({ cls := "SpoonRowModel", name := "bolster", desc := "(IZ)Z" } : Jvm.MethodName)) ∈ lw_all := lw_g (lw_at lw_m9 159 rfl) rfl
theorem q2181 : (Jvm.Cond.methodLink "SpoonRowLaw" (122 : Nat) ({ cls := "SpoonRowModel", name := "out", desc := "(II)I" } : Jvm.MethodName)) ∈ lw_all := lw_g (lw_at lw_m9 164 rfl) rfl
theorem q2186 : (Jvm.Cond.methodLink "SpoonRowLaw" (126 : Nat) ({ cls := "SpoonRowModel", name := "undo", desc := "()I" } : Jvm.MethodName)) ∈ lw_all := lw_g (lw_at lw_m9 169 rfl) rfl
theorem q2194 : (Jvm.Cond.methodLink "SpoonRowLaw" (129 : Nat) ({ cls := "SpoonRowModel", name := "night", desc := "(I)I" } : Jvm.MethodName)) ∈ lw_all := lw_g (lw_at lw_m9 177 rfl) rfl
theorem q2264 : (Jvm.Cond.methodLink "SpoonRowLaw" (132 : Nat) ({ cls := "SpoonRowModel", name := "woken", desc := "(II)I" } : Jvm.MethodName)) ∈ lw_all := lw_g (lw_at lw_m10 7 rfl) rfl
theorem q2268 : (Jvm.Cond.methodLink "SpoonRowLaw" (136 : Nat) ({ cls := "SpoonRowModel", name := "lies", desc := "(III)I" } : Jvm.MethodName)) ∈ lw_all := lw_g (lw_at lw_m10 11 rfl) rfl
theorem q2272 : (Jvm.Cond.methodLink "SpoonRowLaw" (139 : Nat) ({ cls := "SpoonRowModel", name := "turn", desc := "(II)I" } : Jvm.MethodName)) ∈ lw_all := lw_g (lw_at lw_m10 15 rfl) rfl
theorem q2276 : (Jvm.Cond.methodLink "SpoonRowLaw" (143 : Nat) ({ cls := "SpoonRowModel", name := "orders", desc := "()I" } : Jvm.MethodName)) ∈ lw_all := lw_g (lw_at lw_m10 19 rfl) rfl
theorem q2296 : (Jvm.Cond.methodLink "SpoonRowLaw" (147 : Nat) ({ cls := "SpoonRowModel", name := "order", desc := "()I" } : Jvm.MethodName)) ∈ lw_all := lw_g (lw_at lw_m10 39 rfl) rfl
theorem q2304 : (Jvm.Cond.methodLink "SpoonRowLaw" (150 : Nat) ({ cls := "SpoonRowModel", name := "kept", desc := "(I)I" } : Jvm.MethodName)) ∈ lw_all := lw_g (lw_at lw_m10 47 rfl) rfl
theorem q2308 : (Jvm.Cond.methodLink "SpoonRowLaw" (153 : Nat) ({ cls := "SpoonRowModel", name := "every", desc := "(II)I" } : Jvm.MethodName)) ∈ lw_all := lw_g (lw_at lw_m10 51 rfl) rfl
theorem q2312 : (Jvm.Cond.methodLink "SpoonRowLaw" (156 : Nat) ({ cls := "SpoonRowModel", name := "bolsters", desc := "(I)I" } : Jvm.MethodName)) ∈ lw_all := lw_g (lw_at lw_m10 55 rfl) rfl
theorem q2319 : (Jvm.Cond.methodLink "SpoonRowLaw" (159 : Nat) ({ cls := "SpoonRowModel", name := "free", desc := "(I)I" } : Jvm.MethodName)) ∈ lw_all := lw_g (lw_at lw_m10 62 rfl) rfl
theorem q2323 : (Jvm.Cond.methodLink "SpoonRowLaw" (162 : Nat) ({ cls := "SpoonRowModel", name := "outs", desc := "(I)I" } : Jvm.MethodName)) ∈ lw_all := lw_g (lw_at lw_m10 66 rfl) rfl
theorem q2330 : (Jvm.Cond.methodLink "SpoonRowLaw" (166 : Nat) ({ cls := "SpoonRowModel", name := "edge", desc := "()I" } : Jvm.MethodName)) ∈ lw_all := lw_g (lw_at lw_m10 73 rfl) rfl
theorem q2334 : (Jvm.Cond.methodLink "SpoonRowLaw" (169 : Nat) ({ cls := "SpoonRowModel", name := "fair", desc := "(II)I" } : Jvm.MethodName)) ∈ lw_all := lw_g (lw_at lw_m10 77 rfl) rfl
theorem q2340 : (Jvm.Cond.methodLink "SpoonRowLaw" (172 : Nat) ({ cls := "SpoonRowModel", name := "see", desc := "(III)I" } : Jvm.MethodName)) ∈ lw_all := lw_g (lw_at lw_m10 83 rfl) rfl
theorem q2344 : (Jvm.Cond.methodLink "SpoonRowLaw" (176 : Nat) ({ cls := "SpoonRowModel", name := "forget", desc := "()I" } : Jvm.MethodName)) ∈ lw_all := lw_g (lw_at lw_m10 87 rfl) rfl
theorem q2348 : (Jvm.Cond.methodLink "SpoonRowLaw" (179 : Nat) ({ cls := "SpoonRowModel", name := "fits", desc := "(I)I" } : Jvm.MethodName)) ∈ lw_all := lw_g (lw_at lw_m10 91 rfl) rfl
theorem q2356 : (Jvm.Cond.methodLink "SpoonRowLaw" (182 : Nat) ({ cls := "SpoonRowModel", name := "without", desc := "(I)I" } : Jvm.MethodName)) ∈ lw_all := lw_g (lw_at lw_m10 99 rfl) rfl
theorem q2360 : (Jvm.Cond.methodLink "SpoonRowLaw" (185 : Nat) ({ cls := "SpoonRowModel", name := "year", desc := "(III)I" } : Jvm.MethodName)) ∈ lw_all := lw_g (lw_at lw_m10 103 rfl) rfl
theorem q2371 : (Jvm.Cond.methodLink "SpoonRowLaw" (189 : Nat) ({ cls := "SpoonRowModel", name := "image", desc := "()V" } : Jvm.MethodName)) ∈ lw_all := lw_g (lw_at lw_m10 114 rfl) rfl
theorem q2378 : (Jvm.Cond.methodLink "SpoonRowLaw" (194 : Nat) ({ cls := "SpoonRowModel", name := "restore", desc := "()Z" } : Jvm.MethodName)) ∈ lw_all := lw_g (lw_at lw_m10 121 rfl) rfl
theorem q98 : (Jvm.Cond.initialized "SpoonRow") ∈ lw_all := lw_g (lw_at lw_m1 1 rfl) rfl
theorem q141 : (Jvm.Cond.instantiable "SpoonRow" (21 : Nat)) ∈ lw_all := lw_g (lw_at lw_m1 44 rfl) rfl
theorem q143 : (Jvm.Cond.instanceMethod ({ cls := "SpoonRow", name := "<init>", desc := "()V" } : Jvm.MethodName)) ∈ lw_all := lw_g (lw_at lw_m1 46 rfl) rfl
theorem q144 : (Jvm.Cond.code ({ cls := "SpoonRow", name := "<init>", desc := "()V" } : Jvm.MethodName) prog_1_method_1_code (1 : Nat) (Option.none : Option Jvm.ClassFile.FieldType)) ∈ lw_all := lw_g (lw_at lw_m1 47 rfl) rfl
theorem q145 : (Jvm.Cond.methodLink "SpoonRow" (1 : Nat) ({ cls := "java/lang/Object", name := "<init>", desc := "()V" } : Jvm.MethodName)) ∈ lw_all := lw_g (lw_at lw_m1 48 rfl) rfl
theorem q148 : (Jvm.Cond.classLink "SpoonRow" (7 : Nat) "SpoonRow$Bed") ∈ lw_all := lw_g (lw_at lw_m1 51 rfl) rfl
theorem q150 : (Jvm.Cond.methodLinkNest "SpoonRow" (9 : Nat) ({ cls := "SpoonRow$Bed", name := "<init>", desc := "()V" } : Jvm.MethodName) "SpoonRow") ∈ lw_tbl := lw_at lw_m1 53 rfl
theorem q518 : (Jvm.Cond.fieldLinkNest "SpoonRow" (160 : Nat) "SpoonRow$Bed" "wide" "I" "SpoonRow") ∈ lw_tbl := lw_at lw_m2 181 rfl
theorem q521 : (Jvm.Cond.fieldLinkNest "SpoonRow" (163 : Nat) "SpoonRow$Bed" "room" "I" "SpoonRow") ∈ lw_tbl := lw_at lw_m2 184 rfl
theorem q524 : (Jvm.Cond.fieldLinkNest "SpoonRow" (166 : Nat) "SpoonRow$Bed" "minutes" "I" "SpoonRow") ∈ lw_tbl := lw_at lw_m2 187 rfl
theorem q529 : (Jvm.Cond.fieldLinkNest "SpoonRow" (169 : Nat) "SpoonRow$Bed" "awake" "I" "SpoonRow") ∈ lw_tbl := lw_at lw_m2 192 rfl
theorem q533 : (Jvm.Cond.fieldLinkNest "SpoonRow" (175 : Nat) "SpoonRow$Bed" "nevers" "I" "SpoonRow") ∈ lw_tbl := lw_at lw_m2 196 rfl
theorem q538 : (Jvm.Cond.fieldLinkNest "SpoonRow" (92 : Nat) "SpoonRow$Bed" "sleepers" "Ljava/util/ArrayList;" "SpoonRow") ∈ lw_tbl := lw_at lw_m2 201 rfl
theorem q541 : (Jvm.Cond.fieldLinkNest "SpoonRow" (217 : Nat) "SpoonRow$Bed" "never" "[I" "SpoonRow") ∈ lw_tbl := lw_at lw_m2 204 rfl
theorem q568 : (Jvm.Cond.classLink "SpoonRow" (16 : Nat) "SpoonRow$Book") ∈ lw_all := lw_g (lw_at lw_m2 231 rfl) rfl
theorem q570 : (Jvm.Cond.methodLink "SpoonRow" (18 : Nat) ({ cls := "SpoonRow$Book", name := "<init>", desc := "()V" } : Jvm.MethodName)) ∈ lw_all := lw_g (lw_at lw_m2 233 rfl) rfl
theorem q582 : (Jvm.Cond.fieldLinkNest "SpoonRow" (290 : Nat) "SpoonRow$Lay" "at" "[I" "SpoonRow") ∈ lw_tbl := lw_at lw_m3 5 rfl
theorem q585 : (Jvm.Cond.fieldLinkNest "SpoonRow" (207 : Nat) "SpoonRow$Lay" "out" "[I" "SpoonRow") ∈ lw_tbl := lw_at lw_m3 8 rfl
theorem q590 : (Jvm.Cond.fieldLinkNest "SpoonRow" (178 : Nat) "SpoonRow$Lay" "first" "I" "SpoonRow") ∈ lw_tbl := lw_at lw_m3 13 rfl
theorem q593 : (Jvm.Cond.fieldLinkNest "SpoonRow" (181 : Nat) "SpoonRow$Lay" "by" "I" "SpoonRow") ∈ lw_tbl := lw_at lw_m3 16 rfl
theorem q596 : (Jvm.Cond.fieldLinkNest "SpoonRow" (184 : Nat) "SpoonRow$Lay" "every" "I" "SpoonRow") ∈ lw_tbl := lw_at lw_m3 19 rfl
theorem q598 : (Jvm.Cond.fieldLinkNest "SpoonRow" (172 : Nat) "SpoonRow$Lay" "bolsters" "I" "SpoonRow") ∈ lw_tbl := lw_at lw_m3 21 rfl
theorem q600 : (Jvm.Cond.fieldLinkNest "SpoonRow" (187 : Nat) "SpoonRow$Lay" "free" "Z" "SpoonRow") ∈ lw_tbl := lw_at lw_m3 23 rfl
theorem q645 : (Jvm.Cond.selects "SpoonRow" ({ cls := "java/lang/Object", name := "getClass", desc := "()Ljava/lang/Class;" } : Jvm.MethodName) ({ cls := "java/lang/Object", name := "getClass", desc := "()Ljava/lang/Class;" } : Jvm.MethodName)) ∈ lw_all := lw_g (lw_at lw_m3 68 rfl) rfl
theorem q677 : (Jvm.Cond.fieldLinkNest "SpoonRow" (26 : Nat) "SpoonRow$Book" "now" "LSpoonRow$Lay;" "SpoonRow") ∈ lw_tbl := lw_at lw_m3 100 rfl
theorem q679 : (Jvm.Cond.fieldLinkNest "SpoonRow" (238 : Nat) "SpoonRow$Book" "ahead" "Ljava/util/ArrayList;" "SpoonRow") ∈ lw_tbl := lw_at lw_m3 102 rfl
theorem q681 : (Jvm.Cond.fieldLinkNest "SpoonRow" (321 : Nat) "SpoonRow$Book" "who" "[I" "SpoonRow") ∈ lw_tbl := lw_at lw_m3 104 rfl
theorem q683 : (Jvm.Cond.fieldLinkNest "SpoonRow" (324 : Nat) "SpoonRow$Book" "minute" "[I" "SpoonRow") ∈ lw_tbl := lw_at lw_m3 106 rfl
theorem q685 : (Jvm.Cond.fieldLinkNest "SpoonRow" (327 : Nat) "SpoonRow$Book" "side" "[I" "SpoonRow") ∈ lw_tbl := lw_at lw_m3 108 rfl
theorem q687 : (Jvm.Cond.fieldLinkNest "SpoonRow" (137 : Nat) "SpoonRow$Book" "refused" "[I" "SpoonRow") ∈ lw_tbl := lw_at lw_m3 110 rfl
theorem q689 : (Jvm.Cond.fieldLinkNest "SpoonRow" (143 : Nat) "SpoonRow$Book" "acts" "I" "SpoonRow") ∈ lw_tbl := lw_at lw_m3 112 rfl
theorem q691 : (Jvm.Cond.fieldLinkNest "SpoonRow" (146 : Nat) "SpoonRow$Book" "seen" "I" "SpoonRow") ∈ lw_tbl := lw_at lw_m3 114 rfl
theorem q709 : (Jvm.Cond.classLink "SpoonRow" (31 : Nat) "SpoonRow$Lay") ∈ lw_all := lw_g (lw_at lw_m3 132 rfl) rfl
theorem q710 : (Jvm.Cond.methodLinkNest "SpoonRow" (33 : Nat) ({ cls := "SpoonRow$Lay", name := "<init>", desc := "()V" } : Jvm.MethodName) "SpoonRow") ∈ lw_tbl := lw_at lw_m3 133 rfl
theorem q711 : (Jvm.Cond.classLink "SpoonRow" (53 : Nat) "SpoonRow$Night") ∈ lw_all := lw_g (lw_at lw_m3 134 rfl) rfl
theorem q713 : (Jvm.Cond.methodLink "SpoonRow" (55 : Nat) ({ cls := "SpoonRow$Night", name := "<init>", desc := "(LSpoonRow$Bed;LSpoonRow$Lay;[I[I[I[I)V" } : Jvm.MethodName)) ∈ lw_all := lw_g (lw_at lw_m3 136 rfl) rfl
theorem q720 : (Jvm.Cond.fieldLinkNest "SpoonRow" (266 : Nat) "SpoonRow$Night" "side" "[I" "SpoonRow") ∈ lw_tbl := lw_at lw_m3 143 rfl
theorem q723 : (Jvm.Cond.fieldLinkNest "SpoonRow" (257 : Nat) "SpoonRow$Night" "woken" "[I" "SpoonRow") ∈ lw_tbl := lw_at lw_m3 146 rfl
theorem q726 : (Jvm.Cond.fieldLinkNest "SpoonRow" (260 : Nat) "SpoonRow$Night" "begun" "[I" "SpoonRow") ∈ lw_tbl := lw_at lw_m3 149 rfl
theorem q732 : (Jvm.Cond.fieldLinkNest "SpoonRow" (248 : Nat) "SpoonRow$Night" "turns" "I" "SpoonRow") ∈ lw_tbl := lw_at lw_m3 155 rfl
theorem q734 : (Jvm.Cond.fieldLinkNest "SpoonRow" (254 : Nat) "SpoonRow$Night" "quiet" "I" "SpoonRow") ∈ lw_tbl := lw_at lw_m3 157 rfl
theorem q737 : (Jvm.Cond.fieldLinkNest "SpoonRow" (328 : Nat) "SpoonRow$Night" "minute" "I" "SpoonRow") ∈ lw_tbl := lw_at lw_m3 160 rfl
theorem q769 : (Jvm.Cond.methodLink "SpoonRow" (82 : Nat) ({ cls := "SpoonRow$Lay", name := "begins", desc := "(LSpoonRow$Bed;)V" } : Jvm.MethodName)) ∈ lw_all := lw_g (lw_at lw_m3 192 rfl) rfl
theorem q799 : (Jvm.Cond.fieldLink "SpoonRow" (10 : Nat) "SpoonRow" "bed" "LSpoonRow$Bed;") ∈ lw_all := lw_g (lw_at lw_m3 222 rfl) rfl
theorem q800 : (Jvm.Cond.fieldLink "SpoonRow" (19 : Nat) "SpoonRow" "book" "LSpoonRow$Book;") ∈ lw_all := lw_g (lw_at lw_m3 223 rfl) rfl
theorem q801 : (Jvm.Cond.fieldLink "SpoonRow" (23 : Nat) "SpoonRow" "image" "LSpoonRow$Book;") ∈ lw_all := lw_g (lw_at lw_m3 224 rfl) rfl
theorem q802 : (Jvm.Cond.fieldLink "SpoonRow" (30 : Nat) "SpoonRow" "now" "LSpoonRow$Lay;") ∈ lw_all := lw_g (lw_at lw_m3 225 rfl) rfl
theorem q803 : (Jvm.Cond.fieldLink "SpoonRow" (34 : Nat) "SpoonRow" "tried" "LSpoonRow$Lay;") ∈ lw_all := lw_g (lw_at lw_m3 226 rfl) rfl
theorem q804 : (Jvm.Cond.fieldLink "SpoonRow" (37 : Nat) "SpoonRow" "turnAt" "[I") ∈ lw_all := lw_g (lw_at lw_m3 227 rfl) rfl
theorem q805 : (Jvm.Cond.fieldLink "SpoonRow" (41 : Nat) "SpoonRow" "turnBy" "[I") ∈ lw_all := lw_g (lw_at lw_m3 228 rfl) rfl
theorem q806 : (Jvm.Cond.fieldLink "SpoonRow" (44 : Nat) "SpoonRow" "turnWoken" "[I") ∈ lw_all := lw_g (lw_at lw_m3 229 rfl) rfl
theorem q807 : (Jvm.Cond.fieldLink "SpoonRow" (47 : Nat) "SpoonRow" "turnWord" "[I") ∈ lw_all := lw_g (lw_at lw_m3 230 rfl) rfl
theorem q808 : (Jvm.Cond.fieldLink "SpoonRow" (50 : Nat) "SpoonRow" "nothing" "[I") ∈ lw_all := lw_g (lw_at lw_m3 231 rfl) rfl
theorem q809 : (Jvm.Cond.fieldLink "SpoonRow" (58 : Nat) "SpoonRow" "night" "LSpoonRow$Night;") ∈ lw_all := lw_g (lw_at lw_m3 232 rfl) rfl
theorem q810 : (Jvm.Cond.fieldLink "SpoonRow" (62 : Nat) "SpoonRow" "trial" "LSpoonRow$Night;") ∈ lw_all := lw_g (lw_at lw_m3 233 rfl) rfl
theorem q811 : (Jvm.Cond.fieldLink "SpoonRow" (153 : Nat) "SpoonRow" "hasImage" "Z") ∈ lw_all := lw_g (lw_at lw_m3 234 rfl) rfl
theorem q812 : (Jvm.Cond.fieldLink "SpoonRow" (65 : Nat) "SpoonRow" "tape" "[B") ∈ lw_all := lw_g (lw_at lw_m3 235 rfl) rfl
theorem q813 : (Jvm.Cond.fieldLink "SpoonRow" (114 : Nat) "SpoonRow" "taped" "I") ∈ lw_all := lw_g (lw_at lw_m3 236 rfl) rfl
theorem q814 : (Jvm.Cond.fieldLink "SpoonRow" (69 : Nat) "SpoonRow" "faultPlace" "I") ∈ lw_all := lw_g (lw_at lw_m3 237 rfl) rfl
theorem q815 : (Jvm.Cond.fieldLink "SpoonRow" (73 : Nat) "SpoonRow" "row" "[I") ∈ lw_all := lw_g (lw_at lw_m3 238 rfl) rfl
theorem q816 : (Jvm.Cond.fieldLink "SpoonRow" (76 : Nat) "SpoonRow" "kept" "[I") ∈ lw_all := lw_g (lw_at lw_m3 239 rfl) rfl
theorem q817 : (Jvm.Cond.fieldLink "SpoonRow" (149 : Nat) "SpoonRow" "hasKept" "Z") ∈ lw_all := lw_g (lw_at lw_m4 0 rfl) rfl
theorem q818 : (Jvm.Cond.fieldLink "SpoonRow" (79 : Nat) "SpoonRow" "sums" "[I") ∈ lw_all := lw_g (lw_at lw_m4 1 rfl) rfl
theorem q819 : (Jvm.Cond.fieldLink "SpoonRow" (350 : Nat) "SpoonRow" "its" "I") ∈ lw_all := lw_g (lw_at lw_m4 2 rfl) rfl
theorem q820 : (Jvm.Cond.lays "SpoonRow" "SpoonRow" "bed" "LSpoonRow$Bed;") ∈ lw_all := lw_g (lw_at lw_m4 3 rfl) rfl
theorem q821 : (Jvm.Cond.soleField "SpoonRow" "bed") ∈ lw_all := lw_g (lw_at lw_m4 4 rfl) rfl
theorem q822 : (Jvm.Cond.laysFinal "SpoonRow" "SpoonRow" "book" "LSpoonRow$Book;") ∈ lw_all := lw_g (lw_at lw_m4 5 rfl) rfl
theorem q823 : (Jvm.Cond.soleField "SpoonRow" "book") ∈ lw_all := lw_g (lw_at lw_m4 6 rfl) rfl
theorem q824 : (Jvm.Cond.laysFinal "SpoonRow" "SpoonRow" "image" "LSpoonRow$Book;") ∈ lw_all := lw_g (lw_at lw_m4 7 rfl) rfl
theorem q825 : (Jvm.Cond.soleField "SpoonRow" "image") ∈ lw_all := lw_g (lw_at lw_m4 8 rfl) rfl
theorem q826 : (Jvm.Cond.laysFinal "SpoonRow" "SpoonRow" "now" "LSpoonRow$Lay;") ∈ lw_all := lw_g (lw_at lw_m4 9 rfl) rfl
theorem q827 : (Jvm.Cond.soleField "SpoonRow" "now") ∈ lw_all := lw_g (lw_at lw_m4 10 rfl) rfl
theorem q828 : (Jvm.Cond.laysFinal "SpoonRow" "SpoonRow" "tried" "LSpoonRow$Lay;") ∈ lw_all := lw_g (lw_at lw_m4 11 rfl) rfl
theorem q829 : (Jvm.Cond.soleField "SpoonRow" "tried") ∈ lw_all := lw_g (lw_at lw_m4 12 rfl) rfl
theorem q830 : (Jvm.Cond.laysFinal "SpoonRow" "SpoonRow" "turnAt" "[I") ∈ lw_all := lw_g (lw_at lw_m4 13 rfl) rfl
theorem q831 : (Jvm.Cond.soleField "SpoonRow" "turnAt") ∈ lw_all := lw_g (lw_at lw_m4 14 rfl) rfl
theorem q832 : (Jvm.Cond.laysFinal "SpoonRow" "SpoonRow" "turnBy" "[I") ∈ lw_all := lw_g (lw_at lw_m4 15 rfl) rfl
theorem q833 : (Jvm.Cond.soleField "SpoonRow" "turnBy") ∈ lw_all := lw_g (lw_at lw_m4 16 rfl) rfl
theorem q834 : (Jvm.Cond.laysFinal "SpoonRow" "SpoonRow" "turnWoken" "[I") ∈ lw_all := lw_g (lw_at lw_m4 17 rfl) rfl
theorem q835 : (Jvm.Cond.soleField "SpoonRow" "turnWoken") ∈ lw_all := lw_g (lw_at lw_m4 18 rfl) rfl
theorem q836 : (Jvm.Cond.laysFinal "SpoonRow" "SpoonRow" "turnWord" "[I") ∈ lw_all := lw_g (lw_at lw_m4 19 rfl) rfl
theorem q837 : (Jvm.Cond.soleField "SpoonRow" "turnWord") ∈ lw_all := lw_g (lw_at lw_m4 20 rfl) rfl
theorem q838 : (Jvm.Cond.laysFinal "SpoonRow" "SpoonRow" "nothing" "[I") ∈ lw_all := lw_g (lw_at lw_m4 21 rfl) rfl
theorem q839 : (Jvm.Cond.soleField "SpoonRow" "nothing") ∈ lw_all := lw_g (lw_at lw_m4 22 rfl) rfl
theorem q840 : (Jvm.Cond.lays "SpoonRow" "SpoonRow" "night" "LSpoonRow$Night;") ∈ lw_all := lw_g (lw_at lw_m4 23 rfl) rfl
theorem q841 : (Jvm.Cond.soleField "SpoonRow" "night") ∈ lw_all := lw_g (lw_at lw_m4 24 rfl) rfl
theorem q842 : (Jvm.Cond.lays "SpoonRow" "SpoonRow" "trial" "LSpoonRow$Night;") ∈ lw_all := lw_g (lw_at lw_m4 25 rfl) rfl
theorem q843 : (Jvm.Cond.soleField "SpoonRow" "trial") ∈ lw_all := lw_g (lw_at lw_m4 26 rfl) rfl
theorem q844 : (Jvm.Cond.lays "SpoonRow" "SpoonRow" "hasImage" "Z") ∈ lw_all := lw_g (lw_at lw_m4 27 rfl) rfl
theorem q845 : (Jvm.Cond.soleField "SpoonRow" "hasImage") ∈ lw_all := lw_g (lw_at lw_m4 28 rfl) rfl
theorem q846 : (Jvm.Cond.laysFinal "SpoonRow" "SpoonRow" "tape" "[B") ∈ lw_all := lw_g (lw_at lw_m4 29 rfl) rfl
theorem q847 : (Jvm.Cond.soleField "SpoonRow" "tape") ∈ lw_all := lw_g (lw_at lw_m4 30 rfl) rfl
theorem q848 : (Jvm.Cond.lays "SpoonRow" "SpoonRow" "taped" "I") ∈ lw_all := lw_g (lw_at lw_m4 31 rfl) rfl
theorem q849 : (Jvm.Cond.soleField "SpoonRow" "taped") ∈ lw_all := lw_g (lw_at lw_m4 32 rfl) rfl
theorem q850 : (Jvm.Cond.lays "SpoonRow" "SpoonRow" "faultPlace" "I") ∈ lw_all := lw_g (lw_at lw_m4 33 rfl) rfl
theorem q851 : (Jvm.Cond.soleField "SpoonRow" "faultPlace") ∈ lw_all := lw_g (lw_at lw_m4 34 rfl) rfl
theorem q852 : (Jvm.Cond.laysFinal "SpoonRow" "SpoonRow" "row" "[I") ∈ lw_all := lw_g (lw_at lw_m4 35 rfl) rfl
theorem q853 : (Jvm.Cond.soleField "SpoonRow" "row") ∈ lw_all := lw_g (lw_at lw_m4 36 rfl) rfl
theorem q854 : (Jvm.Cond.laysFinal "SpoonRow" "SpoonRow" "kept" "[I") ∈ lw_all := lw_g (lw_at lw_m4 37 rfl) rfl
theorem q855 : (Jvm.Cond.soleField "SpoonRow" "kept") ∈ lw_all := lw_g (lw_at lw_m4 38 rfl) rfl
theorem q856 : (Jvm.Cond.lays "SpoonRow" "SpoonRow" "hasKept" "Z") ∈ lw_all := lw_g (lw_at lw_m4 39 rfl) rfl
theorem q857 : (Jvm.Cond.soleField "SpoonRow" "hasKept") ∈ lw_all := lw_g (lw_at lw_m4 40 rfl) rfl
theorem q858 : (Jvm.Cond.laysFinal "SpoonRow" "SpoonRow" "sums" "[I") ∈ lw_all := lw_g (lw_at lw_m4 41 rfl) rfl
theorem q859 : (Jvm.Cond.soleField "SpoonRow" "sums") ∈ lw_all := lw_g (lw_at lw_m4 42 rfl) rfl
theorem q860 : (Jvm.Cond.lays "SpoonRow" "SpoonRow" "its" "I") ∈ lw_all := lw_g (lw_at lw_m4 43 rfl) rfl
theorem q861 : (Jvm.Cond.soleField "SpoonRow" "its") ∈ lw_all := lw_g (lw_at lw_m4 44 rfl) rfl
theorem q862 : (Jvm.Cond.superclass "SpoonRow" "java/lang/Object") ∈ lw_all := lw_g (lw_at lw_m4 45 rfl) rfl
theorem q864 : (Jvm.Cond.instanceMethod ({ cls := "SpoonRow", name := "feed", desc := "(IIIII)I" } : Jvm.MethodName)) ∈ lw_all := lw_g (lw_at lw_m4 47 rfl) rfl
theorem q865 : (Jvm.Cond.selects "SpoonRow" ({ cls := "SpoonRow", name := "feed", desc := "(IIIII)I" } : Jvm.MethodName) ({ cls := "SpoonRow", name := "feed", desc := "(IIIII)I" } : Jvm.MethodName)) ∈ lw_all := lw_g (lw_at lw_m4 48 rfl) rfl
theorem q866 : (Jvm.Cond.code ({ cls := "SpoonRow", name := "feed", desc := "(IIIII)I" } : Jvm.MethodName) prog_1_method_7_code (6 : Nat) (Option.some Jvm.ClassFile.FieldType.int)) ∈ lw_all := lw_g (lw_at lw_m4 49 rfl) rfl
theorem q867 : (Jvm.Cond.methodLink "SpoonRow" (117 : Nat) ({ cls := "SpoonRow", name := "lay", desc := "(I)V" } : Jvm.MethodName)) ∈ lw_all := lw_g (lw_at lw_m4 50 rfl) rfl
theorem q868 : (Jvm.Cond.privateMethod ({ cls := "SpoonRow", name := "lay", desc := "(I)V" } : Jvm.MethodName)) ∈ lw_tbl := lw_at lw_m4 51 rfl
theorem q869 : (Jvm.Cond.instanceMethod ({ cls := "SpoonRow", name := "lay", desc := "(I)V" } : Jvm.MethodName)) ∈ lw_all := lw_g (lw_at lw_m4 52 rfl) rfl
theorem q870 : (Jvm.Cond.code ({ cls := "SpoonRow", name := "lay", desc := "(I)V" } : Jvm.MethodName) prog_1_method_8_code (3 : Nat) (Option.none : Option Jvm.ClassFile.FieldType)) ∈ lw_all := lw_g (lw_at lw_m4 53 rfl) rfl
theorem q872 : (Jvm.Cond.instanceMethod ({ cls := "SpoonRow", name := "fault", desc := "()I" } : Jvm.MethodName)) ∈ lw_all := lw_g (lw_at lw_m4 55 rfl) rfl
theorem q873 : (Jvm.Cond.selects "SpoonRow" ({ cls := "SpoonRow", name := "fault", desc := "()I" } : Jvm.MethodName) ({ cls := "SpoonRow", name := "fault", desc := "()I" } : Jvm.MethodName)) ∈ lw_all := lw_g (lw_at lw_m4 56 rfl) rfl
theorem q874 : (Jvm.Cond.code ({ cls := "SpoonRow", name := "fault", desc := "()I" } : Jvm.MethodName) prog_1_method_10_code (1 : Nat) (Option.some Jvm.ClassFile.FieldType.int)) ∈ lw_all := lw_g (lw_at lw_m4 57 rfl) rfl
theorem q876 : (Jvm.Cond.instanceMethod ({ cls := "SpoonRow", name := "swap", desc := "(II)Z" } : Jvm.MethodName)) ∈ lw_all := lw_g (lw_at lw_m4 59 rfl) rfl
theorem q877 : (Jvm.Cond.selects "SpoonRow" ({ cls := "SpoonRow", name := "swap", desc := "(II)Z" } : Jvm.MethodName) ({ cls := "SpoonRow", name := "swap", desc := "(II)Z" } : Jvm.MethodName)) ∈ lw_all := lw_g (lw_at lw_m4 60 rfl) rfl
theorem q878 : (Jvm.Cond.code ({ cls := "SpoonRow", name := "swap", desc := "(II)Z" } : Jvm.MethodName) prog_1_method_15_code (3 : Nat) (Option.some Jvm.ClassFile.FieldType.boolean)) ∈ lw_all := lw_g (lw_at lw_m4 61 rfl) rfl
theorem q879 : (Jvm.Cond.methodLink "SpoonRow" (220 : Nat) ({ cls := "SpoonRow", name := "isPlace", desc := "(I)Z" } : Jvm.MethodName)) ∈ lw_all := lw_g (lw_at lw_m4 62 rfl) rfl
theorem q880 : (Jvm.Cond.privateMethod ({ cls := "SpoonRow", name := "isPlace", desc := "(I)Z" } : Jvm.MethodName)) ∈ lw_tbl := lw_at lw_m4 63 rfl
theorem q881 : (Jvm.Cond.instanceMethod ({ cls := "SpoonRow", name := "isPlace", desc := "(I)Z" } : Jvm.MethodName)) ∈ lw_all := lw_g (lw_at lw_m4 64 rfl) rfl
theorem q882 : (Jvm.Cond.code ({ cls := "SpoonRow", name := "isPlace", desc := "(I)Z" } : Jvm.MethodName) prog_1_method_14_code (2 : Nat) (Option.some Jvm.ClassFile.FieldType.boolean)) ∈ lw_all := lw_g (lw_at lw_m4 65 rfl) rfl
theorem q883 : (Jvm.Cond.methodLink "SpoonRow" (102 : Nat) ({ cls := "SpoonRow", name := "sleepers", desc := "()I" } : Jvm.MethodName)) ∈ lw_all := lw_g (lw_at lw_m4 66 rfl) rfl
theorem q884 : (Jvm.Cond.privateMethod ({ cls := "SpoonRow", name := "sleepers", desc := "()I" } : Jvm.MethodName)) ∈ lw_tbl := lw_at lw_m4 67 rfl
theorem q885 : (Jvm.Cond.instanceMethod ({ cls := "SpoonRow", name := "sleepers", desc := "()I" } : Jvm.MethodName)) ∈ lw_all := lw_g (lw_at lw_m4 68 rfl) rfl
theorem q886 : (Jvm.Cond.code ({ cls := "SpoonRow", name := "sleepers", desc := "()I" } : Jvm.MethodName) prog_1_method_5_code (1 : Nat) (Option.some Jvm.ClassFile.FieldType.int)) ∈ lw_all := lw_g (lw_at lw_m4 69 rfl) rfl
theorem q887 : (Jvm.Cond.methodLink "SpoonRow" (96 : Nat) ({ cls := "java/util/ArrayList", name := "size", desc := "()I" } : Jvm.MethodName)) ∈ lw_all := lw_g (lw_at lw_m4 70 rfl) rfl
theorem q888 : (Jvm.Cond.methodLink "SpoonRow" (224 : Nat) ({ cls := "SpoonRow", name := "refuses", desc := "(I)I" } : Jvm.MethodName)) ∈ lw_all := lw_g (lw_at lw_m4 71 rfl) rfl
theorem q889 : (Jvm.Cond.privateMethod ({ cls := "SpoonRow", name := "refuses", desc := "(I)I" } : Jvm.MethodName)) ∈ lw_tbl := lw_at lw_m4 72 rfl
theorem q890 : (Jvm.Cond.instanceMethod ({ cls := "SpoonRow", name := "refuses", desc := "(I)I" } : Jvm.MethodName)) ∈ lw_all := lw_g (lw_at lw_m4 73 rfl) rfl
theorem q891 : (Jvm.Cond.code ({ cls := "SpoonRow", name := "refuses", desc := "(I)I" } : Jvm.MethodName) prog_1_method_13_code (2 : Nat) (Option.some Jvm.ClassFile.FieldType.int)) ∈ lw_all := lw_g (lw_at lw_m4 74 rfl) rfl
theorem q892 : (Jvm.Cond.methodLink "SpoonRow" (227 : Nat) ({ cls := "SpoonRow$Book", name := "keeps", desc := "()V" } : Jvm.MethodName)) ∈ lw_all := lw_g (lw_at lw_m4 75 rfl) rfl
theorem q911 : (Jvm.Cond.methodLink "SpoonRow" (230 : Nat) ({ cls := "SpoonRow$Lay", name := "swap", desc := "(II)V" } : Jvm.MethodName)) ∈ lw_all := lw_g (lw_at lw_m4 94 rfl) rfl
theorem q916 : (Jvm.Cond.instanceMethod ({ cls := "SpoonRow", name := "side", desc := "(I)I" } : Jvm.MethodName)) ∈ lw_all := lw_g (lw_at lw_m4 99 rfl) rfl
theorem q917 : (Jvm.Cond.selects "SpoonRow" ({ cls := "SpoonRow", name := "side", desc := "(I)I" } : Jvm.MethodName) ({ cls := "SpoonRow", name := "side", desc := "(I)I" } : Jvm.MethodName)) ∈ lw_all := lw_g (lw_at lw_m4 100 rfl) rfl
theorem q918 : (Jvm.Cond.code ({ cls := "SpoonRow", name := "side", desc := "(I)I" } : Jvm.MethodName) prog_1_method_16_code (3 : Nat) (Option.some Jvm.ClassFile.FieldType.int)) ∈ lw_all := lw_g (lw_at lw_m4 101 rfl) rfl
theorem q919 : (Jvm.Cond.methodLink "SpoonRow" (156 : Nat) ({ cls := "SpoonRow", name := "within", desc := "(III)Z" } : Jvm.MethodName)) ∈ lw_all := lw_g (lw_at lw_m4 102 rfl) rfl
theorem q920 : (Jvm.Cond.static ({ cls := "SpoonRow", name := "within", desc := "(III)Z" } : Jvm.MethodName)) ∈ lw_all := lw_g (lw_at lw_m4 103 rfl) rfl
theorem q921 : (Jvm.Cond.code ({ cls := "SpoonRow", name := "within", desc := "(III)Z" } : Jvm.MethodName) prog_1_method_4_code (3 : Nat) (Option.some Jvm.ClassFile.FieldType.boolean)) ∈ lw_all := lw_g (lw_at lw_m4 104 rfl) rfl
theorem q923 : (Jvm.Cond.instanceMethod ({ cls := "SpoonRow", name := "bolster", desc := "(IZ)Z" } : Jvm.MethodName)) ∈ lw_all := lw_g (lw_at lw_m4 106 rfl) rfl
theorem q924 : (Jvm.Cond.selects "SpoonRow" ({ cls := "SpoonRow", name := "bolster", desc := "(IZ)Z" } : Jvm.MethodName) ({ cls := "SpoonRow", name := "bolster", desc := "(IZ)Z" } : Jvm.MethodName)) ∈ lw_all := lw_g (lw_at lw_m4 107 rfl) rfl
theorem q925 : (Jvm.Cond.code ({ cls := "SpoonRow", name := "bolster", desc := "(IZ)Z" } : Jvm.MethodName) prog_1_method_18_code (3 : Nat) (Option.some Jvm.ClassFile.FieldType.boolean)) ∈ lw_all := lw_g (lw_at lw_m4 108 rfl) rfl
theorem q927 : (Jvm.Cond.instanceMethod ({ cls := "SpoonRow", name := "undo", desc := "()I" } : Jvm.MethodName)) ∈ lw_all := lw_g (lw_at lw_m4 110 rfl) rfl
theorem q928 : (Jvm.Cond.selects "SpoonRow" ({ cls := "SpoonRow", name := "undo", desc := "()I" } : Jvm.MethodName) ({ cls := "SpoonRow", name := "undo", desc := "()I" } : Jvm.MethodName)) ∈ lw_all := lw_g (lw_at lw_m4 111 rfl) rfl
theorem q929 : (Jvm.Cond.code ({ cls := "SpoonRow", name := "undo", desc := "()I" } : Jvm.MethodName) prog_1_method_20_code (1 : Nat) (Option.some Jvm.ClassFile.FieldType.int)) ∈ lw_all := lw_g (lw_at lw_m4 112 rfl) rfl
theorem q930 : (Jvm.Cond.methodLink "SpoonRow" (108 : Nat) ({ cls := "java/util/ArrayList", name := "get", desc := "(I)Ljava/lang/Object;" } : Jvm.MethodName)) ∈ lw_all := lw_g (lw_at lw_m4 113 rfl) rfl
theorem q931 : (Jvm.Cond.methodLink "SpoonRow" (241 : Nat) ({ cls := "SpoonRow$Lay", name := "like", desc := "(LSpoonRow$Lay;)V" } : Jvm.MethodName)) ∈ lw_all := lw_g (lw_at lw_m4 114 rfl) rfl
theorem q933 : (Jvm.Cond.instanceMethod ({ cls := "SpoonRow", name := "orders", desc := "()I" } : Jvm.MethodName)) ∈ lw_all := lw_g (lw_at lw_m4 116 rfl) rfl
theorem q934 : (Jvm.Cond.selects "SpoonRow" ({ cls := "SpoonRow", name := "orders", desc := "()I" } : Jvm.MethodName) ({ cls := "SpoonRow", name := "orders", desc := "()I" } : Jvm.MethodName)) ∈ lw_all := lw_g (lw_at lw_m4 117 rfl) rfl
theorem q935 : (Jvm.Cond.code ({ cls := "SpoonRow", name := "orders", desc := "()I" } : Jvm.MethodName) prog_1_method_30_code (3 : Nat) (Option.some Jvm.ClassFile.FieldType.int)) ∈ lw_all := lw_g (lw_at lw_m4 118 rfl) rfl
theorem q936 : (Jvm.Cond.methodLink "SpoonRow" (275 : Nat) ({ cls := "SpoonRow", name := "firstRow", desc := "()V" } : Jvm.MethodName)) ∈ lw_all := lw_g (lw_at lw_m4 119 rfl) rfl
theorem q937 : (Jvm.Cond.privateMethod ({ cls := "SpoonRow", name := "firstRow", desc := "()V" } : Jvm.MethodName)) ∈ lw_tbl := lw_at lw_m4 120 rfl
theorem q938 : (Jvm.Cond.instanceMethod ({ cls := "SpoonRow", name := "firstRow", desc := "()V" } : Jvm.MethodName)) ∈ lw_all := lw_g (lw_at lw_m4 121 rfl) rfl
theorem q939 : (Jvm.Cond.code ({ cls := "SpoonRow", name := "firstRow", desc := "()V" } : Jvm.MethodName) prog_1_method_26_code (2 : Nat) (Option.none : Option Jvm.ClassFile.FieldType)) ∈ lw_all := lw_g (lw_at lw_m4 122 rfl) rfl
theorem q940 : (Jvm.Cond.methodLink "SpoonRow" (278 : Nat) ({ cls := "SpoonRow", name := "isPeaceful", desc := "()Z" } : Jvm.MethodName)) ∈ lw_all := lw_g (lw_at lw_m4 123 rfl) rfl
theorem q941 : (Jvm.Cond.privateMethod ({ cls := "SpoonRow", name := "isPeaceful", desc := "()Z" } : Jvm.MethodName)) ∈ lw_tbl := lw_at lw_m4 124 rfl
theorem q942 : (Jvm.Cond.instanceMethod ({ cls := "SpoonRow", name := "isPeaceful", desc := "()Z" } : Jvm.MethodName)) ∈ lw_all := lw_g (lw_at lw_m4 125 rfl) rfl
theorem q943 : (Jvm.Cond.code ({ cls := "SpoonRow", name := "isPeaceful", desc := "()Z" } : Jvm.MethodName) prog_1_method_29_code (2 : Nat) (Option.some Jvm.ClassFile.FieldType.boolean)) ∈ lw_all := lw_g (lw_at lw_m4 126 rfl) rfl
theorem q944 : (Jvm.Cond.methodLink "SpoonRow" (281 : Nat) ({ cls := "SpoonRow", name := "nextRow", desc := "()Z" } : Jvm.MethodName)) ∈ lw_all := lw_g (lw_at lw_m4 127 rfl) rfl
theorem q945 : (Jvm.Cond.privateMethod ({ cls := "SpoonRow", name := "nextRow", desc := "()Z" } : Jvm.MethodName)) ∈ lw_tbl := lw_at lw_m4 128 rfl
theorem q946 : (Jvm.Cond.instanceMethod ({ cls := "SpoonRow", name := "nextRow", desc := "()Z" } : Jvm.MethodName)) ∈ lw_all := lw_g (lw_at lw_m4 129 rfl) rfl
theorem q947 : (Jvm.Cond.code ({ cls := "SpoonRow", name := "nextRow", desc := "()Z" } : Jvm.MethodName) prog_1_method_27_code (5 : Nat) (Option.some Jvm.ClassFile.FieldType.boolean)) ∈ lw_all := lw_g (lw_at lw_m4 130 rfl) rfl
theorem q948 : (Jvm.Cond.methodLink "SpoonRow" (272 : Nat) ({ cls := "SpoonRow", name := "changes", desc := "(II)V" } : Jvm.MethodName)) ∈ lw_all := lw_g (lw_at lw_m4 131 rfl) rfl
theorem q949 : (Jvm.Cond.privateMethod ({ cls := "SpoonRow", name := "changes", desc := "(II)V" } : Jvm.MethodName)) ∈ lw_tbl := lw_at lw_m4 132 rfl
theorem q950 : (Jvm.Cond.instanceMethod ({ cls := "SpoonRow", name := "changes", desc := "(II)V" } : Jvm.MethodName)) ∈ lw_all := lw_g (lw_at lw_m4 133 rfl) rfl
theorem q951 : (Jvm.Cond.code ({ cls := "SpoonRow", name := "changes", desc := "(II)V" } : Jvm.MethodName) prog_1_method_28_code (4 : Nat) (Option.none : Option Jvm.ClassFile.FieldType)) ∈ lw_all := lw_g (lw_at lw_m4 134 rfl) rfl
theorem q953 : (Jvm.Cond.instanceMethod ({ cls := "SpoonRow", name := "order", desc := "()I" } : Jvm.MethodName)) ∈ lw_all := lw_g (lw_at lw_m4 136 rfl) rfl
theorem q954 : (Jvm.Cond.selects "SpoonRow" ({ cls := "SpoonRow", name := "order", desc := "()I" } : Jvm.MethodName) ({ cls := "SpoonRow", name := "order", desc := "()I" } : Jvm.MethodName)) ∈ lw_all := lw_g (lw_at lw_m4 137 rfl) rfl
theorem q955 : (Jvm.Cond.code ({ cls := "SpoonRow", name := "order", desc := "()I" } : Jvm.MethodName) prog_1_method_32_code (4 : Nat) (Option.some Jvm.ClassFile.FieldType.int)) ∈ lw_all := lw_g (lw_at lw_m4 138 rfl) rfl
theorem q956 : (Jvm.Cond.methodLink "SpoonRow" (284 : Nat) ({ cls := "java/lang/System", name := "arraycopy", desc := "(Ljava/lang/Object;ILjava/lang/Object;II)V" } : Jvm.MethodName)) ∈ lw_all := lw_g (lw_at lw_m4 139 rfl) rfl
theorem q957 : (Jvm.Cond.methodLink "SpoonRow" (293 : Nat) ({ cls := "SpoonRow", name := "tries", desc := "()I" } : Jvm.MethodName)) ∈ lw_all := lw_g (lw_at lw_m4 140 rfl) rfl
theorem q958 : (Jvm.Cond.privateMethod ({ cls := "SpoonRow", name := "tries", desc := "()I" } : Jvm.MethodName)) ∈ lw_tbl := lw_at lw_m4 141 rfl
theorem q959 : (Jvm.Cond.instanceMethod ({ cls := "SpoonRow", name := "tries", desc := "()I" } : Jvm.MethodName)) ∈ lw_all := lw_g (lw_at lw_m4 142 rfl) rfl
theorem q960 : (Jvm.Cond.code ({ cls := "SpoonRow", name := "tries", desc := "()I" } : Jvm.MethodName) prog_1_method_25_code (1 : Nat) (Option.some Jvm.ClassFile.FieldType.int)) ∈ lw_all := lw_g (lw_at lw_m4 143 rfl) rfl
theorem q961 : (Jvm.Cond.methodLink "SpoonRow" (245 : Nat) ({ cls := "SpoonRow$Night", name := "all", desc := "()V" } : Jvm.MethodName)) ∈ lw_all := lw_g (lw_at lw_m4 144 rfl) rfl
theorem q1117 : (Jvm.Cond.methodLink "SpoonRow" (251 : Nat) ({ cls := "SpoonRow$Night", name := "wokenAll", desc := "()I" } : Jvm.MethodName)) ∈ lw_all := lw_g (lw_at lw_m5 60 rfl) rfl
theorem q1121 : (Jvm.Cond.methodLink "SpoonRow" (296 : Nat) ({ cls := "SpoonRow", name := "keeps", desc := "()V" } : Jvm.MethodName)) ∈ lw_all := lw_g (lw_at lw_m5 64 rfl) rfl
theorem q1122 : (Jvm.Cond.privateMethod ({ cls := "SpoonRow", name := "keeps", desc := "()V" } : Jvm.MethodName)) ∈ lw_tbl := lw_at lw_m5 65 rfl
theorem q1123 : (Jvm.Cond.instanceMethod ({ cls := "SpoonRow", name := "keeps", desc := "()V" } : Jvm.MethodName)) ∈ lw_all := lw_g (lw_at lw_m5 66 rfl) rfl
theorem q1124 : (Jvm.Cond.code ({ cls := "SpoonRow", name := "keeps", desc := "()V" } : Jvm.MethodName) prog_1_method_31_code (1 : Nat) (Option.none : Option Jvm.ClassFile.FieldType)) ∈ lw_all := lw_g (lw_at lw_m5 67 rfl) rfl
theorem q1126 : (Jvm.Cond.instanceMethod ({ cls := "SpoonRow", name := "edge", desc := "()I" } : Jvm.MethodName)) ∈ lw_all := lw_g (lw_at lw_m5 69 rfl) rfl
theorem q1127 : (Jvm.Cond.selects "SpoonRow" ({ cls := "SpoonRow", name := "edge", desc := "()I" } : Jvm.MethodName) ({ cls := "SpoonRow", name := "edge", desc := "()I" } : Jvm.MethodName)) ∈ lw_all := lw_g (lw_at lw_m5 70 rfl) rfl
theorem q1128 : (Jvm.Cond.code ({ cls := "SpoonRow", name := "edge", desc := "()I" } : Jvm.MethodName) prog_1_method_40_code (4 : Nat) (Option.some Jvm.ClassFile.FieldType.int)) ∈ lw_all := lw_g (lw_at lw_m5 71 rfl) rfl
theorem q1129 : (Jvm.Cond.methodLink "SpoonRow" (311 : Nat) ({ cls := "SpoonRow", name := "goings", desc := "([I)I" } : Jvm.MethodName)) ∈ lw_all := lw_g (lw_at lw_m5 72 rfl) rfl
theorem q1130 : (Jvm.Cond.privateMethod ({ cls := "SpoonRow", name := "goings", desc := "([I)I" } : Jvm.MethodName)) ∈ lw_tbl := lw_at lw_m5 73 rfl
theorem q1131 : (Jvm.Cond.instanceMethod ({ cls := "SpoonRow", name := "goings", desc := "([I)I" } : Jvm.MethodName)) ∈ lw_all := lw_g (lw_at lw_m5 74 rfl) rfl
theorem q1132 : (Jvm.Cond.code ({ cls := "SpoonRow", name := "goings", desc := "([I)I" } : Jvm.MethodName) prog_1_method_38_code (5 : Nat) (Option.some Jvm.ClassFile.FieldType.int)) ∈ lw_all := lw_g (lw_at lw_m5 75 rfl) rfl
theorem q1133 : (Jvm.Cond.classLink "SpoonRow" (112 : Nat) "SpoonRow$Sleeper") ∈ lw_all := lw_g (lw_at lw_m5 76 rfl) rfl
theorem q1134 : (Jvm.Cond.methodLink "SpoonRow" (308 : Nat) ({ cls := "SpoonRow$Sleeper", name := "isWoken", desc := "()Z" } : Jvm.MethodName)) ∈ lw_all := lw_g (lw_at lw_m5 77 rfl) rfl
theorem q1136 : (Jvm.Cond.instanceMethod ({ cls := "SpoonRow", name := "forget", desc := "()I" } : Jvm.MethodName)) ∈ lw_all := lw_g (lw_at lw_m5 79 rfl) rfl
theorem q1137 : (Jvm.Cond.selects "SpoonRow" ({ cls := "SpoonRow", name := "forget", desc := "()I" } : Jvm.MethodName) ({ cls := "SpoonRow", name := "forget", desc := "()I" } : Jvm.MethodName)) ∈ lw_all := lw_g (lw_at lw_m5 80 rfl) rfl
theorem q1138 : (Jvm.Cond.code ({ cls := "SpoonRow", name := "forget", desc := "()I" } : Jvm.MethodName) prog_1_method_43_code (1 : Nat) (Option.some Jvm.ClassFile.FieldType.int)) ∈ lw_all := lw_g (lw_at lw_m5 81 rfl) rfl
theorem q1140 : (Jvm.Cond.instanceMethod ({ cls := "SpoonRow", name := "image", desc := "()V" } : Jvm.MethodName)) ∈ lw_all := lw_g (lw_at lw_m5 83 rfl) rfl
theorem q1141 : (Jvm.Cond.selects "SpoonRow" ({ cls := "SpoonRow", name := "image", desc := "()V" } : Jvm.MethodName) ({ cls := "SpoonRow", name := "image", desc := "()V" } : Jvm.MethodName)) ∈ lw_all := lw_g (lw_at lw_m5 84 rfl) rfl
theorem q1142 : (Jvm.Cond.code ({ cls := "SpoonRow", name := "image", desc := "()V" } : Jvm.MethodName) prog_1_method_50_code (1 : Nat) (Option.none : Option Jvm.ClassFile.FieldType)) ∈ lw_all := lw_g (lw_at lw_m5 85 rfl) rfl
theorem q1143 : (Jvm.Cond.methodLink "SpoonRow" (357 : Nat) ({ cls := "SpoonRow$Book", name := "like", desc := "(LSpoonRow$Book;)V" } : Jvm.MethodName)) ∈ lw_all := lw_g (lw_at lw_m5 86 rfl) rfl
theorem q1149 : (Jvm.Cond.instanceMethod ({ cls := "SpoonRow", name := "restore", desc := "()Z" } : Jvm.MethodName)) ∈ lw_all := lw_g (lw_at lw_m5 92 rfl) rfl
theorem q1150 : (Jvm.Cond.selects "SpoonRow" ({ cls := "SpoonRow", name := "restore", desc := "()Z" } : Jvm.MethodName) ({ cls := "SpoonRow", name := "restore", desc := "()Z" } : Jvm.MethodName)) ∈ lw_all := lw_g (lw_at lw_m5 93 rfl) rfl
theorem q1151 : (Jvm.Cond.code ({ cls := "SpoonRow", name := "restore", desc := "()Z" } : Jvm.MethodName) prog_1_method_51_code (1 : Nat) (Option.some Jvm.ClassFile.FieldType.boolean)) ∈ lw_all := lw_g (lw_at lw_m5 94 rfl) rfl
theorem q1157 : (Jvm.Cond.instanceMethod ({ cls := "SpoonRow", name := "bed", desc := "(I)I" } : Jvm.MethodName)) ∈ lw_all := lw_g (lw_at lw_m5 100 rfl) rfl
theorem q1158 : (Jvm.Cond.selects "SpoonRow" ({ cls := "SpoonRow", name := "bed", desc := "(I)I" } : Jvm.MethodName) ({ cls := "SpoonRow", name := "bed", desc := "(I)I" } : Jvm.MethodName)) ∈ lw_all := lw_g (lw_at lw_m5 101 rfl) rfl
theorem q1159 : (Jvm.Cond.codeWith ({ cls := "SpoonRow", name := "bed", desc := "(I)I" } : Jvm.MethodName) prog_1_method_9_code (3 : Nat) (Option.some Jvm.ClassFile.FieldType.int) [((30 : Nat), (49 : Nat), (52 : Nat), (132 : Nat))]) ∈ lw_all := lw_g (lw_at lw_m5 102 rfl) rfl
theorem q1160 : (Jvm.Cond.classLink "SpoonRow" (132 : Nat) "SpoonRow$Fault") ∈ lw_all := lw_g (lw_at lw_m5 103 rfl) rfl
theorem q1161 : (Jvm.Cond.methodLink "SpoonRow" (121 : Nat) ({ cls := "SpoonRow", name := "right", desc := "(Z)V" } : Jvm.MethodName)) ∈ lw_all := lw_g (lw_at lw_m5 104 rfl) rfl
theorem q1162 : (Jvm.Cond.static ({ cls := "SpoonRow", name := "right", desc := "(Z)V" } : Jvm.MethodName)) ∈ lw_all := lw_g (lw_at lw_m5 105 rfl) rfl
theorem q1163 : (Jvm.Cond.code ({ cls := "SpoonRow", name := "right", desc := "(Z)V" } : Jvm.MethodName) prog_1_method_2_code (1 : Nat) (Option.none : Option Jvm.ClassFile.FieldType)) ∈ lw_all := lw_g (lw_at lw_m5 106 rfl) rfl
theorem q1164 : (Jvm.Cond.classLink "SpoonRow" (86 : Nat) "java/lang/IllegalArgumentException") ∈ lw_all := lw_g (lw_at lw_m5 107 rfl) rfl
theorem q1165 : (Jvm.Cond.methodLink "SpoonRow" (88 : Nat) ({ cls := "java/lang/IllegalArgumentException", name := "<init>", desc := "()V" } : Jvm.MethodName)) ∈ lw_all := lw_g (lw_at lw_m5 108 rfl) rfl
theorem q1175 : (Jvm.Cond.classLink "SpoonRow" (124 : Nat) "SpoonRow$Reader") ∈ lw_all := lw_g (lw_at lw_m5 118 rfl) rfl
theorem q1177 : (Jvm.Cond.methodLink "SpoonRow" (126 : Nat) ({ cls := "SpoonRow$Reader", name := "<init>", desc := "([BI)V" } : Jvm.MethodName)) ∈ lw_all := lw_g (lw_at lw_m5 120 rfl) rfl
theorem q1278 : (Jvm.Cond.methodLink "SpoonRow" (129 : Nat) ({ cls := "SpoonRow$Reader", name := "bed", desc := "()LSpoonRow$Bed;" } : Jvm.MethodName)) ∈ lw_all := lw_g (lw_at lw_m5 221 rfl) rfl
theorem q1318 : (Jvm.Cond.fieldLinkNest "SpoonRow" (140 : Nat) "SpoonRow$Fault" "kind" "I" "SpoonRow") ∈ lw_tbl := lw_at lw_m6 21 rfl
theorem q1320 : (Jvm.Cond.fieldLinkNest "SpoonRow" (134 : Nat) "SpoonRow$Fault" "place" "I" "SpoonRow") ∈ lw_tbl := lw_at lw_m6 23 rfl
theorem q1490 : (Jvm.Cond.fieldLink "SpoonRow" (196 : Nat) "SpoonRow$Sleeper" "left" "I") ∈ lw_all := lw_g (lw_at lw_m6 193 rfl) rfl
theorem q1492 : (Jvm.Cond.fieldLink "SpoonRow" (199 : Nat) "SpoonRow$Sleeper" "right" "I") ∈ lw_all := lw_g (lw_at lw_m6 195 rfl) rfl
theorem q1495 : (Jvm.Cond.fieldLink "SpoonRow" (201 : Nat) "SpoonRow$Sleeper" "light" "I") ∈ lw_all := lw_g (lw_at lw_m6 198 rfl) rfl
theorem q1498 : (Jvm.Cond.fieldLink "SpoonRow" (204 : Nat) "SpoonRow$Sleeper" "width" "I") ∈ lw_all := lw_g (lw_at lw_m6 201 rfl) rfl
theorem q1502 : (Jvm.Cond.fieldLink "SpoonRow" (210 : Nat) "SpoonRow$Sleeper" "tenths" "I") ∈ lw_all := lw_g (lw_at lw_m6 205 rfl) rfl
theorem q1553 : (Jvm.Cond.instanceMethod ({ cls := "SpoonRow", name := "count", desc := "(I)I" } : Jvm.MethodName)) ∈ lw_all := lw_g (lw_at lw_m7 16 rfl) rfl
theorem q1554 : (Jvm.Cond.selects "SpoonRow" ({ cls := "SpoonRow", name := "count", desc := "(I)I" } : Jvm.MethodName) ({ cls := "SpoonRow", name := "count", desc := "(I)I" } : Jvm.MethodName)) ∈ lw_all := lw_g (lw_at lw_m7 17 rfl) rfl
theorem q1555 : (Jvm.Cond.code ({ cls := "SpoonRow", name := "count", desc := "(I)I" } : Jvm.MethodName) prog_1_method_11_code (2 : Nat) (Option.some Jvm.ClassFile.FieldType.int)) ∈ lw_all := lw_g (lw_at lw_m7 18 rfl) rfl
theorem q1556 : (Jvm.Cond.methodLink "SpoonRow" (104 : Nat) ({ cls := "SpoonRow", name := "there", desc := "(Z)V" } : Jvm.MethodName)) ∈ lw_all := lw_g (lw_at lw_m7 19 rfl) rfl
theorem q1557 : (Jvm.Cond.static ({ cls := "SpoonRow", name := "there", desc := "(Z)V" } : Jvm.MethodName)) ∈ lw_all := lw_g (lw_at lw_m7 20 rfl) rfl
theorem q1558 : (Jvm.Cond.code ({ cls := "SpoonRow", name := "there", desc := "(Z)V" } : Jvm.MethodName) prog_1_method_3_code (1 : Nat) (Option.none : Option Jvm.ClassFile.FieldType)) ∈ lw_all := lw_g (lw_at lw_m7 21 rfl) rfl
theorem q1559 : (Jvm.Cond.classLink "SpoonRow" (89 : Nat) "java/util/NoSuchElementException") ∈ lw_all := lw_g (lw_at lw_m7 22 rfl) rfl
theorem q1568 : (Jvm.Cond.methodLink "SpoonRow" (91 : Nat) ({ cls := "java/util/NoSuchElementException", name := "<init>", desc := "()V" } : Jvm.MethodName)) ∈ lw_all := lw_g (lw_at lw_m7 31 rfl) rfl
theorem q1578 : (Jvm.Cond.instanceMethod ({ cls := "SpoonRow", name := "sleeper", desc := "(II)I" } : Jvm.MethodName)) ∈ lw_all := lw_g (lw_at lw_m7 41 rfl) rfl
theorem q1579 : (Jvm.Cond.selects "SpoonRow" ({ cls := "SpoonRow", name := "sleeper", desc := "(II)I" } : Jvm.MethodName) ({ cls := "SpoonRow", name := "sleeper", desc := "(II)I" } : Jvm.MethodName)) ∈ lw_all := lw_g (lw_at lw_m7 42 rfl) rfl
theorem q1580 : (Jvm.Cond.code ({ cls := "SpoonRow", name := "sleeper", desc := "(II)I" } : Jvm.MethodName) prog_1_method_12_code (4 : Nat) (Option.some Jvm.ClassFile.FieldType.int)) ∈ lw_all := lw_g (lw_at lw_m7 43 rfl) rfl
theorem q1581 : (Jvm.Cond.methodLink "SpoonRow" (190 : Nat) ({ cls := "SpoonRow", name := "sleeperAt", desc := "(I)LSpoonRow$Sleeper;" } : Jvm.MethodName)) ∈ lw_all := lw_g (lw_at lw_m7 44 rfl) rfl
theorem q1582 : (Jvm.Cond.privateMethod ({ cls := "SpoonRow", name := "sleeperAt", desc := "(I)LSpoonRow$Sleeper;" } : Jvm.MethodName)) ∈ lw_tbl := lw_at lw_m7 45 rfl
theorem q1583 : (Jvm.Cond.instanceMethod ({ cls := "SpoonRow", name := "sleeperAt", desc := "(I)LSpoonRow$Sleeper;" } : Jvm.MethodName)) ∈ lw_all := lw_g (lw_at lw_m7 46 rfl) rfl
theorem q1584 : (Jvm.Cond.code ({ cls := "SpoonRow", name := "sleeperAt", desc := "(I)LSpoonRow$Sleeper;" } : Jvm.MethodName) prog_1_method_6_code (2 : Nat) (Option.some (Jvm.ClassFile.FieldType.object "SpoonRow$Sleeper"))) ∈ lw_all := lw_g (lw_at lw_m7 47 rfl) rfl
theorem q1585 : (Jvm.Cond.methodLink "SpoonRow" (194 : Nat) ({ cls := "SpoonRow$Sleeper", name := "kind", desc := "()I" } : Jvm.MethodName)) ∈ lw_all := lw_g (lw_at lw_m7 48 rfl) rfl
theorem q1600 : (Jvm.Cond.methodLink "SpoonRow" (213 : Nat) ({ cls := "SpoonRow$Lay", name := "placeOf", desc := "(I)I" } : Jvm.MethodName)) ∈ lw_all := lw_g (lw_at lw_m7 63 rfl) rfl
theorem q1605 : (Jvm.Cond.instanceMethod ({ cls := "SpoonRow", name := "word", desc := "(II)I" } : Jvm.MethodName)) ∈ lw_all := lw_g (lw_at lw_m7 68 rfl) rfl
theorem q1606 : (Jvm.Cond.selects "SpoonRow" ({ cls := "SpoonRow", name := "word", desc := "(II)I" } : Jvm.MethodName) ({ cls := "SpoonRow", name := "word", desc := "(II)I" } : Jvm.MethodName)) ∈ lw_all := lw_g (lw_at lw_m7 69 rfl) rfl
theorem q1607 : (Jvm.Cond.code ({ cls := "SpoonRow", name := "word", desc := "(II)I" } : Jvm.MethodName) prog_1_method_17_code (5 : Nat) (Option.some Jvm.ClassFile.FieldType.int)) ∈ lw_all := lw_g (lw_at lw_m7 70 rfl) rfl
theorem q1608 : (Jvm.Cond.methodLink "SpoonRow" (234 : Nat) ({ cls := "SpoonRow$Sleeper", name := "isTurned", desc := "()Z" } : Jvm.MethodName)) ∈ lw_all := lw_g (lw_at lw_m7 71 rfl) rfl
theorem q1613 : (Jvm.Cond.instanceMethod ({ cls := "SpoonRow", name := "out", desc := "(II)I" } : Jvm.MethodName)) ∈ lw_all := lw_g (lw_at lw_m7 76 rfl) rfl
theorem q1614 : (Jvm.Cond.selects "SpoonRow" ({ cls := "SpoonRow", name := "out", desc := "(II)I" } : Jvm.MethodName) ({ cls := "SpoonRow", name := "out", desc := "(II)I" } : Jvm.MethodName)) ∈ lw_all := lw_g (lw_at lw_m7 77 rfl) rfl
theorem q1615 : (Jvm.Cond.code ({ cls := "SpoonRow", name := "out", desc := "(II)I" } : Jvm.MethodName) prog_1_method_19_code (5 : Nat) (Option.some Jvm.ClassFile.FieldType.int)) ∈ lw_all := lw_g (lw_at lw_m7 78 rfl) rfl
theorem q1620 : (Jvm.Cond.instanceMethod ({ cls := "SpoonRow", name := "night", desc := "(I)I" } : Jvm.MethodName)) ∈ lw_all := lw_g (lw_at lw_m7 83 rfl) rfl
theorem q1621 : (Jvm.Cond.selects "SpoonRow" ({ cls := "SpoonRow", name := "night", desc := "(I)I" } : Jvm.MethodName) ({ cls := "SpoonRow", name := "night", desc := "(I)I" } : Jvm.MethodName)) ∈ lw_all := lw_g (lw_at lw_m7 84 rfl) rfl
theorem q1622 : (Jvm.Cond.code ({ cls := "SpoonRow", name := "night", desc := "(I)I" } : Jvm.MethodName) prog_1_method_21_code (4 : Nat) (Option.some Jvm.ClassFile.FieldType.int)) ∈ lw_all := lw_g (lw_at lw_m7 85 rfl) rfl
theorem q1627 : (Jvm.Cond.instanceMethod ({ cls := "SpoonRow", name := "woken", desc := "(II)I" } : Jvm.MethodName)) ∈ lw_all := lw_g (lw_at lw_m7 90 rfl) rfl
theorem q1628 : (Jvm.Cond.selects "SpoonRow" ({ cls := "SpoonRow", name := "woken", desc := "(II)I" } : Jvm.MethodName) ({ cls := "SpoonRow", name := "woken", desc := "(II)I" } : Jvm.MethodName)) ∈ lw_all := lw_g (lw_at lw_m7 91 rfl) rfl
theorem q1629 : (Jvm.Cond.code ({ cls := "SpoonRow", name := "woken", desc := "(II)I" } : Jvm.MethodName) prog_1_method_22_code (3 : Nat) (Option.some Jvm.ClassFile.FieldType.int)) ∈ lw_all := lw_g (lw_at lw_m7 92 rfl) rfl
theorem q1634 : (Jvm.Cond.instanceMethod ({ cls := "SpoonRow", name := "lies", desc := "(III)I" } : Jvm.MethodName)) ∈ lw_all := lw_g (lw_at lw_m7 97 rfl) rfl
theorem q1635 : (Jvm.Cond.selects "SpoonRow" ({ cls := "SpoonRow", name := "lies", desc := "(III)I" } : Jvm.MethodName) ({ cls := "SpoonRow", name := "lies", desc := "(III)I" } : Jvm.MethodName)) ∈ lw_all := lw_g (lw_at lw_m7 98 rfl) rfl
theorem q1636 : (Jvm.Cond.code ({ cls := "SpoonRow", name := "lies", desc := "(III)I" } : Jvm.MethodName) prog_1_method_23_code (4 : Nat) (Option.some Jvm.ClassFile.FieldType.int)) ∈ lw_all := lw_g (lw_at lw_m7 99 rfl) rfl
theorem q1637 : (Jvm.Cond.methodLink "SpoonRow" (263 : Nat) ({ cls := "SpoonRow$Night", name := "goesTo", desc := "(I)V" } : Jvm.MethodName)) ∈ lw_all := lw_g (lw_at lw_m7 100 rfl) rfl
theorem q1638 : (Jvm.Cond.methodLink "SpoonRow" (269 : Nat) ({ cls := "SpoonRow$Night", name := "isAwake", desc := "(I)Z" } : Jvm.MethodName)) ∈ lw_all := lw_g (lw_at lw_m7 101 rfl) rfl
theorem q1643 : (Jvm.Cond.instanceMethod ({ cls := "SpoonRow", name := "turn", desc := "(II)I" } : Jvm.MethodName)) ∈ lw_all := lw_g (lw_at lw_m7 106 rfl) rfl
theorem q1644 : (Jvm.Cond.selects "SpoonRow" ({ cls := "SpoonRow", name := "turn", desc := "(II)I" } : Jvm.MethodName) ({ cls := "SpoonRow", name := "turn", desc := "(II)I" } : Jvm.MethodName)) ∈ lw_all := lw_g (lw_at lw_m7 107 rfl) rfl
theorem q1645 : (Jvm.Cond.code ({ cls := "SpoonRow", name := "turn", desc := "(II)I" } : Jvm.MethodName) prog_1_method_24_code (3 : Nat) (Option.some Jvm.ClassFile.FieldType.int)) ∈ lw_all := lw_g (lw_at lw_m7 108 rfl) rfl
theorem q1650 : (Jvm.Cond.instanceMethod ({ cls := "SpoonRow", name := "kept", desc := "(I)I" } : Jvm.MethodName)) ∈ lw_all := lw_g (lw_at lw_m7 113 rfl) rfl
theorem q1651 : (Jvm.Cond.selects "SpoonRow" ({ cls := "SpoonRow", name := "kept", desc := "(I)I" } : Jvm.MethodName) ({ cls := "SpoonRow", name := "kept", desc := "(I)I" } : Jvm.MethodName)) ∈ lw_all := lw_g (lw_at lw_m7 114 rfl) rfl
theorem q1652 : (Jvm.Cond.code ({ cls := "SpoonRow", name := "kept", desc := "(I)I" } : Jvm.MethodName) prog_1_method_33_code (2 : Nat) (Option.some Jvm.ClassFile.FieldType.int)) ∈ lw_all := lw_g (lw_at lw_m7 115 rfl) rfl
theorem q1657 : (Jvm.Cond.instanceMethod ({ cls := "SpoonRow", name := "every", desc := "(II)I" } : Jvm.MethodName)) ∈ lw_all := lw_g (lw_at lw_m7 120 rfl) rfl
theorem q1658 : (Jvm.Cond.selects "SpoonRow" ({ cls := "SpoonRow", name := "every", desc := "(II)I" } : Jvm.MethodName) ({ cls := "SpoonRow", name := "every", desc := "(II)I" } : Jvm.MethodName)) ∈ lw_all := lw_g (lw_at lw_m7 121 rfl) rfl
theorem q1659 : (Jvm.Cond.code ({ cls := "SpoonRow", name := "every", desc := "(II)I" } : Jvm.MethodName) prog_1_method_34_code (8 : Nat) (Option.some Jvm.ClassFile.FieldType.int)) ∈ lw_all := lw_g (lw_at lw_m7 122 rfl) rfl
theorem q1664 : (Jvm.Cond.instanceMethod ({ cls := "SpoonRow", name := "bolsters", desc := "(I)I" } : Jvm.MethodName)) ∈ lw_all := lw_g (lw_at lw_m7 127 rfl) rfl
theorem q1665 : (Jvm.Cond.selects "SpoonRow" ({ cls := "SpoonRow", name := "bolsters", desc := "(I)I" } : Jvm.MethodName) ({ cls := "SpoonRow", name := "bolsters", desc := "(I)I" } : Jvm.MethodName)) ∈ lw_all := lw_g (lw_at lw_m7 128 rfl) rfl
theorem q1666 : (Jvm.Cond.code ({ cls := "SpoonRow", name := "bolsters", desc := "(I)I" } : Jvm.MethodName) prog_1_method_35_code (6 : Nat) (Option.some Jvm.ClassFile.FieldType.int)) ∈ lw_all := lw_g (lw_at lw_m7 129 rfl) rfl
theorem q1667 : (Jvm.Cond.methodLink "SpoonRow" (297 : Nat) ({ cls := "java/lang/Math", name := "max", desc := "(II)I" } : Jvm.MethodName)) ∈ lw_all := lw_g (lw_at lw_m7 130 rfl) rfl
theorem q1668 : (Jvm.Cond.methodLink "SpoonRow" (303 : Nat) ({ cls := "java/lang/Integer", name := "bitCount", desc := "(I)I" } : Jvm.MethodName)) ∈ lw_all := lw_g (lw_at lw_m7 131 rfl) rfl
theorem q1678 : (Jvm.Cond.instanceMethod ({ cls := "SpoonRow", name := "free", desc := "(I)I" } : Jvm.MethodName)) ∈ lw_all := lw_g (lw_at lw_m7 141 rfl) rfl
theorem q1679 : (Jvm.Cond.selects "SpoonRow" ({ cls := "SpoonRow", name := "free", desc := "(I)I" } : Jvm.MethodName) ({ cls := "SpoonRow", name := "free", desc := "(I)I" } : Jvm.MethodName)) ∈ lw_all := lw_g (lw_at lw_m7 142 rfl) rfl
theorem q1680 : (Jvm.Cond.code ({ cls := "SpoonRow", name := "free", desc := "(I)I" } : Jvm.MethodName) prog_1_method_36_code (2 : Nat) (Option.some Jvm.ClassFile.FieldType.int)) ∈ lw_all := lw_g (lw_at lw_m7 143 rfl) rfl
theorem q1685 : (Jvm.Cond.instanceMethod ({ cls := "SpoonRow", name := "outs", desc := "(I)I" } : Jvm.MethodName)) ∈ lw_all := lw_g (lw_at lw_m7 148 rfl) rfl
theorem q1686 : (Jvm.Cond.selects "SpoonRow" ({ cls := "SpoonRow", name := "outs", desc := "(I)I" } : Jvm.MethodName) ({ cls := "SpoonRow", name := "outs", desc := "(I)I" } : Jvm.MethodName)) ∈ lw_all := lw_g (lw_at lw_m7 149 rfl) rfl
theorem q1687 : (Jvm.Cond.code ({ cls := "SpoonRow", name := "outs", desc := "(I)I" } : Jvm.MethodName) prog_1_method_39_code (3 : Nat) (Option.some Jvm.ClassFile.FieldType.int)) ∈ lw_all := lw_g (lw_at lw_m7 150 rfl) rfl
theorem q1688 : (Jvm.Cond.methodLink "SpoonRow" (315 : Nat) ({ cls := "SpoonRow", name := "common", desc := "(II)I" } : Jvm.MethodName)) ∈ lw_all := lw_g (lw_at lw_m7 151 rfl) rfl
theorem q1689 : (Jvm.Cond.static ({ cls := "SpoonRow", name := "common", desc := "(II)I" } : Jvm.MethodName)) ∈ lw_all := lw_g (lw_at lw_m7 152 rfl) rfl
theorem q1690 : (Jvm.Cond.code ({ cls := "SpoonRow", name := "common", desc := "(II)I" } : Jvm.MethodName) prog_1_method_37_code (5 : Nat) (Option.some Jvm.ClassFile.FieldType.int)) ∈ lw_all := lw_g (lw_at lw_m7 153 rfl) rfl
theorem q1695 : (Jvm.Cond.instanceMethod ({ cls := "SpoonRow", name := "fair", desc := "(II)I" } : Jvm.MethodName)) ∈ lw_all := lw_g (lw_at lw_m7 158 rfl) rfl
theorem q1696 : (Jvm.Cond.selects "SpoonRow" ({ cls := "SpoonRow", name := "fair", desc := "(II)I" } : Jvm.MethodName) ({ cls := "SpoonRow", name := "fair", desc := "(II)I" } : Jvm.MethodName)) ∈ lw_all := lw_g (lw_at lw_m7 159 rfl) rfl
theorem q1697 : (Jvm.Cond.code ({ cls := "SpoonRow", name := "fair", desc := "(II)I" } : Jvm.MethodName) prog_1_method_41_code (6 : Nat) (Option.some Jvm.ClassFile.FieldType.int)) ∈ lw_all := lw_g (lw_at lw_m7 160 rfl) rfl
theorem q1698 : (Jvm.Cond.methodLink "SpoonRow" (318 : Nat) ({ cls := "SpoonRow$Lay", name := "goesRound", desc := "()V" } : Jvm.MethodName)) ∈ lw_all := lw_g (lw_at lw_m7 161 rfl) rfl
theorem q1707 : (Jvm.Cond.instanceMethod ({ cls := "SpoonRow", name := "see", desc := "(III)I" } : Jvm.MethodName)) ∈ lw_all := lw_g (lw_at lw_m7 170 rfl) rfl
theorem q1708 : (Jvm.Cond.selects "SpoonRow" ({ cls := "SpoonRow", name := "see", desc := "(III)I" } : Jvm.MethodName) ({ cls := "SpoonRow", name := "see", desc := "(III)I" } : Jvm.MethodName)) ∈ lw_all := lw_g (lw_at lw_m7 171 rfl) rfl
theorem q1709 : (Jvm.Cond.code ({ cls := "SpoonRow", name := "see", desc := "(III)I" } : Jvm.MethodName) prog_1_method_42_code (6 : Nat) (Option.some Jvm.ClassFile.FieldType.int)) ∈ lw_all := lw_g (lw_at lw_m7 172 rfl) rfl
theorem q1714 : (Jvm.Cond.instanceMethod ({ cls := "SpoonRow", name := "fits", desc := "(I)I" } : Jvm.MethodName)) ∈ lw_all := lw_g (lw_at lw_m7 177 rfl) rfl
theorem q1715 : (Jvm.Cond.selects "SpoonRow" ({ cls := "SpoonRow", name := "fits", desc := "(I)I" } : Jvm.MethodName) ({ cls := "SpoonRow", name := "fits", desc := "(I)I" } : Jvm.MethodName)) ∈ lw_all := lw_g (lw_at lw_m7 178 rfl) rfl
theorem q1716 : (Jvm.Cond.code ({ cls := "SpoonRow", name := "fits", desc := "(I)I" } : Jvm.MethodName) prog_1_method_46_code (6 : Nat) (Option.some Jvm.ClassFile.FieldType.int)) ∈ lw_all := lw_g (lw_at lw_m7 179 rfl) rfl
theorem q1717 : (Jvm.Cond.methodLink "SpoonRow" (341 : Nat) ({ cls := "SpoonRow", name := "fits", desc := "()Z" } : Jvm.MethodName)) ∈ lw_all := lw_g (lw_at lw_m7 180 rfl) rfl
theorem q1718 : (Jvm.Cond.privateMethod ({ cls := "SpoonRow", name := "fits", desc := "()Z" } : Jvm.MethodName)) ∈ lw_tbl := lw_at lw_m7 181 rfl
theorem q1719 : (Jvm.Cond.instanceMethod ({ cls := "SpoonRow", name := "fits", desc := "()Z" } : Jvm.MethodName)) ∈ lw_all := lw_g (lw_at lw_m7 182 rfl) rfl
theorem q1720 : (Jvm.Cond.code ({ cls := "SpoonRow", name := "fits", desc := "()Z" } : Jvm.MethodName) prog_1_method_45_code (2 : Nat) (Option.some Jvm.ClassFile.FieldType.boolean)) ∈ lw_all := lw_g (lw_at lw_m7 183 rfl) rfl
theorem q1721 : (Jvm.Cond.methodLink "SpoonRow" (333 : Nat) ({ cls := "SpoonRow$Night", name := "begins", desc := "()V" } : Jvm.MethodName)) ∈ lw_all := lw_g (lw_at lw_m7 184 rfl) rfl
theorem q1722 : (Jvm.Cond.methodLink "SpoonRow" (335 : Nat) ({ cls := "SpoonRow", name := "isSeen", desc := "()Z" } : Jvm.MethodName)) ∈ lw_all := lw_g (lw_at lw_m7 185 rfl) rfl
theorem q1723 : (Jvm.Cond.privateMethod ({ cls := "SpoonRow", name := "isSeen", desc := "()Z" } : Jvm.MethodName)) ∈ lw_tbl := lw_at lw_m7 186 rfl
theorem q1724 : (Jvm.Cond.instanceMethod ({ cls := "SpoonRow", name := "isSeen", desc := "()Z" } : Jvm.MethodName)) ∈ lw_all := lw_g (lw_at lw_m7 187 rfl) rfl
theorem q1725 : (Jvm.Cond.code ({ cls := "SpoonRow", name := "isSeen", desc := "()Z" } : Jvm.MethodName) prog_1_method_44_code (2 : Nat) (Option.some Jvm.ClassFile.FieldType.boolean)) ∈ lw_all := lw_g (lw_at lw_m7 188 rfl) rfl
theorem q1726 : (Jvm.Cond.methodLink "SpoonRow" (330 : Nat) ({ cls := "java/lang/Math", name := "min", desc := "(II)I" } : Jvm.MethodName)) ∈ lw_all := lw_g (lw_at lw_m7 189 rfl) rfl
theorem q1727 : (Jvm.Cond.methodLink "SpoonRow" (338 : Nat) ({ cls := "SpoonRow$Night", name := "next", desc := "()V" } : Jvm.MethodName)) ∈ lw_all := lw_g (lw_at lw_m7 190 rfl) rfl
theorem q1732 : (Jvm.Cond.instanceMethod ({ cls := "SpoonRow", name := "without", desc := "(I)I" } : Jvm.MethodName)) ∈ lw_all := lw_g (lw_at lw_m7 195 rfl) rfl
theorem q1733 : (Jvm.Cond.selects "SpoonRow" ({ cls := "SpoonRow", name := "without", desc := "(I)I" } : Jvm.MethodName) ({ cls := "SpoonRow", name := "without", desc := "(I)I" } : Jvm.MethodName)) ∈ lw_all := lw_g (lw_at lw_m7 196 rfl) rfl
theorem q1734 : (Jvm.Cond.code ({ cls := "SpoonRow", name := "without", desc := "(I)I" } : Jvm.MethodName) prog_1_method_47_code (3 : Nat) (Option.some Jvm.ClassFile.FieldType.int)) ∈ lw_all := lw_g (lw_at lw_m7 197 rfl) rfl
theorem q1735 : (Jvm.Cond.methodLink "SpoonRow" (344 : Nat) ({ cls := "SpoonRow$Lay", name := "leaves", desc := "(I)V" } : Jvm.MethodName)) ∈ lw_all := lw_g (lw_at lw_m7 198 rfl) rfl
theorem q1739 : (Jvm.Cond.methodLink "SpoonRow" (347 : Nat) ({ cls := "SpoonRow$Bed", name := "isFree", desc := "(I)Z" } : Jvm.MethodName)) ∈ lw_all := lw_g (lw_at lw_m7 202 rfl) rfl
theorem q1744 : (Jvm.Cond.instanceMethod ({ cls := "SpoonRow", name := "year", desc := "(III)I" } : Jvm.MethodName)) ∈ lw_all := lw_g (lw_at lw_m7 207 rfl) rfl
theorem q1745 : (Jvm.Cond.selects "SpoonRow" ({ cls := "SpoonRow", name := "year", desc := "(III)I" } : Jvm.MethodName) ({ cls := "SpoonRow", name := "year", desc := "(III)I" } : Jvm.MethodName)) ∈ lw_all := lw_g (lw_at lw_m7 208 rfl) rfl
theorem q1746 : (Jvm.Cond.code ({ cls := "SpoonRow", name := "year", desc := "(III)I" } : Jvm.MethodName) prog_1_method_49_code (9 : Nat) (Option.some Jvm.ClassFile.FieldType.int)) ∈ lw_all := lw_g (lw_at lw_m7 209 rfl) rfl
theorem q1747 : (Jvm.Cond.methodLink "SpoonRow" (354 : Nat) ({ cls := "SpoonRow", name := "draw", desc := "(I)I" } : Jvm.MethodName)) ∈ lw_all := lw_g (lw_at lw_m7 210 rfl) rfl
theorem q1748 : (Jvm.Cond.privateMethod ({ cls := "SpoonRow", name := "draw", desc := "(I)I" } : Jvm.MethodName)) ∈ lw_tbl := lw_at lw_m7 211 rfl
theorem q1749 : (Jvm.Cond.instanceMethod ({ cls := "SpoonRow", name := "draw", desc := "(I)I" } : Jvm.MethodName)) ∈ lw_all := lw_g (lw_at lw_m7 212 rfl) rfl
theorem q1750 : (Jvm.Cond.code ({ cls := "SpoonRow", name := "draw", desc := "(I)I" } : Jvm.MethodName) prog_1_method_48_code (2 : Nat) (Option.some Jvm.ClassFile.FieldType.int)) ∈ lw_all := lw_g (lw_at lw_m7 213 rfl) rfl
theorem q1751 : (Jvm.Cond.constant "SpoonRow" (353 : Nat) (1103515245 : Int32)) ∈ lw_all := lw_g (lw_at lw_m7 214 rfl) rfl
theorem q2402 : (Jvm.Cond.castable "SpoonRow" "java/lang/Object") ∈ lw_tbl := lw_at lw_m10 145 rfl
theorem q129 : (Jvm.Cond.initialized "SpoonRow$Fault") ∈ lw_all := lw_g (lw_at lw_m1 32 rfl) rfl
theorem q203 : (Jvm.Cond.selects "SpoonRow$Fault" ({ cls := "java/lang/Throwable", name := "fillInStackTrace", desc := "()Ljava/lang/Throwable;" } : Jvm.MethodName) ({ cls := "java/lang/Throwable", name := "fillInStackTrace", desc := "()Ljava/lang/Throwable;" } : Jvm.MethodName)) ∈ lw_all := lw_g (lw_at lw_m1 106 rfl) rfl
theorem q651 : (Jvm.Cond.selects "SpoonRow$Fault" ({ cls := "java/lang/Object", name := "getClass", desc := "()Ljava/lang/Class;" } : Jvm.MethodName) ({ cls := "java/lang/Object", name := "getClass", desc := "()Ljava/lang/Class;" } : Jvm.MethodName)) ∈ lw_all := lw_g (lw_at lw_m3 74 rfl) rfl
theorem q1305 : (Jvm.Cond.instantiable "SpoonRow$Fault" (8 : Nat)) ∈ lw_all := lw_g (lw_at lw_m6 8 rfl) rfl
theorem q1306 : (Jvm.Cond.castable "SpoonRow$Fault" "SpoonRow$Fault") ∈ lw_tbl := lw_at lw_m6 9 rfl
theorem q1307 : (Jvm.Cond.selects "SpoonRow$Fault" ({ cls := "java/lang/Throwable", name := "fillInStackTrace", desc := "(I)Ljava/lang/Throwable;" } : Jvm.MethodName) ({ cls := "java/lang/Throwable", name := "fillInStackTrace", desc := "(I)Ljava/lang/Throwable;" } : Jvm.MethodName)) ∈ lw_all := lw_g (lw_at lw_m6 10 rfl) rfl
theorem q1308 : (Jvm.Cond.lays "SpoonRow$Fault" "java/lang/Throwable" "cause" "Ljava/lang/Throwable;") ∈ lw_all := lw_g (lw_at lw_m6 11 rfl) rfl
theorem q1309 : (Jvm.Cond.lays "SpoonRow$Fault" "java/lang/Throwable" "stackTrace" "[Ljava/lang/StackTraceElement;") ∈ lw_all := lw_g (lw_at lw_m6 12 rfl) rfl
theorem q1310 : (Jvm.Cond.lays "SpoonRow$Fault" "java/lang/Throwable" "suppressedExceptions" "Ljava/util/List;") ∈ lw_all := lw_g (lw_at lw_m6 13 rfl) rfl
theorem q1311 : (Jvm.Cond.lays "SpoonRow$Fault" "java/lang/Throwable" "detailMessage" "Ljava/lang/String;") ∈ lw_all := lw_g (lw_at lw_m6 14 rfl) rfl
theorem q1312 : (Jvm.Cond.lays "SpoonRow$Fault" "java/lang/Throwable" "backtrace" "Ljava/lang/Object;") ∈ lw_all := lw_g (lw_at lw_m6 15 rfl) rfl
theorem q1314 : (Jvm.Cond.instanceMethod ({ cls := "SpoonRow$Fault", name := "<init>", desc := "(II)V" } : Jvm.MethodName)) ∈ lw_all := lw_g (lw_at lw_m6 17 rfl) rfl
theorem q1315 : (Jvm.Cond.code ({ cls := "SpoonRow$Fault", name := "<init>", desc := "(II)V" } : Jvm.MethodName) prog_8_method_1_code (3 : Nat) (Option.none : Option Jvm.ClassFile.FieldType)) ∈ lw_all := lw_g (lw_at lw_m6 18 rfl) rfl
theorem q1316 : (Jvm.Cond.methodLink "SpoonRow$Fault" (1 : Nat) ({ cls := "java/lang/Exception", name := "<init>", desc := "()V" } : Jvm.MethodName)) ∈ lw_all := lw_g (lw_at lw_m6 19 rfl) rfl
theorem q1317 : (Jvm.Cond.fieldLink "SpoonRow$Fault" (7 : Nat) "SpoonRow$Fault" "kind" "I") ∈ lw_all := lw_g (lw_at lw_m6 20 rfl) rfl
theorem q1319 : (Jvm.Cond.fieldLink "SpoonRow$Fault" (13 : Nat) "SpoonRow$Fault" "place" "I") ∈ lw_all := lw_g (lw_at lw_m6 22 rfl) rfl
theorem q1321 : (Jvm.Cond.laysFinal "SpoonRow$Fault" "SpoonRow$Fault" "kind" "I") ∈ lw_all := lw_g (lw_at lw_m6 24 rfl) rfl
theorem q1322 : (Jvm.Cond.soleField "SpoonRow$Fault" "kind") ∈ lw_all := lw_g (lw_at lw_m6 25 rfl) rfl
theorem q1323 : (Jvm.Cond.laysFinal "SpoonRow$Fault" "SpoonRow$Fault" "place" "I") ∈ lw_all := lw_g (lw_at lw_m6 26 rfl) rfl
theorem q1324 : (Jvm.Cond.soleField "SpoonRow$Fault" "place") ∈ lw_all := lw_g (lw_at lw_m6 27 rfl) rfl
theorem q1325 : (Jvm.Cond.lays "SpoonRow$Fault" "java/lang/Throwable" "depth" "I") ∈ lw_all := lw_g (lw_at lw_m6 28 rfl) rfl
theorem q1326 : (Jvm.Cond.superclass "SpoonRow$Fault" "java/lang/Exception") ∈ lw_all := lw_g (lw_at lw_m6 29 rfl) rfl
theorem q2414 : (Jvm.Cond.castable "SpoonRow$Fault" "java/lang/Object") ∈ lw_tbl := lw_at lw_m10 157 rfl
theorem q130 : (Jvm.Cond.initialized "SpoonRow$Expr") ∈ lw_all := lw_g (lw_at lw_m1 33 rfl) rfl
theorem q1069 : (Jvm.Cond.declares ({ cls := "SpoonRow$Expr", name := "by", desc := "(LSpoonRow$View;)I" } : Jvm.MethodName)) ∈ lw_tbl := lw_at lw_m5 12 rfl
theorem q1070 : (Jvm.Cond.sameMethod "SpoonRow$Expr" "SpoonRow$Expr" "by" "(LSpoonRow$View;)I") ∈ lw_all := lw_g (lw_at lw_m5 13 rfl) rfl
theorem q1366 : (Jvm.Cond.instanceMethod ({ cls := "SpoonRow$Expr", name := "<init>", desc := "()V" } : Jvm.MethodName)) ∈ lw_all := lw_g (lw_at lw_m6 69 rfl) rfl
theorem q1367 : (Jvm.Cond.code ({ cls := "SpoonRow$Expr", name := "<init>", desc := "()V" } : Jvm.MethodName) prog_7_method_1_code (1 : Nat) (Option.none : Option Jvm.ClassFile.FieldType)) ∈ lw_all := lw_g (lw_at lw_m6 70 rfl) rfl
theorem q1368 : (Jvm.Cond.methodLink "SpoonRow$Expr" (1 : Nat) ({ cls := "java/lang/Object", name := "<init>", desc := "()V" } : Jvm.MethodName)) ∈ lw_all := lw_g (lw_at lw_m6 71 rfl) rfl
theorem q131 : (Jvm.Cond.initialized "SpoonRow$Told") ∈ lw_all := lw_g (lw_at lw_m1 34 rfl) rfl
theorem q660 : (Jvm.Cond.selects "SpoonRow$Told" ({ cls := "java/lang/Object", name := "getClass", desc := "()Ljava/lang/Class;" } : Jvm.MethodName) ({ cls := "java/lang/Object", name := "getClass", desc := "()Ljava/lang/Class;" } : Jvm.MethodName)) ∈ lw_all := lw_g (lw_at lw_m3 83 rfl) rfl
theorem q1081 : (Jvm.Cond.instanceMethod ({ cls := "SpoonRow$Told", name := "by", desc := "(LSpoonRow$View;)I" } : Jvm.MethodName)) ∈ lw_all := lw_g (lw_at lw_m5 24 rfl) rfl
theorem q1082 : (Jvm.Cond.code ({ cls := "SpoonRow$Told", name := "by", desc := "(LSpoonRow$View;)I" } : Jvm.MethodName) prog_17_method_2_code (2 : Nat) (Option.some Jvm.ClassFile.FieldType.int)) ∈ lw_all := lw_g (lw_at lw_m5 25 rfl) rfl
theorem q1085 : (Jvm.Cond.selects "SpoonRow$Told" ({ cls := "SpoonRow$Expr", name := "by", desc := "(LSpoonRow$View;)I" } : Jvm.MethodName) ({ cls := "SpoonRow$Told", name := "by", desc := "(LSpoonRow$View;)I" } : Jvm.MethodName)) ∈ lw_all := lw_g (lw_at lw_m5 28 rfl) rfl
theorem q1361 : (Jvm.Cond.instantiable "SpoonRow$Told" (1 : Nat)) ∈ lw_all := lw_g (lw_at lw_m6 64 rfl) rfl
theorem q1363 : (Jvm.Cond.instanceMethod ({ cls := "SpoonRow$Told", name := "<init>", desc := "(I)V" } : Jvm.MethodName)) ∈ lw_all := lw_g (lw_at lw_m6 66 rfl) rfl
theorem q1364 : (Jvm.Cond.code ({ cls := "SpoonRow$Told", name := "<init>", desc := "(I)V" } : Jvm.MethodName) prog_17_method_1_code (2 : Nat) (Option.none : Option Jvm.ClassFile.FieldType)) ∈ lw_all := lw_g (lw_at lw_m6 67 rfl) rfl
theorem q1365 : (Jvm.Cond.methodLinkNest "SpoonRow$Told" (1 : Nat) ({ cls := "SpoonRow$Expr", name := "<init>", desc := "()V" } : Jvm.MethodName) "SpoonRow") ∈ lw_tbl := lw_at lw_m6 68 rfl
theorem q1369 : (Jvm.Cond.fieldLink "SpoonRow$Told" (7 : Nat) "SpoonRow$Told" "n" "I") ∈ lw_all := lw_g (lw_at lw_m6 72 rfl) rfl
theorem q1370 : (Jvm.Cond.laysFinal "SpoonRow$Told" "SpoonRow$Told" "n" "I") ∈ lw_all := lw_g (lw_at lw_m6 73 rfl) rfl
theorem q1371 : (Jvm.Cond.soleField "SpoonRow$Told" "n") ∈ lw_all := lw_g (lw_at lw_m6 74 rfl) rfl
theorem q1372 : (Jvm.Cond.superclass "SpoonRow$Told" "SpoonRow$Expr") ∈ lw_all := lw_g (lw_at lw_m6 75 rfl) rfl
theorem q2415 : (Jvm.Cond.castable "SpoonRow$Told" "java/lang/Object") ∈ lw_tbl := lw_at lw_m10 158 rfl
theorem q132 : (Jvm.Cond.initialized "SpoonRow$Seen") ∈ lw_all := lw_g (lw_at lw_m1 35 rfl) rfl
theorem q512 : (Jvm.Cond.fieldLinkNest "SpoonRow$Seen" (13 : Nat) "SpoonRow$View" "of" "[I" "SpoonRow") ∈ lw_tbl := lw_at lw_m2 175 rfl
theorem q656 : (Jvm.Cond.selects "SpoonRow$Seen" ({ cls := "java/lang/Object", name := "getClass", desc := "()Ljava/lang/Class;" } : Jvm.MethodName) ({ cls := "java/lang/Object", name := "getClass", desc := "()Ljava/lang/Class;" } : Jvm.MethodName)) ∈ lw_all := lw_g (lw_at lw_m3 79 rfl) rfl
theorem q1078 : (Jvm.Cond.instanceMethod ({ cls := "SpoonRow$Seen", name := "by", desc := "(LSpoonRow$View;)I" } : Jvm.MethodName)) ∈ lw_all := lw_g (lw_at lw_m5 21 rfl) rfl
theorem q1079 : (Jvm.Cond.code ({ cls := "SpoonRow$Seen", name := "by", desc := "(LSpoonRow$View;)I" } : Jvm.MethodName) prog_13_method_2_code (2 : Nat) (Option.some Jvm.ClassFile.FieldType.int)) ∈ lw_all := lw_g (lw_at lw_m5 22 rfl) rfl
theorem q1080 : (Jvm.Cond.methodLink "SpoonRow$Seen" (19 : Nat) ({ cls := "SpoonRow$Value", name := "ordinal", desc := "()I" } : Jvm.MethodName)) ∈ lw_all := lw_g (lw_at lw_m5 23 rfl) rfl
theorem q1084 : (Jvm.Cond.selects "SpoonRow$Seen" ({ cls := "SpoonRow$Expr", name := "by", desc := "(LSpoonRow$View;)I" } : Jvm.MethodName) ({ cls := "SpoonRow$Seen", name := "by", desc := "(LSpoonRow$View;)I" } : Jvm.MethodName)) ∈ lw_all := lw_g (lw_at lw_m5 27 rfl) rfl
theorem q1396 : (Jvm.Cond.instantiable "SpoonRow$Seen" (1 : Nat)) ∈ lw_all := lw_g (lw_at lw_m6 99 rfl) rfl
theorem q1398 : (Jvm.Cond.instanceMethod ({ cls := "SpoonRow$Seen", name := "<init>", desc := "(LSpoonRow$Value;)V" } : Jvm.MethodName)) ∈ lw_all := lw_g (lw_at lw_m6 101 rfl) rfl
theorem q1399 : (Jvm.Cond.code ({ cls := "SpoonRow$Seen", name := "<init>", desc := "(LSpoonRow$Value;)V" } : Jvm.MethodName) prog_13_method_1_code (2 : Nat) (Option.none : Option Jvm.ClassFile.FieldType)) ∈ lw_all := lw_g (lw_at lw_m6 102 rfl) rfl
theorem q1400 : (Jvm.Cond.methodLinkNest "SpoonRow$Seen" (1 : Nat) ({ cls := "SpoonRow$Expr", name := "<init>", desc := "()V" } : Jvm.MethodName) "SpoonRow") ∈ lw_tbl := lw_at lw_m6 103 rfl
theorem q1401 : (Jvm.Cond.fieldLink "SpoonRow$Seen" (7 : Nat) "SpoonRow$Seen" "value" "LSpoonRow$Value;") ∈ lw_all := lw_g (lw_at lw_m6 104 rfl) rfl
theorem q1402 : (Jvm.Cond.laysFinal "SpoonRow$Seen" "SpoonRow$Seen" "value" "LSpoonRow$Value;") ∈ lw_all := lw_g (lw_at lw_m6 105 rfl) rfl
theorem q1403 : (Jvm.Cond.soleField "SpoonRow$Seen" "value") ∈ lw_all := lw_g (lw_at lw_m6 106 rfl) rfl
theorem q1404 : (Jvm.Cond.superclass "SpoonRow$Seen" "SpoonRow$Expr") ∈ lw_all := lw_g (lw_at lw_m6 107 rfl) rfl
theorem q2416 : (Jvm.Cond.castable "SpoonRow$Seen" "java/lang/Object") ∈ lw_tbl := lw_at lw_m10 159 rfl
theorem q133 : (Jvm.Cond.initialized "SpoonRow$Both") ∈ lw_all := lw_g (lw_at lw_m1 36 rfl) rfl
theorem q648 : (Jvm.Cond.selects "SpoonRow$Both" ({ cls := "java/lang/Object", name := "getClass", desc := "()Ljava/lang/Class;" } : Jvm.MethodName) ({ cls := "java/lang/Object", name := "getClass", desc := "()Ljava/lang/Class;" } : Jvm.MethodName)) ∈ lw_all := lw_g (lw_at lw_m3 71 rfl) rfl
theorem q1071 : (Jvm.Cond.selects "SpoonRow$Both" ({ cls := "SpoonRow$Expr", name := "by", desc := "(LSpoonRow$View;)I" } : Jvm.MethodName) ({ cls := "SpoonRow$Both", name := "by", desc := "(LSpoonRow$View;)I" } : Jvm.MethodName)) ∈ lw_all := lw_g (lw_at lw_m5 14 rfl) rfl
theorem q1072 : (Jvm.Cond.instanceMethod ({ cls := "SpoonRow$Both", name := "by", desc := "(LSpoonRow$View;)I" } : Jvm.MethodName)) ∈ lw_all := lw_g (lw_at lw_m5 15 rfl) rfl
theorem q1073 : (Jvm.Cond.code ({ cls := "SpoonRow$Both", name := "by", desc := "(LSpoonRow$View;)I" } : Jvm.MethodName) prog_4_method_2_code (4 : Nat) (Option.some Jvm.ClassFile.FieldType.int)) ∈ lw_all := lw_g (lw_at lw_m5 16 rfl) rfl
theorem q1074 : (Jvm.Cond.methodLink "SpoonRow$Both" (20 : Nat) ({ cls := "SpoonRow$Expr", name := "by", desc := "(LSpoonRow$View;)I" } : Jvm.MethodName)) ∈ lw_all := lw_g (lw_at lw_m5 17 rfl) rfl
theorem q1423 : (Jvm.Cond.instantiable "SpoonRow$Both" (3 : Nat)) ∈ lw_all := lw_g (lw_at lw_m6 126 rfl) rfl
theorem q1425 : (Jvm.Cond.instanceMethod ({ cls := "SpoonRow$Both", name := "<init>", desc := "(CLSpoonRow$Expr;LSpoonRow$Expr;)V" } : Jvm.MethodName)) ∈ lw_all := lw_g (lw_at lw_m6 128 rfl) rfl
theorem q1426 : (Jvm.Cond.code ({ cls := "SpoonRow$Both", name := "<init>", desc := "(CLSpoonRow$Expr;LSpoonRow$Expr;)V" } : Jvm.MethodName) prog_4_method_1_code (4 : Nat) (Option.none : Option Jvm.ClassFile.FieldType)) ∈ lw_all := lw_g (lw_at lw_m6 129 rfl) rfl
theorem q1427 : (Jvm.Cond.methodLinkNest "SpoonRow$Both" (1 : Nat) ({ cls := "SpoonRow$Expr", name := "<init>", desc := "()V" } : Jvm.MethodName) "SpoonRow") ∈ lw_tbl := lw_at lw_m6 130 rfl
theorem q1428 : (Jvm.Cond.fieldLink "SpoonRow$Both" (7 : Nat) "SpoonRow$Both" "act" "C") ∈ lw_all := lw_g (lw_at lw_m6 131 rfl) rfl
theorem q1429 : (Jvm.Cond.fieldLink "SpoonRow$Both" (13 : Nat) "SpoonRow$Both" "left" "LSpoonRow$Expr;") ∈ lw_all := lw_g (lw_at lw_m6 132 rfl) rfl
theorem q1430 : (Jvm.Cond.fieldLink "SpoonRow$Both" (17 : Nat) "SpoonRow$Both" "right" "LSpoonRow$Expr;") ∈ lw_all := lw_g (lw_at lw_m6 133 rfl) rfl
theorem q1431 : (Jvm.Cond.laysFinal "SpoonRow$Both" "SpoonRow$Both" "act" "C") ∈ lw_all := lw_g (lw_at lw_m6 134 rfl) rfl
theorem q1432 : (Jvm.Cond.soleField "SpoonRow$Both" "act") ∈ lw_all := lw_g (lw_at lw_m6 135 rfl) rfl
theorem q1433 : (Jvm.Cond.laysFinal "SpoonRow$Both" "SpoonRow$Both" "left" "LSpoonRow$Expr;") ∈ lw_all := lw_g (lw_at lw_m6 136 rfl) rfl
theorem q1434 : (Jvm.Cond.soleField "SpoonRow$Both" "left") ∈ lw_all := lw_g (lw_at lw_m6 137 rfl) rfl
theorem q1435 : (Jvm.Cond.laysFinal "SpoonRow$Both" "SpoonRow$Both" "right" "LSpoonRow$Expr;") ∈ lw_all := lw_g (lw_at lw_m6 138 rfl) rfl
theorem q1436 : (Jvm.Cond.soleField "SpoonRow$Both" "right") ∈ lw_all := lw_g (lw_at lw_m6 139 rfl) rfl
theorem q1437 : (Jvm.Cond.superclass "SpoonRow$Both" "SpoonRow$Expr") ∈ lw_all := lw_g (lw_at lw_m6 140 rfl) rfl
theorem q2417 : (Jvm.Cond.castable "SpoonRow$Both" "java/lang/Object") ∈ lw_tbl := lw_at lw_m10 160 rfl
theorem q134 : (Jvm.Cond.initialized "SpoonRow$Not") ∈ lw_all := lw_g (lw_at lw_m1 37 rfl) rfl
theorem q654 : (Jvm.Cond.selects "SpoonRow$Not" ({ cls := "java/lang/Object", name := "getClass", desc := "()Ljava/lang/Class;" } : Jvm.MethodName) ({ cls := "java/lang/Object", name := "getClass", desc := "()Ljava/lang/Class;" } : Jvm.MethodName)) ∈ lw_all := lw_g (lw_at lw_m3 77 rfl) rfl
theorem q1075 : (Jvm.Cond.instanceMethod ({ cls := "SpoonRow$Not", name := "by", desc := "(LSpoonRow$View;)I" } : Jvm.MethodName)) ∈ lw_all := lw_g (lw_at lw_m5 18 rfl) rfl
theorem q1076 : (Jvm.Cond.code ({ cls := "SpoonRow$Not", name := "by", desc := "(LSpoonRow$View;)I" } : Jvm.MethodName) prog_11_method_2_code (2 : Nat) (Option.some Jvm.ClassFile.FieldType.int)) ∈ lw_all := lw_g (lw_at lw_m5 19 rfl) rfl
theorem q1077 : (Jvm.Cond.methodLink "SpoonRow$Not" (13 : Nat) ({ cls := "SpoonRow$Expr", name := "by", desc := "(LSpoonRow$View;)I" } : Jvm.MethodName)) ∈ lw_all := lw_g (lw_at lw_m5 20 rfl) rfl
theorem q1083 : (Jvm.Cond.selects "SpoonRow$Not" ({ cls := "SpoonRow$Expr", name := "by", desc := "(LSpoonRow$View;)I" } : Jvm.MethodName) ({ cls := "SpoonRow$Not", name := "by", desc := "(LSpoonRow$View;)I" } : Jvm.MethodName)) ∈ lw_all := lw_g (lw_at lw_m5 26 rfl) rfl
theorem q1443 : (Jvm.Cond.instantiable "SpoonRow$Not" (1 : Nat)) ∈ lw_all := lw_g (lw_at lw_m6 146 rfl) rfl
theorem q1445 : (Jvm.Cond.instanceMethod ({ cls := "SpoonRow$Not", name := "<init>", desc := "(LSpoonRow$Expr;)V" } : Jvm.MethodName)) ∈ lw_all := lw_g (lw_at lw_m6 148 rfl) rfl
theorem q1446 : (Jvm.Cond.code ({ cls := "SpoonRow$Not", name := "<init>", desc := "(LSpoonRow$Expr;)V" } : Jvm.MethodName) prog_11_method_1_code (2 : Nat) (Option.none : Option Jvm.ClassFile.FieldType)) ∈ lw_all := lw_g (lw_at lw_m6 149 rfl) rfl
theorem q1447 : (Jvm.Cond.methodLinkNest "SpoonRow$Not" (1 : Nat) ({ cls := "SpoonRow$Expr", name := "<init>", desc := "()V" } : Jvm.MethodName) "SpoonRow") ∈ lw_tbl := lw_at lw_m6 150 rfl
theorem q1448 : (Jvm.Cond.fieldLink "SpoonRow$Not" (7 : Nat) "SpoonRow$Not" "part" "LSpoonRow$Expr;") ∈ lw_all := lw_g (lw_at lw_m6 151 rfl) rfl
theorem q1449 : (Jvm.Cond.laysFinal "SpoonRow$Not" "SpoonRow$Not" "part" "LSpoonRow$Expr;") ∈ lw_all := lw_g (lw_at lw_m6 152 rfl) rfl
theorem q1450 : (Jvm.Cond.soleField "SpoonRow$Not" "part") ∈ lw_all := lw_g (lw_at lw_m6 153 rfl) rfl
theorem q1451 : (Jvm.Cond.superclass "SpoonRow$Not" "SpoonRow$Expr") ∈ lw_all := lw_g (lw_at lw_m6 154 rfl) rfl
theorem q2418 : (Jvm.Cond.castable "SpoonRow$Not" "java/lang/Object") ∈ lw_tbl := lw_at lw_m10 161 rfl
theorem q135 : (Jvm.Cond.initialized "SpoonRow$Sleeper") ∈ lw_all := lw_g (lw_at lw_m1 38 rfl) rfl
theorem q657 : (Jvm.Cond.selects "SpoonRow$Sleeper" ({ cls := "java/lang/Object", name := "getClass", desc := "()Ljava/lang/Class;" } : Jvm.MethodName) ({ cls := "java/lang/Object", name := "getClass", desc := "()Ljava/lang/Class;" } : Jvm.MethodName)) ∈ lw_all := lw_g (lw_at lw_m3 80 rfl) rfl
theorem q988 : (Jvm.Cond.instanceMethod ({ cls := "SpoonRow$Sleeper", name := "isTurned", desc := "()Z" } : Jvm.MethodName)) ∈ lw_all := lw_g (lw_at lw_m4 171 rfl) rfl
theorem q989 : (Jvm.Cond.selects "SpoonRow$Sleeper" ({ cls := "SpoonRow$Sleeper", name := "isTurned", desc := "()Z" } : Jvm.MethodName) ({ cls := "SpoonRow$Sleeper", name := "isTurned", desc := "()Z" } : Jvm.MethodName)) ∈ lw_all := lw_g (lw_at lw_m4 172 rfl) rfl
theorem q990 : (Jvm.Cond.sameMethod "SpoonRow$Sleeper" "SpoonRow$Sleeper" "isTurned" "()Z") ∈ lw_all := lw_g (lw_at lw_m4 173 rfl) rfl
theorem q997 : (Jvm.Cond.declares ({ cls := "SpoonRow$Sleeper", name := "isTurned", desc := "()Z" } : Jvm.MethodName)) ∈ lw_tbl := lw_at lw_m4 180 rfl
theorem q1000 : (Jvm.Cond.code ({ cls := "SpoonRow$Sleeper", name := "isTurned", desc := "()Z" } : Jvm.MethodName) prog_14_method_4_code (1 : Nat) (Option.some Jvm.ClassFile.FieldType.boolean)) ∈ lw_all := lw_g (lw_at lw_m4 183 rfl) rfl
theorem q1007 : (Jvm.Cond.instanceMethod ({ cls := "SpoonRow$Sleeper", name := "isWoken", desc := "()Z" } : Jvm.MethodName)) ∈ lw_all := lw_g (lw_at lw_m4 190 rfl) rfl
theorem q1008 : (Jvm.Cond.selects "SpoonRow$Sleeper" ({ cls := "SpoonRow$Sleeper", name := "isWoken", desc := "()Z" } : Jvm.MethodName) ({ cls := "SpoonRow$Sleeper", name := "isWoken", desc := "()Z" } : Jvm.MethodName)) ∈ lw_all := lw_g (lw_at lw_m4 191 rfl) rfl
theorem q1009 : (Jvm.Cond.sameMethod "SpoonRow$Sleeper" "SpoonRow$Sleeper" "isWoken" "()Z") ∈ lw_all := lw_g (lw_at lw_m4 192 rfl) rfl
theorem q1014 : (Jvm.Cond.code ({ cls := "SpoonRow$Sleeper", name := "isWoken", desc := "()Z" } : Jvm.MethodName) prog_14_method_5_code (1 : Nat) (Option.some Jvm.ClassFile.FieldType.boolean)) ∈ lw_all := lw_g (lw_at lw_m4 197 rfl) rfl
theorem q1053 : (Jvm.Cond.instanceMethod ({ cls := "SpoonRow$Sleeper", name := "isSnoring", desc := "()Z" } : Jvm.MethodName)) ∈ lw_all := lw_g (lw_at lw_m4 236 rfl) rfl
theorem q1054 : (Jvm.Cond.selects "SpoonRow$Sleeper" ({ cls := "SpoonRow$Sleeper", name := "isSnoring", desc := "()Z" } : Jvm.MethodName) ({ cls := "SpoonRow$Sleeper", name := "isSnoring", desc := "()Z" } : Jvm.MethodName)) ∈ lw_all := lw_g (lw_at lw_m4 237 rfl) rfl
theorem q1055 : (Jvm.Cond.sameMethod "SpoonRow$Sleeper" "SpoonRow$Sleeper" "isSnoring" "()Z") ∈ lw_all := lw_g (lw_at lw_m4 238 rfl) rfl
theorem q1063 : (Jvm.Cond.code ({ cls := "SpoonRow$Sleeper", name := "isSnoring", desc := "()Z" } : Jvm.MethodName) prog_14_method_6_code (1 : Nat) (Option.some Jvm.ClassFile.FieldType.boolean)) ∈ lw_all := lw_g (lw_at lw_m5 6 rfl) rfl
theorem q1099 : (Jvm.Cond.instanceMethod ({ cls := "SpoonRow$Sleeper", name := "isSore", desc := "(II)Z" } : Jvm.MethodName)) ∈ lw_all := lw_g (lw_at lw_m5 42 rfl) rfl
theorem q1100 : (Jvm.Cond.selects "SpoonRow$Sleeper" ({ cls := "SpoonRow$Sleeper", name := "isSore", desc := "(II)Z" } : Jvm.MethodName) ({ cls := "SpoonRow$Sleeper", name := "isSore", desc := "(II)Z" } : Jvm.MethodName)) ∈ lw_all := lw_g (lw_at lw_m5 43 rfl) rfl
theorem q1101 : (Jvm.Cond.sameMethod "SpoonRow$Sleeper" "SpoonRow$Sleeper" "isSore" "(II)Z") ∈ lw_all := lw_g (lw_at lw_m5 44 rfl) rfl
theorem q1109 : (Jvm.Cond.declares ({ cls := "SpoonRow$Sleeper", name := "isSore", desc := "(II)Z" } : Jvm.MethodName)) ∈ lw_tbl := lw_at lw_m5 52 rfl
theorem q1110 : (Jvm.Cond.code ({ cls := "SpoonRow$Sleeper", name := "isSore", desc := "(II)Z" } : Jvm.MethodName) prog_14_method_3_code (3 : Nat) (Option.some Jvm.ClassFile.FieldType.boolean)) ∈ lw_all := lw_g (lw_at lw_m5 53 rfl) rfl
theorem q1486 : (Jvm.Cond.instanceMethod ({ cls := "SpoonRow$Sleeper", name := "<init>", desc := "(IIIIII)V" } : Jvm.MethodName)) ∈ lw_all := lw_g (lw_at lw_m6 189 rfl) rfl
theorem q1487 : (Jvm.Cond.code ({ cls := "SpoonRow$Sleeper", name := "<init>", desc := "(IIIIII)V" } : Jvm.MethodName) prog_14_method_1_code (7 : Nat) (Option.none : Option Jvm.ClassFile.FieldType)) ∈ lw_all := lw_g (lw_at lw_m6 190 rfl) rfl
theorem q1488 : (Jvm.Cond.methodLink "SpoonRow$Sleeper" (1 : Nat) ({ cls := "java/lang/Object", name := "<init>", desc := "()V" } : Jvm.MethodName)) ∈ lw_all := lw_g (lw_at lw_m6 191 rfl) rfl
theorem q1489 : (Jvm.Cond.fieldLink "SpoonRow$Sleeper" (7 : Nat) "SpoonRow$Sleeper" "left" "I") ∈ lw_all := lw_g (lw_at lw_m6 192 rfl) rfl
theorem q1491 : (Jvm.Cond.fieldLink "SpoonRow$Sleeper" (13 : Nat) "SpoonRow$Sleeper" "right" "I") ∈ lw_all := lw_g (lw_at lw_m6 194 rfl) rfl
theorem q1493 : (Jvm.Cond.fieldLink "SpoonRow$Sleeper" (16 : Nat) "SpoonRow$Sleeper" "light" "I") ∈ lw_all := lw_g (lw_at lw_m6 196 rfl) rfl
theorem q1496 : (Jvm.Cond.fieldLink "SpoonRow$Sleeper" (19 : Nat) "SpoonRow$Sleeper" "width" "I") ∈ lw_all := lw_g (lw_at lw_m6 199 rfl) rfl
theorem q1499 : (Jvm.Cond.fieldLink "SpoonRow$Sleeper" (22 : Nat) "SpoonRow$Sleeper" "out" "I") ∈ lw_all := lw_g (lw_at lw_m6 202 rfl) rfl
theorem q1501 : (Jvm.Cond.fieldLink "SpoonRow$Sleeper" (25 : Nat) "SpoonRow$Sleeper" "tenths" "I") ∈ lw_all := lw_g (lw_at lw_m6 204 rfl) rfl
theorem q1504 : (Jvm.Cond.soleField "SpoonRow$Sleeper" "left") ∈ lw_all := lw_g (lw_at lw_m6 207 rfl) rfl
theorem q1506 : (Jvm.Cond.soleField "SpoonRow$Sleeper" "right") ∈ lw_all := lw_g (lw_at lw_m6 209 rfl) rfl
theorem q1508 : (Jvm.Cond.soleField "SpoonRow$Sleeper" "light") ∈ lw_all := lw_g (lw_at lw_m6 211 rfl) rfl
theorem q1510 : (Jvm.Cond.soleField "SpoonRow$Sleeper" "width") ∈ lw_all := lw_g (lw_at lw_m6 213 rfl) rfl
theorem q1512 : (Jvm.Cond.soleField "SpoonRow$Sleeper" "out") ∈ lw_all := lw_g (lw_at lw_m6 215 rfl) rfl
theorem q1514 : (Jvm.Cond.soleField "SpoonRow$Sleeper" "tenths") ∈ lw_all := lw_g (lw_at lw_m6 217 rfl) rfl
theorem q1538 : (Jvm.Cond.instantiable "SpoonRow$Sleeper" (6 : Nat)) ∈ lw_all := lw_g (lw_at lw_m7 1 rfl) rfl
theorem q1540 : (Jvm.Cond.laysFinal "SpoonRow$Sleeper" "SpoonRow$Sleeper" "left" "I") ∈ lw_all := lw_g (lw_at lw_m7 3 rfl) rfl
theorem q1541 : (Jvm.Cond.laysFinal "SpoonRow$Sleeper" "SpoonRow$Sleeper" "right" "I") ∈ lw_all := lw_g (lw_at lw_m7 4 rfl) rfl
theorem q1542 : (Jvm.Cond.laysFinal "SpoonRow$Sleeper" "SpoonRow$Sleeper" "light" "I") ∈ lw_all := lw_g (lw_at lw_m7 5 rfl) rfl
theorem q1543 : (Jvm.Cond.laysFinal "SpoonRow$Sleeper" "SpoonRow$Sleeper" "width" "I") ∈ lw_all := lw_g (lw_at lw_m7 6 rfl) rfl
theorem q1544 : (Jvm.Cond.laysFinal "SpoonRow$Sleeper" "SpoonRow$Sleeper" "out" "I") ∈ lw_all := lw_g (lw_at lw_m7 7 rfl) rfl
theorem q1545 : (Jvm.Cond.laysFinal "SpoonRow$Sleeper" "SpoonRow$Sleeper" "tenths" "I") ∈ lw_all := lw_g (lw_at lw_m7 8 rfl) rfl
theorem q1546 : (Jvm.Cond.superclass "SpoonRow$Sleeper" "java/lang/Object") ∈ lw_all := lw_g (lw_at lw_m7 9 rfl) rfl
theorem q1586 : (Jvm.Cond.instanceMethod ({ cls := "SpoonRow$Sleeper", name := "kind", desc := "()I" } : Jvm.MethodName)) ∈ lw_all := lw_g (lw_at lw_m7 49 rfl) rfl
theorem q1587 : (Jvm.Cond.selects "SpoonRow$Sleeper" ({ cls := "SpoonRow$Sleeper", name := "kind", desc := "()I" } : Jvm.MethodName) ({ cls := "SpoonRow$Sleeper", name := "kind", desc := "()I" } : Jvm.MethodName)) ∈ lw_all := lw_g (lw_at lw_m7 50 rfl) rfl
theorem q1588 : (Jvm.Cond.sameMethod "SpoonRow$Sleeper" "SpoonRow$Sleeper" "kind" "()I") ∈ lw_all := lw_g (lw_at lw_m7 51 rfl) rfl
theorem q1599 : (Jvm.Cond.code ({ cls := "SpoonRow$Sleeper", name := "kind", desc := "()I" } : Jvm.MethodName) prog_14_method_2_code (1 : Nat) (Option.some Jvm.ClassFile.FieldType.int)) ∈ lw_all := lw_g (lw_at lw_m7 62 rfl) rfl
theorem q2422 : (Jvm.Cond.castable "SpoonRow$Sleeper" "java/lang/Object") ∈ lw_tbl := lw_at lw_m10 165 rfl
theorem q136 : (Jvm.Cond.initialized "SpoonRow$Child") ∈ lw_all := lw_g (lw_at lw_m1 39 rfl) rfl
theorem q649 : (Jvm.Cond.selects "SpoonRow$Child" ({ cls := "java/lang/Object", name := "getClass", desc := "()Ljava/lang/Class;" } : Jvm.MethodName) ({ cls := "java/lang/Object", name := "getClass", desc := "()Ljava/lang/Class;" } : Jvm.MethodName)) ∈ lw_all := lw_g (lw_at lw_m3 72 rfl) rfl
theorem q991 : (Jvm.Cond.selects "SpoonRow$Child" ({ cls := "SpoonRow$Sleeper", name := "isTurned", desc := "()Z" } : Jvm.MethodName) ({ cls := "SpoonRow$Sleeper", name := "isTurned", desc := "()Z" } : Jvm.MethodName)) ∈ lw_all := lw_g (lw_at lw_m4 174 rfl) rfl
theorem q996 : (Jvm.Cond.sameMethod "SpoonRow$Child" "SpoonRow$Sleeper" "isTurned" "()Z") ∈ lw_all := lw_g (lw_at lw_m4 179 rfl) rfl
theorem q999 : (Jvm.Cond.superclass "SpoonRow$Child" "SpoonRow$Sleeper") ∈ lw_all := lw_g (lw_at lw_m4 182 rfl) rfl
theorem q1010 : (Jvm.Cond.selects "SpoonRow$Child" ({ cls := "SpoonRow$Sleeper", name := "isWoken", desc := "()Z" } : Jvm.MethodName) ({ cls := "SpoonRow$Child", name := "isWoken", desc := "()Z" } : Jvm.MethodName)) ∈ lw_all := lw_g (lw_at lw_m4 193 rfl) rfl
theorem q1011 : (Jvm.Cond.instanceMethod ({ cls := "SpoonRow$Child", name := "isWoken", desc := "()Z" } : Jvm.MethodName)) ∈ lw_all := lw_g (lw_at lw_m4 194 rfl) rfl
theorem q1012 : (Jvm.Cond.code ({ cls := "SpoonRow$Child", name := "isWoken", desc := "()Z" } : Jvm.MethodName) prog_5_method_3_code (1 : Nat) (Option.some Jvm.ClassFile.FieldType.boolean)) ∈ lw_all := lw_g (lw_at lw_m4 195 rfl) rfl
theorem q1013 : (Jvm.Cond.methodLink "SpoonRow$Child" (7 : Nat) ({ cls := "SpoonRow$Sleeper", name := "isWoken", desc := "()Z" } : Jvm.MethodName)) ∈ lw_all := lw_g (lw_at lw_m4 196 rfl) rfl
theorem q1056 : (Jvm.Cond.selects "SpoonRow$Child" ({ cls := "SpoonRow$Sleeper", name := "isSnoring", desc := "()Z" } : Jvm.MethodName) ({ cls := "SpoonRow$Sleeper", name := "isSnoring", desc := "()Z" } : Jvm.MethodName)) ∈ lw_all := lw_g (lw_at lw_m4 239 rfl) rfl
theorem q1102 : (Jvm.Cond.selects "SpoonRow$Child" ({ cls := "SpoonRow$Sleeper", name := "isSore", desc := "(II)Z" } : Jvm.MethodName) ({ cls := "SpoonRow$Sleeper", name := "isSore", desc := "(II)Z" } : Jvm.MethodName)) ∈ lw_all := lw_g (lw_at lw_m5 45 rfl) rfl
theorem q1108 : (Jvm.Cond.sameMethod "SpoonRow$Child" "SpoonRow$Sleeper" "isSore" "(II)Z") ∈ lw_all := lw_g (lw_at lw_m5 51 rfl) rfl
theorem q1483 : (Jvm.Cond.instanceMethod ({ cls := "SpoonRow$Child", name := "<init>", desc := "(IIIIII)V" } : Jvm.MethodName)) ∈ lw_all := lw_g (lw_at lw_m6 186 rfl) rfl
theorem q1484 : (Jvm.Cond.code ({ cls := "SpoonRow$Child", name := "<init>", desc := "(IIIIII)V" } : Jvm.MethodName) prog_5_method_1_code (7 : Nat) (Option.none : Option Jvm.ClassFile.FieldType)) ∈ lw_all := lw_g (lw_at lw_m6 187 rfl) rfl
theorem q1485 : (Jvm.Cond.methodLink "SpoonRow$Child" (1 : Nat) ({ cls := "SpoonRow$Sleeper", name := "<init>", desc := "(IIIIII)V" } : Jvm.MethodName)) ∈ lw_all := lw_g (lw_at lw_m6 188 rfl) rfl
theorem q1517 : (Jvm.Cond.instantiable "SpoonRow$Child" (6 : Nat)) ∈ lw_all := lw_g (lw_at lw_m6 220 rfl) rfl
theorem q1519 : (Jvm.Cond.laysFinal "SpoonRow$Child" "SpoonRow$Sleeper" "left" "I") ∈ lw_all := lw_g (lw_at lw_m6 222 rfl) rfl
theorem q1520 : (Jvm.Cond.laysFinal "SpoonRow$Child" "SpoonRow$Sleeper" "right" "I") ∈ lw_all := lw_g (lw_at lw_m6 223 rfl) rfl
theorem q1521 : (Jvm.Cond.laysFinal "SpoonRow$Child" "SpoonRow$Sleeper" "light" "I") ∈ lw_all := lw_g (lw_at lw_m6 224 rfl) rfl
theorem q1522 : (Jvm.Cond.laysFinal "SpoonRow$Child" "SpoonRow$Sleeper" "width" "I") ∈ lw_all := lw_g (lw_at lw_m6 225 rfl) rfl
theorem q1523 : (Jvm.Cond.laysFinal "SpoonRow$Child" "SpoonRow$Sleeper" "out" "I") ∈ lw_all := lw_g (lw_at lw_m6 226 rfl) rfl
theorem q1524 : (Jvm.Cond.laysFinal "SpoonRow$Child" "SpoonRow$Sleeper" "tenths" "I") ∈ lw_all := lw_g (lw_at lw_m6 227 rfl) rfl
theorem q1589 : (Jvm.Cond.selects "SpoonRow$Child" ({ cls := "SpoonRow$Sleeper", name := "kind", desc := "()I" } : Jvm.MethodName) ({ cls := "SpoonRow$Child", name := "kind", desc := "()I" } : Jvm.MethodName)) ∈ lw_all := lw_g (lw_at lw_m7 52 rfl) rfl
theorem q1590 : (Jvm.Cond.instanceMethod ({ cls := "SpoonRow$Child", name := "kind", desc := "()I" } : Jvm.MethodName)) ∈ lw_all := lw_g (lw_at lw_m7 53 rfl) rfl
theorem q1591 : (Jvm.Cond.code ({ cls := "SpoonRow$Child", name := "kind", desc := "()I" } : Jvm.MethodName) prog_5_method_2_code (1 : Nat) (Option.some Jvm.ClassFile.FieldType.int)) ∈ lw_all := lw_g (lw_at lw_m7 54 rfl) rfl
theorem q2395 : (Jvm.Cond.sameMethod "SpoonRow$Child" "SpoonRow$Child" "kind" "()I") ∈ lw_all := lw_g (lw_at lw_m10 138 rfl) rfl
theorem q2397 : (Jvm.Cond.castable "SpoonRow$Child" "SpoonRow$Sleeper") ∈ lw_tbl := lw_at lw_m10 140 rfl
theorem q2420 : (Jvm.Cond.castable "SpoonRow$Child" "java/lang/Object") ∈ lw_tbl := lw_at lw_m10 163 rfl
theorem q137 : (Jvm.Cond.initialized "SpoonRow$Dog") ∈ lw_all := lw_g (lw_at lw_m1 40 rfl) rfl
theorem q650 : (Jvm.Cond.selects "SpoonRow$Dog" ({ cls := "java/lang/Object", name := "getClass", desc := "()Ljava/lang/Class;" } : Jvm.MethodName) ({ cls := "java/lang/Object", name := "getClass", desc := "()Ljava/lang/Class;" } : Jvm.MethodName)) ∈ lw_all := lw_g (lw_at lw_m3 73 rfl) rfl
theorem q992 : (Jvm.Cond.selects "SpoonRow$Dog" ({ cls := "SpoonRow$Sleeper", name := "isTurned", desc := "()Z" } : Jvm.MethodName) ({ cls := "SpoonRow$Dog", name := "isTurned", desc := "()Z" } : Jvm.MethodName)) ∈ lw_all := lw_g (lw_at lw_m4 175 rfl) rfl
theorem q993 : (Jvm.Cond.instanceMethod ({ cls := "SpoonRow$Dog", name := "isTurned", desc := "()Z" } : Jvm.MethodName)) ∈ lw_all := lw_g (lw_at lw_m4 176 rfl) rfl
theorem q994 : (Jvm.Cond.code ({ cls := "SpoonRow$Dog", name := "isTurned", desc := "()Z" } : Jvm.MethodName) prog_6_method_4_code (1 : Nat) (Option.some Jvm.ClassFile.FieldType.boolean)) ∈ lw_all := lw_g (lw_at lw_m4 177 rfl) rfl
theorem q995 : (Jvm.Cond.methodLink "SpoonRow$Dog" (21 : Nat) ({ cls := "SpoonRow$Child", name := "isTurned", desc := "()Z" } : Jvm.MethodName)) ∈ lw_all := lw_g (lw_at lw_m4 178 rfl) rfl
theorem q998 : (Jvm.Cond.superclass "SpoonRow$Dog" "SpoonRow$Child") ∈ lw_all := lw_g (lw_at lw_m4 181 rfl) rfl
theorem q1015 : (Jvm.Cond.selects "SpoonRow$Dog" ({ cls := "SpoonRow$Sleeper", name := "isWoken", desc := "()Z" } : Jvm.MethodName) ({ cls := "SpoonRow$Child", name := "isWoken", desc := "()Z" } : Jvm.MethodName)) ∈ lw_all := lw_g (lw_at lw_m4 198 rfl) rfl
theorem q1057 : (Jvm.Cond.selects "SpoonRow$Dog" ({ cls := "SpoonRow$Sleeper", name := "isSnoring", desc := "()Z" } : Jvm.MethodName) ({ cls := "SpoonRow$Sleeper", name := "isSnoring", desc := "()Z" } : Jvm.MethodName)) ∈ lw_all := lw_g (lw_at lw_m5 0 rfl) rfl
theorem q1103 : (Jvm.Cond.selects "SpoonRow$Dog" ({ cls := "SpoonRow$Sleeper", name := "isSore", desc := "(II)Z" } : Jvm.MethodName) ({ cls := "SpoonRow$Dog", name := "isSore", desc := "(II)Z" } : Jvm.MethodName)) ∈ lw_all := lw_g (lw_at lw_m5 46 rfl) rfl
theorem q1104 : (Jvm.Cond.instanceMethod ({ cls := "SpoonRow$Dog", name := "isSore", desc := "(II)Z" } : Jvm.MethodName)) ∈ lw_all := lw_g (lw_at lw_m5 47 rfl) rfl
theorem q1105 : (Jvm.Cond.code ({ cls := "SpoonRow$Dog", name := "isSore", desc := "(II)Z" } : Jvm.MethodName) prog_6_method_3_code (3 : Nat) (Option.some Jvm.ClassFile.FieldType.boolean)) ∈ lw_all := lw_g (lw_at lw_m5 48 rfl) rfl
theorem q1106 : (Jvm.Cond.methodLink "SpoonRow$Dog" (11 : Nat) ({ cls := "SpoonRow$Dog", name := "isTurned", desc := "()Z" } : Jvm.MethodName)) ∈ lw_all := lw_g (lw_at lw_m5 49 rfl) rfl
theorem q1107 : (Jvm.Cond.methodLink "SpoonRow$Dog" (17 : Nat) ({ cls := "SpoonRow$Child", name := "isSore", desc := "(II)Z" } : Jvm.MethodName)) ∈ lw_all := lw_g (lw_at lw_m5 50 rfl) rfl
theorem q1478 : (Jvm.Cond.instantiable "SpoonRow$Dog" (6 : Nat)) ∈ lw_all := lw_g (lw_at lw_m6 181 rfl) rfl
theorem q1480 : (Jvm.Cond.instanceMethod ({ cls := "SpoonRow$Dog", name := "<init>", desc := "(I)V" } : Jvm.MethodName)) ∈ lw_all := lw_g (lw_at lw_m6 183 rfl) rfl
theorem q1481 : (Jvm.Cond.code ({ cls := "SpoonRow$Dog", name := "<init>", desc := "(I)V" } : Jvm.MethodName) prog_6_method_1_code (2 : Nat) (Option.none : Option Jvm.ClassFile.FieldType)) ∈ lw_all := lw_g (lw_at lw_m6 184 rfl) rfl
theorem q1482 : (Jvm.Cond.methodLink "SpoonRow$Dog" (1 : Nat) ({ cls := "SpoonRow$Child", name := "<init>", desc := "(IIIIII)V" } : Jvm.MethodName)) ∈ lw_all := lw_g (lw_at lw_m6 185 rfl) rfl
theorem q1503 : (Jvm.Cond.laysFinal "SpoonRow$Dog" "SpoonRow$Sleeper" "left" "I") ∈ lw_all := lw_g (lw_at lw_m6 206 rfl) rfl
theorem q1505 : (Jvm.Cond.laysFinal "SpoonRow$Dog" "SpoonRow$Sleeper" "right" "I") ∈ lw_all := lw_g (lw_at lw_m6 208 rfl) rfl
theorem q1507 : (Jvm.Cond.laysFinal "SpoonRow$Dog" "SpoonRow$Sleeper" "light" "I") ∈ lw_all := lw_g (lw_at lw_m6 210 rfl) rfl
theorem q1509 : (Jvm.Cond.laysFinal "SpoonRow$Dog" "SpoonRow$Sleeper" "width" "I") ∈ lw_all := lw_g (lw_at lw_m6 212 rfl) rfl
theorem q1511 : (Jvm.Cond.laysFinal "SpoonRow$Dog" "SpoonRow$Sleeper" "out" "I") ∈ lw_all := lw_g (lw_at lw_m6 214 rfl) rfl
theorem q1513 : (Jvm.Cond.laysFinal "SpoonRow$Dog" "SpoonRow$Sleeper" "tenths" "I") ∈ lw_all := lw_g (lw_at lw_m6 216 rfl) rfl
theorem q1592 : (Jvm.Cond.selects "SpoonRow$Dog" ({ cls := "SpoonRow$Sleeper", name := "kind", desc := "()I" } : Jvm.MethodName) ({ cls := "SpoonRow$Dog", name := "kind", desc := "()I" } : Jvm.MethodName)) ∈ lw_all := lw_g (lw_at lw_m7 55 rfl) rfl
theorem q1593 : (Jvm.Cond.instanceMethod ({ cls := "SpoonRow$Dog", name := "kind", desc := "()I" } : Jvm.MethodName)) ∈ lw_all := lw_g (lw_at lw_m7 56 rfl) rfl
theorem q1594 : (Jvm.Cond.code ({ cls := "SpoonRow$Dog", name := "kind", desc := "()I" } : Jvm.MethodName) prog_6_method_2_code (1 : Nat) (Option.some Jvm.ClassFile.FieldType.int)) ∈ lw_all := lw_g (lw_at lw_m7 57 rfl) rfl
theorem q1595 : (Jvm.Cond.methodLink "SpoonRow$Dog" (7 : Nat) ({ cls := "SpoonRow$Child", name := "kind", desc := "()I" } : Jvm.MethodName)) ∈ lw_all := lw_g (lw_at lw_m7 58 rfl) rfl
theorem q2392 : (Jvm.Cond.selects "SpoonRow$Dog" ({ cls := "SpoonRow$Dog", name := "isTurned", desc := "()Z" } : Jvm.MethodName) ({ cls := "SpoonRow$Dog", name := "isTurned", desc := "()Z" } : Jvm.MethodName)) ∈ lw_all := lw_g (lw_at lw_m10 135 rfl) rfl
theorem q2398 : (Jvm.Cond.castable "SpoonRow$Dog" "SpoonRow$Sleeper") ∈ lw_tbl := lw_at lw_m10 141 rfl
theorem q2419 : (Jvm.Cond.castable "SpoonRow$Dog" "java/lang/Object") ∈ lw_tbl := lw_at lw_m10 162 rfl
theorem q138 : (Jvm.Cond.initialized "SpoonRow$Snorer") ∈ lw_all := lw_g (lw_at lw_m1 41 rfl) rfl
theorem q658 : (Jvm.Cond.selects "SpoonRow$Snorer" ({ cls := "java/lang/Object", name := "getClass", desc := "()Ljava/lang/Class;" } : Jvm.MethodName) ({ cls := "java/lang/Object", name := "getClass", desc := "()Ljava/lang/Class;" } : Jvm.MethodName)) ∈ lw_all := lw_g (lw_at lw_m3 81 rfl) rfl
theorem q1001 : (Jvm.Cond.selects "SpoonRow$Snorer" ({ cls := "SpoonRow$Sleeper", name := "isTurned", desc := "()Z" } : Jvm.MethodName) ({ cls := "SpoonRow$Sleeper", name := "isTurned", desc := "()Z" } : Jvm.MethodName)) ∈ lw_all := lw_g (lw_at lw_m4 184 rfl) rfl
theorem q1016 : (Jvm.Cond.selects "SpoonRow$Snorer" ({ cls := "SpoonRow$Sleeper", name := "isWoken", desc := "()Z" } : Jvm.MethodName) ({ cls := "SpoonRow$Sleeper", name := "isWoken", desc := "()Z" } : Jvm.MethodName)) ∈ lw_all := lw_g (lw_at lw_m4 199 rfl) rfl
theorem q1058 : (Jvm.Cond.selects "SpoonRow$Snorer" ({ cls := "SpoonRow$Sleeper", name := "isSnoring", desc := "()Z" } : Jvm.MethodName) ({ cls := "SpoonRow$Snorer", name := "isSnoring", desc := "()Z" } : Jvm.MethodName)) ∈ lw_all := lw_g (lw_at lw_m5 1 rfl) rfl
theorem q1059 : (Jvm.Cond.instanceMethod ({ cls := "SpoonRow$Snorer", name := "isSnoring", desc := "()Z" } : Jvm.MethodName)) ∈ lw_all := lw_g (lw_at lw_m5 2 rfl) rfl
theorem q1060 : (Jvm.Cond.code ({ cls := "SpoonRow$Snorer", name := "isSnoring", desc := "()Z" } : Jvm.MethodName) prog_15_method_3_code (1 : Nat) (Option.some Jvm.ClassFile.FieldType.boolean)) ∈ lw_all := lw_g (lw_at lw_m5 3 rfl) rfl
theorem q1061 : (Jvm.Cond.methodLink "SpoonRow$Snorer" (7 : Nat) ({ cls := "SpoonRow$Sleeper", name := "isSnoring", desc := "()Z" } : Jvm.MethodName)) ∈ lw_all := lw_g (lw_at lw_m5 4 rfl) rfl
theorem q1062 : (Jvm.Cond.superclass "SpoonRow$Snorer" "SpoonRow$Sleeper") ∈ lw_all := lw_g (lw_at lw_m5 5 rfl) rfl
theorem q1111 : (Jvm.Cond.selects "SpoonRow$Snorer" ({ cls := "SpoonRow$Sleeper", name := "isSore", desc := "(II)Z" } : Jvm.MethodName) ({ cls := "SpoonRow$Sleeper", name := "isSore", desc := "(II)Z" } : Jvm.MethodName)) ∈ lw_all := lw_g (lw_at lw_m5 54 rfl) rfl
theorem q1526 : (Jvm.Cond.instantiable "SpoonRow$Snorer" (6 : Nat)) ∈ lw_all := lw_g (lw_at lw_m6 229 rfl) rfl
theorem q1528 : (Jvm.Cond.instanceMethod ({ cls := "SpoonRow$Snorer", name := "<init>", desc := "(IIIIII)V" } : Jvm.MethodName)) ∈ lw_all := lw_g (lw_at lw_m6 231 rfl) rfl
theorem q1529 : (Jvm.Cond.code ({ cls := "SpoonRow$Snorer", name := "<init>", desc := "(IIIIII)V" } : Jvm.MethodName) prog_15_method_1_code (7 : Nat) (Option.none : Option Jvm.ClassFile.FieldType)) ∈ lw_all := lw_g (lw_at lw_m6 232 rfl) rfl
theorem q1530 : (Jvm.Cond.methodLink "SpoonRow$Snorer" (1 : Nat) ({ cls := "SpoonRow$Sleeper", name := "<init>", desc := "(IIIIII)V" } : Jvm.MethodName)) ∈ lw_all := lw_g (lw_at lw_m6 233 rfl) rfl
theorem q1531 : (Jvm.Cond.laysFinal "SpoonRow$Snorer" "SpoonRow$Sleeper" "left" "I") ∈ lw_all := lw_g (lw_at lw_m6 234 rfl) rfl
theorem q1532 : (Jvm.Cond.laysFinal "SpoonRow$Snorer" "SpoonRow$Sleeper" "right" "I") ∈ lw_all := lw_g (lw_at lw_m6 235 rfl) rfl
theorem q1533 : (Jvm.Cond.laysFinal "SpoonRow$Snorer" "SpoonRow$Sleeper" "light" "I") ∈ lw_all := lw_g (lw_at lw_m6 236 rfl) rfl
theorem q1534 : (Jvm.Cond.laysFinal "SpoonRow$Snorer" "SpoonRow$Sleeper" "width" "I") ∈ lw_all := lw_g (lw_at lw_m6 237 rfl) rfl
theorem q1535 : (Jvm.Cond.laysFinal "SpoonRow$Snorer" "SpoonRow$Sleeper" "out" "I") ∈ lw_all := lw_g (lw_at lw_m6 238 rfl) rfl
theorem q1536 : (Jvm.Cond.laysFinal "SpoonRow$Snorer" "SpoonRow$Sleeper" "tenths" "I") ∈ lw_all := lw_g (lw_at lw_m6 239 rfl) rfl
theorem q1596 : (Jvm.Cond.selects "SpoonRow$Snorer" ({ cls := "SpoonRow$Sleeper", name := "kind", desc := "()I" } : Jvm.MethodName) ({ cls := "SpoonRow$Snorer", name := "kind", desc := "()I" } : Jvm.MethodName)) ∈ lw_all := lw_g (lw_at lw_m7 59 rfl) rfl
theorem q1597 : (Jvm.Cond.instanceMethod ({ cls := "SpoonRow$Snorer", name := "kind", desc := "()I" } : Jvm.MethodName)) ∈ lw_all := lw_g (lw_at lw_m7 60 rfl) rfl
theorem q1598 : (Jvm.Cond.code ({ cls := "SpoonRow$Snorer", name := "kind", desc := "()I" } : Jvm.MethodName) prog_15_method_2_code (1 : Nat) (Option.some Jvm.ClassFile.FieldType.int)) ∈ lw_all := lw_g (lw_at lw_m7 61 rfl) rfl
theorem q2399 : (Jvm.Cond.castable "SpoonRow$Snorer" "SpoonRow$Sleeper") ∈ lw_tbl := lw_at lw_m10 142 rfl
theorem q2421 : (Jvm.Cond.castable "SpoonRow$Snorer" "java/lang/Object") ∈ lw_tbl := lw_at lw_m10 164 rfl
theorem q99 : (Jvm.Cond.initialized "SpoonRow$Bed") ∈ lw_all := lw_g (lw_at lw_m1 2 rfl) rfl
theorem q149 : (Jvm.Cond.instantiable "SpoonRow$Bed" (10 : Nat)) ∈ lw_all := lw_g (lw_at lw_m1 52 rfl) rfl
theorem q151 : (Jvm.Cond.instanceMethod ({ cls := "SpoonRow$Bed", name := "<init>", desc := "()V" } : Jvm.MethodName)) ∈ lw_all := lw_g (lw_at lw_m1 54 rfl) rfl
theorem q152 : (Jvm.Cond.code ({ cls := "SpoonRow$Bed", name := "<init>", desc := "()V" } : Jvm.MethodName) prog_2_method_1_code (1 : Nat) (Option.none : Option Jvm.ClassFile.FieldType)) ∈ lw_all := lw_g (lw_at lw_m1 55 rfl) rfl
theorem q153 : (Jvm.Cond.methodLink "SpoonRow$Bed" (3 : Nat) ({ cls := "java/lang/Object", name := "<init>", desc := "()V" } : Jvm.MethodName)) ∈ lw_all := lw_g (lw_at lw_m1 56 rfl) rfl
theorem q154 : (Jvm.Cond.classLink "SpoonRow$Bed" (24 : Nat) "java/util/ArrayList") ∈ lw_all := lw_g (lw_at lw_m1 57 rfl) rfl
theorem q156 : (Jvm.Cond.methodLink "SpoonRow$Bed" (26 : Nat) ({ cls := "java/util/ArrayList", name := "<init>", desc := "(I)V" } : Jvm.MethodName)) ∈ lw_all := lw_g (lw_at lw_m1 59 rfl) rfl
theorem q494 : (Jvm.Cond.classLink "SpoonRow$Bed" (37 : Nat) "SpoonRow$View") ∈ lw_all := lw_g (lw_at lw_m2 157 rfl) rfl
theorem q496 : (Jvm.Cond.methodLinkNest "SpoonRow$Bed" (39 : Nat) ({ cls := "SpoonRow$View", name := "<init>", desc := "()V" } : Jvm.MethodName) "SpoonRow") ∈ lw_tbl := lw_at lw_m2 159 rfl
theorem q517 : (Jvm.Cond.fieldLink "SpoonRow$Bed" (9 : Nat) "SpoonRow$Bed" "wide" "I") ∈ lw_all := lw_g (lw_at lw_m2 180 rfl) rfl
theorem q520 : (Jvm.Cond.fieldLink "SpoonRow$Bed" (15 : Nat) "SpoonRow$Bed" "room" "I") ∈ lw_all := lw_g (lw_at lw_m2 183 rfl) rfl
theorem q523 : (Jvm.Cond.fieldLink "SpoonRow$Bed" (18 : Nat) "SpoonRow$Bed" "minutes" "I") ∈ lw_all := lw_g (lw_at lw_m2 186 rfl) rfl
theorem q527 : (Jvm.Cond.fieldLink "SpoonRow$Bed" (21 : Nat) "SpoonRow$Bed" "awake" "I") ∈ lw_all := lw_g (lw_at lw_m2 190 rfl) rfl
theorem q535 : (Jvm.Cond.fieldLink "SpoonRow$Bed" (29 : Nat) "SpoonRow$Bed" "sleepers" "Ljava/util/ArrayList;") ∈ lw_all := lw_g (lw_at lw_m2 198 rfl) rfl
theorem q540 : (Jvm.Cond.fieldLink "SpoonRow$Bed" (33 : Nat) "SpoonRow$Bed" "never" "[I") ∈ lw_all := lw_g (lw_at lw_m2 203 rfl) rfl
theorem q545 : (Jvm.Cond.fieldLink "SpoonRow$Bed" (40 : Nat) "SpoonRow$Bed" "view" "LSpoonRow$View;") ∈ lw_all := lw_g (lw_at lw_m2 208 rfl) rfl
theorem q547 : (Jvm.Cond.lays "SpoonRow$Bed" "SpoonRow$Bed" "wide" "I") ∈ lw_all := lw_g (lw_at lw_m2 210 rfl) rfl
theorem q548 : (Jvm.Cond.soleField "SpoonRow$Bed" "wide") ∈ lw_all := lw_g (lw_at lw_m2 211 rfl) rfl
theorem q549 : (Jvm.Cond.lays "SpoonRow$Bed" "SpoonRow$Bed" "room" "I") ∈ lw_all := lw_g (lw_at lw_m2 212 rfl) rfl
theorem q550 : (Jvm.Cond.soleField "SpoonRow$Bed" "room") ∈ lw_all := lw_g (lw_at lw_m2 213 rfl) rfl
theorem q551 : (Jvm.Cond.lays "SpoonRow$Bed" "SpoonRow$Bed" "minutes" "I") ∈ lw_all := lw_g (lw_at lw_m2 214 rfl) rfl
theorem q552 : (Jvm.Cond.soleField "SpoonRow$Bed" "minutes") ∈ lw_all := lw_g (lw_at lw_m2 215 rfl) rfl
theorem q553 : (Jvm.Cond.lays "SpoonRow$Bed" "SpoonRow$Bed" "awake" "I") ∈ lw_all := lw_g (lw_at lw_m2 216 rfl) rfl
theorem q554 : (Jvm.Cond.soleField "SpoonRow$Bed" "awake") ∈ lw_all := lw_g (lw_at lw_m2 217 rfl) rfl
theorem q555 : (Jvm.Cond.lays "SpoonRow$Bed" "SpoonRow$Bed" "bolsters" "I") ∈ lw_all := lw_g (lw_at lw_m2 218 rfl) rfl
theorem q556 : (Jvm.Cond.soleField "SpoonRow$Bed" "bolsters") ∈ lw_all := lw_g (lw_at lw_m2 219 rfl) rfl
theorem q557 : (Jvm.Cond.lays "SpoonRow$Bed" "SpoonRow$Bed" "nevers" "I") ∈ lw_all := lw_g (lw_at lw_m2 220 rfl) rfl
theorem q558 : (Jvm.Cond.soleField "SpoonRow$Bed" "nevers") ∈ lw_all := lw_g (lw_at lw_m2 221 rfl) rfl
theorem q559 : (Jvm.Cond.laysFinal "SpoonRow$Bed" "SpoonRow$Bed" "sleepers" "Ljava/util/ArrayList;") ∈ lw_all := lw_g (lw_at lw_m2 222 rfl) rfl
theorem q560 : (Jvm.Cond.soleField "SpoonRow$Bed" "sleepers") ∈ lw_all := lw_g (lw_at lw_m2 223 rfl) rfl
theorem q561 : (Jvm.Cond.laysFinal "SpoonRow$Bed" "SpoonRow$Bed" "never" "[I") ∈ lw_all := lw_g (lw_at lw_m2 224 rfl) rfl
theorem q562 : (Jvm.Cond.soleField "SpoonRow$Bed" "never") ∈ lw_all := lw_g (lw_at lw_m2 225 rfl) rfl
theorem q563 : (Jvm.Cond.lays "SpoonRow$Bed" "SpoonRow$Bed" "wakes" "LSpoonRow$Expr;") ∈ lw_all := lw_g (lw_at lw_m2 226 rfl) rfl
theorem q564 : (Jvm.Cond.soleField "SpoonRow$Bed" "wakes") ∈ lw_all := lw_g (lw_at lw_m2 227 rfl) rfl
theorem q565 : (Jvm.Cond.laysFinal "SpoonRow$Bed" "SpoonRow$Bed" "view" "LSpoonRow$View;") ∈ lw_all := lw_g (lw_at lw_m2 228 rfl) rfl
theorem q566 : (Jvm.Cond.soleField "SpoonRow$Bed" "view") ∈ lw_all := lw_g (lw_at lw_m2 229 rfl) rfl
theorem q567 : (Jvm.Cond.superclass "SpoonRow$Bed" "java/lang/Object") ∈ lw_all := lw_g (lw_at lw_m2 230 rfl) rfl
theorem q646 : (Jvm.Cond.selects "SpoonRow$Bed" ({ cls := "java/lang/Object", name := "getClass", desc := "()Ljava/lang/Class;" } : Jvm.MethodName) ({ cls := "java/lang/Object", name := "getClass", desc := "()Ljava/lang/Class;" } : Jvm.MethodName)) ∈ lw_all := lw_g (lw_at lw_m3 69 rfl) rfl
theorem q793 : (Jvm.Cond.instanceMethod ({ cls := "SpoonRow$Bed", name := "isFree", desc := "(I)Z" } : Jvm.MethodName)) ∈ lw_all := lw_g (lw_at lw_m3 216 rfl) rfl
theorem q794 : (Jvm.Cond.selects "SpoonRow$Bed" ({ cls := "SpoonRow$Bed", name := "isFree", desc := "(I)Z" } : Jvm.MethodName) ({ cls := "SpoonRow$Bed", name := "isFree", desc := "(I)Z" } : Jvm.MethodName)) ∈ lw_all := lw_g (lw_at lw_m3 217 rfl) rfl
theorem q795 : (Jvm.Cond.code ({ cls := "SpoonRow$Bed", name := "isFree", desc := "(I)Z" } : Jvm.MethodName) prog_2_method_2_code (4 : Nat) (Option.some Jvm.ClassFile.FieldType.boolean)) ∈ lw_all := lw_g (lw_at lw_m3 218 rfl) rfl
theorem q796 : (Jvm.Cond.methodLink "SpoonRow$Bed" (44 : Nat) ({ cls := "java/util/ArrayList", name := "size", desc := "()I" } : Jvm.MethodName)) ∈ lw_all := lw_g (lw_at lw_m3 219 rfl) rfl
theorem q797 : (Jvm.Cond.methodLink "SpoonRow$Bed" (48 : Nat) ({ cls := "java/util/ArrayList", name := "get", desc := "(I)Ljava/lang/Object;" } : Jvm.MethodName)) ∈ lw_all := lw_g (lw_at lw_m3 220 rfl) rfl
theorem q798 : (Jvm.Cond.classLink "SpoonRow$Bed" (52 : Nat) "SpoonRow$Sleeper") ∈ lw_all := lw_g (lw_at lw_m3 221 rfl) rfl
theorem q1497 : (Jvm.Cond.fieldLink "SpoonRow$Bed" (54 : Nat) "SpoonRow$Sleeper" "width" "I") ∈ lw_all := lw_g (lw_at lw_m6 200 rfl) rfl
theorem q2403 : (Jvm.Cond.castable "SpoonRow$Bed" "java/lang/Object") ∈ lw_tbl := lw_at lw_m10 146 rfl
theorem q119 : (Jvm.Cond.initialized "SpoonRow$View") ∈ lw_all := lw_g (lw_at lw_m1 22 rfl) rfl
theorem q495 : (Jvm.Cond.instantiable "SpoonRow$View" (1 : Nat)) ∈ lw_all := lw_g (lw_at lw_m2 158 rfl) rfl
theorem q497 : (Jvm.Cond.instanceMethod ({ cls := "SpoonRow$View", name := "<init>", desc := "()V" } : Jvm.MethodName)) ∈ lw_all := lw_g (lw_at lw_m2 160 rfl) rfl
theorem q498 : (Jvm.Cond.code ({ cls := "SpoonRow$View", name := "<init>", desc := "()V" } : Jvm.MethodName) prog_19_method_1_code (1 : Nat) (Option.none : Option Jvm.ClassFile.FieldType)) ∈ lw_all := lw_g (lw_at lw_m2 161 rfl) rfl
theorem q499 : (Jvm.Cond.methodLink "SpoonRow$View" (1 : Nat) ({ cls := "java/lang/Object", name := "<init>", desc := "()V" } : Jvm.MethodName)) ∈ lw_all := lw_g (lw_at lw_m2 162 rfl) rfl
theorem q500 : (Jvm.Cond.methodLink "SpoonRow$View" (7 : Nat) ({ cls := "SpoonRow$Value", name := "values", desc := "()[LSpoonRow$Value;" } : Jvm.MethodName)) ∈ lw_all := lw_g (lw_at lw_m2 163 rfl) rfl
theorem q511 : (Jvm.Cond.fieldLink "SpoonRow$View" (13 : Nat) "SpoonRow$View" "of" "[I") ∈ lw_all := lw_g (lw_at lw_m2 174 rfl) rfl
theorem q513 : (Jvm.Cond.laysFinal "SpoonRow$View" "SpoonRow$View" "of" "[I") ∈ lw_all := lw_g (lw_at lw_m2 176 rfl) rfl
theorem q514 : (Jvm.Cond.soleField "SpoonRow$View" "of") ∈ lw_all := lw_g (lw_at lw_m2 177 rfl) rfl
theorem q515 : (Jvm.Cond.superclass "SpoonRow$View" "java/lang/Object") ∈ lw_all := lw_g (lw_at lw_m2 178 rfl) rfl
theorem q662 : (Jvm.Cond.selects "SpoonRow$View" ({ cls := "java/lang/Object", name := "getClass", desc := "()Ljava/lang/Class;" } : Jvm.MethodName) ({ cls := "java/lang/Object", name := "getClass", desc := "()Ljava/lang/Class;" } : Jvm.MethodName)) ∈ lw_all := lw_g (lw_at lw_m3 85 rfl) rfl
theorem q1031 : (Jvm.Cond.instanceMethod ({ cls := "SpoonRow$View", name := "sees", desc := "(LSpoonRow$Value;I)V" } : Jvm.MethodName)) ∈ lw_all := lw_g (lw_at lw_m4 214 rfl) rfl
theorem q1032 : (Jvm.Cond.selects "SpoonRow$View" ({ cls := "SpoonRow$View", name := "sees", desc := "(LSpoonRow$Value;I)V" } : Jvm.MethodName) ({ cls := "SpoonRow$View", name := "sees", desc := "(LSpoonRow$Value;I)V" } : Jvm.MethodName)) ∈ lw_all := lw_g (lw_at lw_m4 215 rfl) rfl
theorem q1033 : (Jvm.Cond.code ({ cls := "SpoonRow$View", name := "sees", desc := "(LSpoonRow$Value;I)V" } : Jvm.MethodName) prog_19_method_2_code (3 : Nat) (Option.none : Option Jvm.ClassFile.FieldType)) ∈ lw_all := lw_g (lw_at lw_m4 216 rfl) rfl
theorem q1034 : (Jvm.Cond.methodLink "SpoonRow$View" (19 : Nat) ({ cls := "SpoonRow$Value", name := "ordinal", desc := "()I" } : Jvm.MethodName)) ∈ lw_all := lw_g (lw_at lw_m4 217 rfl) rfl
theorem q2407 : (Jvm.Cond.castable "SpoonRow$View" "java/lang/Object") ∈ lw_tbl := lw_at lw_m10 150 rfl
theorem q121 : (Jvm.Cond.initialized "SpoonRow$Value") ∈ lw_all := lw_g (lw_at lw_m1 24 rfl) rfl
theorem q501 : (Jvm.Cond.static ({ cls := "SpoonRow$Value", name := "values", desc := "()[LSpoonRow$Value;" } : Jvm.MethodName)) ∈ lw_all := lw_g (lw_at lw_m2 164 rfl) rfl
theorem q502 : (Jvm.Cond.code ({ cls := "SpoonRow$Value", name := "values", desc := "()[LSpoonRow$Value;" } : Jvm.MethodName) prog_18_method_1_code (0 : Nat) (Option.some (Jvm.ClassFile.FieldType.array (Jvm.ClassFile.FieldType.object "SpoonRow$Value")))) ∈ lw_all := lw_g (lw_at lw_m2 165 rfl) rfl
theorem q503 : (Jvm.Cond.fieldLink "SpoonRow$Value" (25 : Nat) "SpoonRow$Value" "$VALUES" "[LSpoonRow$Value;") ∈ lw_all := lw_g (lw_at lw_m2 166 rfl) rfl
theorem q504 : (Jvm.Cond.laysStatic "SpoonRow$Value" "$VALUES" "[LSpoonRow$Value;") ∈ lw_tbl := lw_at lw_m2 167 rfl
theorem q505 : (Jvm.Cond.methodLink "SpoonRow$Value" (29 : Nat) ({ cls := "[LSpoonRow$Value;", name := "clone", desc := "()Ljava/lang/Object;" } : Jvm.MethodName)) ∈ lw_all := lw_g (lw_at lw_m2 168 rfl) rfl
theorem q510 : (Jvm.Cond.classLink "SpoonRow$Value" (30 : Nat) "[LSpoonRow$Value;") ∈ lw_all := lw_g (lw_at lw_m2 173 rfl) rfl
theorem q661 : (Jvm.Cond.selects "SpoonRow$Value" ({ cls := "java/lang/Object", name := "getClass", desc := "()Ljava/lang/Class;" } : Jvm.MethodName) ({ cls := "java/lang/Object", name := "getClass", desc := "()Ljava/lang/Class;" } : Jvm.MethodName)) ∈ lw_all := lw_g (lw_at lw_m3 84 rfl) rfl
theorem q1029 : (Jvm.Cond.laysStatic "SpoonRow$Value" "LIGHT" "LSpoonRow$Value;") ∈ lw_tbl := lw_at lw_m4 212 rfl
theorem q1035 : (Jvm.Cond.sameMethod "SpoonRow$Value" "java/lang/Enum" "ordinal" "()I") ∈ lw_all := lw_g (lw_at lw_m4 218 rfl) rfl
theorem q1037 : (Jvm.Cond.selects "SpoonRow$Value" ({ cls := "SpoonRow$Value", name := "ordinal", desc := "()I" } : Jvm.MethodName) ({ cls := "java/lang/Enum", name := "ordinal", desc := "()I" } : Jvm.MethodName)) ∈ lw_all := lw_g (lw_at lw_m4 220 rfl) rfl
theorem q1041 : (Jvm.Cond.laysStatic "SpoonRow$Value" "OFF" "LSpoonRow$Value;") ∈ lw_tbl := lw_at lw_m4 224 rfl
theorem q1043 : (Jvm.Cond.laysStatic "SpoonRow$Value" "TURNS" "LSpoonRow$Value;") ∈ lw_tbl := lw_at lw_m4 226 rfl
theorem q1045 : (Jvm.Cond.laysStatic "SpoonRow$Value" "HOUR" "LSpoonRow$Value;") ∈ lw_tbl := lw_at lw_m4 228 rfl
theorem q1047 : (Jvm.Cond.laysStatic "SpoonRow$Value" "SNORE" "LSpoonRow$Value;") ∈ lw_tbl := lw_at lw_m4 230 rfl
theorem q1065 : (Jvm.Cond.laysStatic "SpoonRow$Value" "EDGE" "LSpoonRow$Value;") ∈ lw_tbl := lw_at lw_m5 8 rfl
theorem q1067 : (Jvm.Cond.laysStatic "SpoonRow$Value" "WOKEN" "LSpoonRow$Value;") ∈ lw_tbl := lw_at lw_m5 10 rfl
theorem q2400 : (Jvm.Cond.castable "SpoonRow$Value" "java/lang/Object") ∈ lw_tbl := lw_at lw_m10 143 rfl
theorem q122 : (Jvm.Cond.initialized "SpoonRow$Book") ∈ lw_all := lw_g (lw_at lw_m1 25 rfl) rfl
theorem q569 : (Jvm.Cond.instantiable "SpoonRow$Book" (8 : Nat)) ∈ lw_all := lw_g (lw_at lw_m2 232 rfl) rfl
theorem q571 : (Jvm.Cond.instanceMethod ({ cls := "SpoonRow$Book", name := "<init>", desc := "()V" } : Jvm.MethodName)) ∈ lw_all := lw_g (lw_at lw_m2 234 rfl) rfl
theorem q572 : (Jvm.Cond.code ({ cls := "SpoonRow$Book", name := "<init>", desc := "()V" } : Jvm.MethodName) prog_3_method_1_code (2 : Nat) (Option.none : Option Jvm.ClassFile.FieldType)) ∈ lw_all := lw_g (lw_at lw_m2 235 rfl) rfl
theorem q573 : (Jvm.Cond.methodLink "SpoonRow$Book" (3 : Nat) ({ cls := "java/lang/Object", name := "<init>", desc := "()V" } : Jvm.MethodName)) ∈ lw_all := lw_g (lw_at lw_m2 236 rfl) rfl
theorem q574 : (Jvm.Cond.classLink "SpoonRow$Book" (9 : Nat) "SpoonRow$Lay") ∈ lw_all := lw_g (lw_at lw_m2 237 rfl) rfl
theorem q576 : (Jvm.Cond.methodLinkNest "SpoonRow$Book" (11 : Nat) ({ cls := "SpoonRow$Lay", name := "<init>", desc := "()V" } : Jvm.MethodName) "SpoonRow") ∈ lw_tbl := lw_at lw_m2 239 rfl
theorem q618 : (Jvm.Cond.classLink "SpoonRow$Book" (18 : Nat) "java/util/ArrayList") ∈ lw_all := lw_g (lw_at lw_m3 41 rfl) rfl
theorem q619 : (Jvm.Cond.methodLink "SpoonRow$Book" (20 : Nat) ({ cls := "java/util/ArrayList", name := "<init>", desc := "(I)V" } : Jvm.MethodName)) ∈ lw_all := lw_g (lw_at lw_m3 42 rfl) rfl
theorem q620 : (Jvm.Cond.methodLink "SpoonRow$Book" (40 : Nat) ({ cls := "java/util/ArrayList", name := "add", desc := "(Ljava/lang/Object;)Z" } : Jvm.MethodName)) ∈ lw_all := lw_g (lw_at lw_m3 43 rfl) rfl
theorem q647 : (Jvm.Cond.selects "SpoonRow$Book" ({ cls := "java/lang/Object", name := "getClass", desc := "()Ljava/lang/Class;" } : Jvm.MethodName) ({ cls := "java/lang/Object", name := "getClass", desc := "()Ljava/lang/Class;" } : Jvm.MethodName)) ∈ lw_all := lw_g (lw_at lw_m3 70 rfl) rfl
theorem q676 : (Jvm.Cond.fieldLink "SpoonRow$Book" (12 : Nat) "SpoonRow$Book" "now" "LSpoonRow$Lay;") ∈ lw_all := lw_g (lw_at lw_m3 99 rfl) rfl
theorem q678 : (Jvm.Cond.fieldLink "SpoonRow$Book" (23 : Nat) "SpoonRow$Book" "ahead" "Ljava/util/ArrayList;") ∈ lw_all := lw_g (lw_at lw_m3 101 rfl) rfl
theorem q680 : (Jvm.Cond.fieldLink "SpoonRow$Book" (27 : Nat) "SpoonRow$Book" "who" "[I") ∈ lw_all := lw_g (lw_at lw_m3 103 rfl) rfl
theorem q682 : (Jvm.Cond.fieldLink "SpoonRow$Book" (31 : Nat) "SpoonRow$Book" "minute" "[I") ∈ lw_all := lw_g (lw_at lw_m3 105 rfl) rfl
theorem q684 : (Jvm.Cond.fieldLink "SpoonRow$Book" (34 : Nat) "SpoonRow$Book" "side" "[I") ∈ lw_all := lw_g (lw_at lw_m3 107 rfl) rfl
theorem q686 : (Jvm.Cond.fieldLink "SpoonRow$Book" (37 : Nat) "SpoonRow$Book" "refused" "[I") ∈ lw_all := lw_g (lw_at lw_m3 109 rfl) rfl
theorem q688 : (Jvm.Cond.fieldLink "SpoonRow$Book" (44 : Nat) "SpoonRow$Book" "acts" "I") ∈ lw_all := lw_g (lw_at lw_m3 111 rfl) rfl
theorem q690 : (Jvm.Cond.fieldLink "SpoonRow$Book" (65 : Nat) "SpoonRow$Book" "seen" "I") ∈ lw_all := lw_g (lw_at lw_m3 113 rfl) rfl
theorem q692 : (Jvm.Cond.laysFinal "SpoonRow$Book" "SpoonRow$Book" "now" "LSpoonRow$Lay;") ∈ lw_all := lw_g (lw_at lw_m3 115 rfl) rfl
theorem q693 : (Jvm.Cond.soleField "SpoonRow$Book" "now") ∈ lw_all := lw_g (lw_at lw_m3 116 rfl) rfl
theorem q694 : (Jvm.Cond.laysFinal "SpoonRow$Book" "SpoonRow$Book" "ahead" "Ljava/util/ArrayList;") ∈ lw_all := lw_g (lw_at lw_m3 117 rfl) rfl
theorem q695 : (Jvm.Cond.soleField "SpoonRow$Book" "ahead") ∈ lw_all := lw_g (lw_at lw_m3 118 rfl) rfl
theorem q696 : (Jvm.Cond.laysFinal "SpoonRow$Book" "SpoonRow$Book" "who" "[I") ∈ lw_all := lw_g (lw_at lw_m3 119 rfl) rfl
theorem q697 : (Jvm.Cond.soleField "SpoonRow$Book" "who") ∈ lw_all := lw_g (lw_at lw_m3 120 rfl) rfl
theorem q698 : (Jvm.Cond.laysFinal "SpoonRow$Book" "SpoonRow$Book" "minute" "[I") ∈ lw_all := lw_g (lw_at lw_m3 121 rfl) rfl
theorem q699 : (Jvm.Cond.soleField "SpoonRow$Book" "minute") ∈ lw_all := lw_g (lw_at lw_m3 122 rfl) rfl
theorem q700 : (Jvm.Cond.laysFinal "SpoonRow$Book" "SpoonRow$Book" "side" "[I") ∈ lw_all := lw_g (lw_at lw_m3 123 rfl) rfl
theorem q701 : (Jvm.Cond.soleField "SpoonRow$Book" "side") ∈ lw_all := lw_g (lw_at lw_m3 124 rfl) rfl
theorem q702 : (Jvm.Cond.laysFinal "SpoonRow$Book" "SpoonRow$Book" "refused" "[I") ∈ lw_all := lw_g (lw_at lw_m3 125 rfl) rfl
theorem q703 : (Jvm.Cond.soleField "SpoonRow$Book" "refused") ∈ lw_all := lw_g (lw_at lw_m3 126 rfl) rfl
theorem q704 : (Jvm.Cond.lays "SpoonRow$Book" "SpoonRow$Book" "acts" "I") ∈ lw_all := lw_g (lw_at lw_m3 127 rfl) rfl
theorem q705 : (Jvm.Cond.soleField "SpoonRow$Book" "acts") ∈ lw_all := lw_g (lw_at lw_m3 128 rfl) rfl
theorem q706 : (Jvm.Cond.lays "SpoonRow$Book" "SpoonRow$Book" "seen" "I") ∈ lw_all := lw_g (lw_at lw_m3 129 rfl) rfl
theorem q707 : (Jvm.Cond.soleField "SpoonRow$Book" "seen") ∈ lw_all := lw_g (lw_at lw_m3 130 rfl) rfl
theorem q708 : (Jvm.Cond.superclass "SpoonRow$Book" "java/lang/Object") ∈ lw_all := lw_g (lw_at lw_m3 131 rfl) rfl
theorem q893 : (Jvm.Cond.instanceMethod ({ cls := "SpoonRow$Book", name := "keeps", desc := "()V" } : Jvm.MethodName)) ∈ lw_all := lw_g (lw_at lw_m4 76 rfl) rfl
theorem q894 : (Jvm.Cond.selects "SpoonRow$Book" ({ cls := "SpoonRow$Book", name := "keeps", desc := "()V" } : Jvm.MethodName) ({ cls := "SpoonRow$Book", name := "keeps", desc := "()V" } : Jvm.MethodName)) ∈ lw_all := lw_g (lw_at lw_m4 77 rfl) rfl
theorem q895 : (Jvm.Cond.code ({ cls := "SpoonRow$Book", name := "keeps", desc := "()V" } : Jvm.MethodName) prog_3_method_2_code (1 : Nat) (Option.none : Option Jvm.ClassFile.FieldType)) ∈ lw_all := lw_g (lw_at lw_m4 78 rfl) rfl
theorem q896 : (Jvm.Cond.methodLink "SpoonRow$Book" (48 : Nat) ({ cls := "java/util/ArrayList", name := "remove", desc := "(I)Ljava/lang/Object;" } : Jvm.MethodName)) ∈ lw_all := lw_g (lw_at lw_m4 79 rfl) rfl
theorem q905 : (Jvm.Cond.methodLink "SpoonRow$Book" (52 : Nat) ({ cls := "java/util/ArrayList", name := "get", desc := "(I)Ljava/lang/Object;" } : Jvm.MethodName)) ∈ lw_all := lw_g (lw_at lw_m4 88 rfl) rfl
theorem q906 : (Jvm.Cond.methodLink "SpoonRow$Book" (55 : Nat) ({ cls := "SpoonRow$Lay", name := "like", desc := "(LSpoonRow$Lay;)V" } : Jvm.MethodName)) ∈ lw_all := lw_g (lw_at lw_m4 89 rfl) rfl
theorem q1144 : (Jvm.Cond.instanceMethod ({ cls := "SpoonRow$Book", name := "like", desc := "(LSpoonRow$Book;)V" } : Jvm.MethodName)) ∈ lw_all := lw_g (lw_at lw_m5 87 rfl) rfl
theorem q1145 : (Jvm.Cond.selects "SpoonRow$Book" ({ cls := "SpoonRow$Book", name := "like", desc := "(LSpoonRow$Book;)V" } : Jvm.MethodName) ({ cls := "SpoonRow$Book", name := "like", desc := "(LSpoonRow$Book;)V" } : Jvm.MethodName)) ∈ lw_all := lw_g (lw_at lw_m5 88 rfl) rfl
theorem q1146 : (Jvm.Cond.code ({ cls := "SpoonRow$Book", name := "like", desc := "(LSpoonRow$Book;)V" } : Jvm.MethodName) prog_3_method_3_code (3 : Nat) (Option.none : Option Jvm.ClassFile.FieldType)) ∈ lw_all := lw_g (lw_at lw_m5 89 rfl) rfl
theorem q1147 : (Jvm.Cond.methodLink "SpoonRow$Book" (59 : Nat) ({ cls := "java/lang/System", name := "arraycopy", desc := "(Ljava/lang/Object;ILjava/lang/Object;II)V" } : Jvm.MethodName)) ∈ lw_all := lw_g (lw_at lw_m5 90 rfl) rfl
theorem q2408 : (Jvm.Cond.castable "SpoonRow$Book" "java/lang/Object") ∈ lw_tbl := lw_at lw_m10 151 rfl
theorem q123 : (Jvm.Cond.initialized "SpoonRow$Lay") ∈ lw_all := lw_g (lw_at lw_m1 26 rfl) rfl
theorem q531 : (Jvm.Cond.fieldLinkNest "SpoonRow$Lay" (51 : Nat) "SpoonRow$Bed" "bolsters" "I" "SpoonRow") ∈ lw_tbl := lw_at lw_m2 194 rfl
theorem q536 : (Jvm.Cond.fieldLinkNest "SpoonRow$Lay" (22 : Nat) "SpoonRow$Bed" "sleepers" "Ljava/util/ArrayList;" "SpoonRow") ∈ lw_tbl := lw_at lw_m2 199 rfl
theorem q575 : (Jvm.Cond.instantiable "SpoonRow$Lay" (8 : Nat)) ∈ lw_all := lw_g (lw_at lw_m2 238 rfl) rfl
theorem q577 : (Jvm.Cond.instanceMethod ({ cls := "SpoonRow$Lay", name := "<init>", desc := "()V" } : Jvm.MethodName)) ∈ lw_all := lw_g (lw_at lw_m3 0 rfl) rfl
theorem q578 : (Jvm.Cond.code ({ cls := "SpoonRow$Lay", name := "<init>", desc := "()V" } : Jvm.MethodName) prog_9_method_1_code (1 : Nat) (Option.none : Option Jvm.ClassFile.FieldType)) ∈ lw_all := lw_g (lw_at lw_m3 1 rfl) rfl
theorem q579 : (Jvm.Cond.methodLink "SpoonRow$Lay" (3 : Nat) ({ cls := "java/lang/Object", name := "<init>", desc := "()V" } : Jvm.MethodName)) ∈ lw_all := lw_g (lw_at lw_m3 2 rfl) rfl
theorem q580 : (Jvm.Cond.fieldLink "SpoonRow$Lay" (9 : Nat) "SpoonRow$Lay" "at" "[I") ∈ lw_all := lw_g (lw_at lw_m3 3 rfl) rfl
theorem q583 : (Jvm.Cond.fieldLink "SpoonRow$Lay" (15 : Nat) "SpoonRow$Lay" "out" "[I") ∈ lw_all := lw_g (lw_at lw_m3 6 rfl) rfl
theorem q586 : (Jvm.Cond.fieldLink "SpoonRow$Lay" (34 : Nat) "SpoonRow$Lay" "many" "I") ∈ lw_all := lw_g (lw_at lw_m3 9 rfl) rfl
theorem q588 : (Jvm.Cond.fieldLink "SpoonRow$Lay" (45 : Nat) "SpoonRow$Lay" "first" "I") ∈ lw_all := lw_g (lw_at lw_m3 11 rfl) rfl
theorem q591 : (Jvm.Cond.fieldLink "SpoonRow$Lay" (18 : Nat) "SpoonRow$Lay" "by" "I") ∈ lw_all := lw_g (lw_at lw_m3 14 rfl) rfl
theorem q594 : (Jvm.Cond.fieldLink "SpoonRow$Lay" (48 : Nat) "SpoonRow$Lay" "every" "I") ∈ lw_all := lw_g (lw_at lw_m3 17 rfl) rfl
theorem q597 : (Jvm.Cond.fieldLink "SpoonRow$Lay" (54 : Nat) "SpoonRow$Lay" "bolsters" "I") ∈ lw_all := lw_g (lw_at lw_m3 20 rfl) rfl
theorem q599 : (Jvm.Cond.fieldLink "SpoonRow$Lay" (59 : Nat) "SpoonRow$Lay" "free" "Z") ∈ lw_all := lw_g (lw_at lw_m3 22 rfl) rfl
theorem q601 : (Jvm.Cond.laysFinal "SpoonRow$Lay" "SpoonRow$Lay" "at" "[I") ∈ lw_all := lw_g (lw_at lw_m3 24 rfl) rfl
theorem q602 : (Jvm.Cond.soleField "SpoonRow$Lay" "at") ∈ lw_all := lw_g (lw_at lw_m3 25 rfl) rfl
theorem q603 : (Jvm.Cond.laysFinal "SpoonRow$Lay" "SpoonRow$Lay" "out" "[I") ∈ lw_all := lw_g (lw_at lw_m3 26 rfl) rfl
theorem q604 : (Jvm.Cond.soleField "SpoonRow$Lay" "out") ∈ lw_all := lw_g (lw_at lw_m3 27 rfl) rfl
theorem q605 : (Jvm.Cond.lays "SpoonRow$Lay" "SpoonRow$Lay" "many" "I") ∈ lw_all := lw_g (lw_at lw_m3 28 rfl) rfl
theorem q606 : (Jvm.Cond.soleField "SpoonRow$Lay" "many") ∈ lw_all := lw_g (lw_at lw_m3 29 rfl) rfl
theorem q607 : (Jvm.Cond.lays "SpoonRow$Lay" "SpoonRow$Lay" "first" "I") ∈ lw_all := lw_g (lw_at lw_m3 30 rfl) rfl
theorem q608 : (Jvm.Cond.soleField "SpoonRow$Lay" "first") ∈ lw_all := lw_g (lw_at lw_m3 31 rfl) rfl
theorem q609 : (Jvm.Cond.lays "SpoonRow$Lay" "SpoonRow$Lay" "by" "I") ∈ lw_all := lw_g (lw_at lw_m3 32 rfl) rfl
theorem q610 : (Jvm.Cond.soleField "SpoonRow$Lay" "by") ∈ lw_all := lw_g (lw_at lw_m3 33 rfl) rfl
theorem q611 : (Jvm.Cond.lays "SpoonRow$Lay" "SpoonRow$Lay" "every" "I") ∈ lw_all := lw_g (lw_at lw_m3 34 rfl) rfl
theorem q612 : (Jvm.Cond.soleField "SpoonRow$Lay" "every") ∈ lw_all := lw_g (lw_at lw_m3 35 rfl) rfl
theorem q613 : (Jvm.Cond.lays "SpoonRow$Lay" "SpoonRow$Lay" "bolsters" "I") ∈ lw_all := lw_g (lw_at lw_m3 36 rfl) rfl
theorem q614 : (Jvm.Cond.soleField "SpoonRow$Lay" "bolsters") ∈ lw_all := lw_g (lw_at lw_m3 37 rfl) rfl
theorem q615 : (Jvm.Cond.lays "SpoonRow$Lay" "SpoonRow$Lay" "free" "Z") ∈ lw_all := lw_g (lw_at lw_m3 38 rfl) rfl
theorem q616 : (Jvm.Cond.soleField "SpoonRow$Lay" "free") ∈ lw_all := lw_g (lw_at lw_m3 39 rfl) rfl
theorem q617 : (Jvm.Cond.superclass "SpoonRow$Lay" "java/lang/Object") ∈ lw_all := lw_g (lw_at lw_m3 40 rfl) rfl
theorem q652 : (Jvm.Cond.selects "SpoonRow$Lay" ({ cls := "java/lang/Object", name := "getClass", desc := "()Ljava/lang/Class;" } : Jvm.MethodName) ({ cls := "java/lang/Object", name := "getClass", desc := "()Ljava/lang/Class;" } : Jvm.MethodName)) ∈ lw_all := lw_g (lw_at lw_m3 75 rfl) rfl
theorem q770 : (Jvm.Cond.instanceMethod ({ cls := "SpoonRow$Lay", name := "begins", desc := "(LSpoonRow$Bed;)V" } : Jvm.MethodName)) ∈ lw_all := lw_g (lw_at lw_m3 193 rfl) rfl
theorem q771 : (Jvm.Cond.selects "SpoonRow$Lay" ({ cls := "SpoonRow$Lay", name := "begins", desc := "(LSpoonRow$Bed;)V" } : Jvm.MethodName) ({ cls := "SpoonRow$Lay", name := "begins", desc := "(LSpoonRow$Bed;)V" } : Jvm.MethodName)) ∈ lw_all := lw_g (lw_at lw_m3 194 rfl) rfl
theorem q772 : (Jvm.Cond.code ({ cls := "SpoonRow$Lay", name := "begins", desc := "(LSpoonRow$Bed;)V" } : Jvm.MethodName) prog_9_method_2_code (3 : Nat) (Option.none : Option Jvm.ClassFile.FieldType)) ∈ lw_all := lw_g (lw_at lw_m3 195 rfl) rfl
theorem q773 : (Jvm.Cond.methodLink "SpoonRow$Lay" (28 : Nat) ({ cls := "java/util/ArrayList", name := "size", desc := "()I" } : Jvm.MethodName)) ∈ lw_all := lw_g (lw_at lw_m3 196 rfl) rfl
theorem q777 : (Jvm.Cond.methodLink "SpoonRow$Lay" (37 : Nat) ({ cls := "java/util/ArrayList", name := "get", desc := "(I)Ljava/lang/Object;" } : Jvm.MethodName)) ∈ lw_all := lw_g (lw_at lw_m3 200 rfl) rfl
theorem q791 : (Jvm.Cond.classLink "SpoonRow$Lay" (41 : Nat) "SpoonRow$Sleeper") ∈ lw_all := lw_g (lw_at lw_m3 214 rfl) rfl
theorem q792 : (Jvm.Cond.methodLink "SpoonRow$Lay" (55 : Nat) ({ cls := "SpoonRow$Bed", name := "isFree", desc := "(I)Z" } : Jvm.MethodName)) ∈ lw_all := lw_g (lw_at lw_m3 215 rfl) rfl
theorem q907 : (Jvm.Cond.instanceMethod ({ cls := "SpoonRow$Lay", name := "like", desc := "(LSpoonRow$Lay;)V" } : Jvm.MethodName)) ∈ lw_all := lw_g (lw_at lw_m4 90 rfl) rfl
theorem q908 : (Jvm.Cond.selects "SpoonRow$Lay" ({ cls := "SpoonRow$Lay", name := "like", desc := "(LSpoonRow$Lay;)V" } : Jvm.MethodName) ({ cls := "SpoonRow$Lay", name := "like", desc := "(LSpoonRow$Lay;)V" } : Jvm.MethodName)) ∈ lw_all := lw_g (lw_at lw_m4 91 rfl) rfl
theorem q909 : (Jvm.Cond.code ({ cls := "SpoonRow$Lay", name := "like", desc := "(LSpoonRow$Lay;)V" } : Jvm.MethodName) prog_9_method_3_code (2 : Nat) (Option.none : Option Jvm.ClassFile.FieldType)) ∈ lw_all := lw_g (lw_at lw_m4 92 rfl) rfl
theorem q910 : (Jvm.Cond.methodLink "SpoonRow$Lay" (63 : Nat) ({ cls := "java/lang/System", name := "arraycopy", desc := "(Ljava/lang/Object;ILjava/lang/Object;II)V" } : Jvm.MethodName)) ∈ lw_all := lw_g (lw_at lw_m4 93 rfl) rfl
theorem q912 : (Jvm.Cond.instanceMethod ({ cls := "SpoonRow$Lay", name := "swap", desc := "(II)V" } : Jvm.MethodName)) ∈ lw_all := lw_g (lw_at lw_m4 95 rfl) rfl
theorem q913 : (Jvm.Cond.selects "SpoonRow$Lay" ({ cls := "SpoonRow$Lay", name := "swap", desc := "(II)V" } : Jvm.MethodName) ({ cls := "SpoonRow$Lay", name := "swap", desc := "(II)V" } : Jvm.MethodName)) ∈ lw_all := lw_g (lw_at lw_m4 96 rfl) rfl
theorem q914 : (Jvm.Cond.code ({ cls := "SpoonRow$Lay", name := "swap", desc := "(II)V" } : Jvm.MethodName) prog_9_method_6_code (4 : Nat) (Option.none : Option Jvm.ClassFile.FieldType)) ∈ lw_all := lw_g (lw_at lw_m4 97 rfl) rfl
theorem q1003 : (Jvm.Cond.instanceMethod ({ cls := "SpoonRow$Lay", name := "placeOf", desc := "(I)I" } : Jvm.MethodName)) ∈ lw_all := lw_g (lw_at lw_m4 186 rfl) rfl
theorem q1004 : (Jvm.Cond.selects "SpoonRow$Lay" ({ cls := "SpoonRow$Lay", name := "placeOf", desc := "(I)I" } : Jvm.MethodName) ({ cls := "SpoonRow$Lay", name := "placeOf", desc := "(I)I" } : Jvm.MethodName)) ∈ lw_all := lw_g (lw_at lw_m4 187 rfl) rfl
theorem q1005 : (Jvm.Cond.code ({ cls := "SpoonRow$Lay", name := "placeOf", desc := "(I)I" } : Jvm.MethodName) prog_9_method_4_code (3 : Nat) (Option.some Jvm.ClassFile.FieldType.int)) ∈ lw_all := lw_g (lw_at lw_m4 188 rfl) rfl
theorem q1091 : (Jvm.Cond.instanceMethod ({ cls := "SpoonRow$Lay", name := "isApart", desc := "(I)Z" } : Jvm.MethodName)) ∈ lw_all := lw_g (lw_at lw_m5 34 rfl) rfl
theorem q1092 : (Jvm.Cond.selects "SpoonRow$Lay" ({ cls := "SpoonRow$Lay", name := "isApart", desc := "(I)Z" } : Jvm.MethodName) ({ cls := "SpoonRow$Lay", name := "isApart", desc := "(I)Z" } : Jvm.MethodName)) ∈ lw_all := lw_g (lw_at lw_m5 35 rfl) rfl
theorem q1093 : (Jvm.Cond.code ({ cls := "SpoonRow$Lay", name := "isApart", desc := "(I)Z" } : Jvm.MethodName) prog_9_method_5_code (2 : Nat) (Option.some Jvm.ClassFile.FieldType.boolean)) ∈ lw_all := lw_g (lw_at lw_m5 36 rfl) rfl
theorem q1500 : (Jvm.Cond.fieldLink "SpoonRow$Lay" (43 : Nat) "SpoonRow$Sleeper" "out" "I") ∈ lw_all := lw_g (lw_at lw_m6 203 rfl) rfl
theorem q1699 : (Jvm.Cond.instanceMethod ({ cls := "SpoonRow$Lay", name := "goesRound", desc := "()V" } : Jvm.MethodName)) ∈ lw_all := lw_g (lw_at lw_m7 162 rfl) rfl
theorem q1700 : (Jvm.Cond.selects "SpoonRow$Lay" ({ cls := "SpoonRow$Lay", name := "goesRound", desc := "()V" } : Jvm.MethodName) ({ cls := "SpoonRow$Lay", name := "goesRound", desc := "()V" } : Jvm.MethodName)) ∈ lw_all := lw_g (lw_at lw_m7 163 rfl) rfl
theorem q1701 : (Jvm.Cond.code ({ cls := "SpoonRow$Lay", name := "goesRound", desc := "()V" } : Jvm.MethodName) prog_9_method_7_code (2 : Nat) (Option.none : Option Jvm.ClassFile.FieldType)) ∈ lw_all := lw_g (lw_at lw_m7 164 rfl) rfl
theorem q1702 : (Jvm.Cond.methodLink "SpoonRow$Lay" (69 : Nat) ({ cls := "SpoonRow$Lay", name := "swap", desc := "(II)V" } : Jvm.MethodName)) ∈ lw_all := lw_g (lw_at lw_m7 165 rfl) rfl
theorem q1736 : (Jvm.Cond.instanceMethod ({ cls := "SpoonRow$Lay", name := "leaves", desc := "(I)V" } : Jvm.MethodName)) ∈ lw_all := lw_g (lw_at lw_m7 199 rfl) rfl
theorem q1737 : (Jvm.Cond.selects "SpoonRow$Lay" ({ cls := "SpoonRow$Lay", name := "leaves", desc := "(I)V" } : Jvm.MethodName) ({ cls := "SpoonRow$Lay", name := "leaves", desc := "(I)V" } : Jvm.MethodName)) ∈ lw_all := lw_g (lw_at lw_m7 200 rfl) rfl
theorem q1738 : (Jvm.Cond.code ({ cls := "SpoonRow$Lay", name := "leaves", desc := "(I)V" } : Jvm.MethodName) prog_9_method_8_code (3 : Nat) (Option.none : Option Jvm.ClassFile.FieldType)) ∈ lw_all := lw_g (lw_at lw_m7 201 rfl) rfl
theorem q2409 : (Jvm.Cond.castable "SpoonRow$Lay" "java/lang/Object") ∈ lw_tbl := lw_at lw_m10 152 rfl
theorem q124 : (Jvm.Cond.initialized "SpoonRow$Night") ∈ lw_all := lw_g (lw_at lw_m1 27 rfl) rfl
theorem q525 : (Jvm.Cond.fieldLinkNest "SpoonRow$Night" (204 : Nat) "SpoonRow$Bed" "minutes" "I" "SpoonRow") ∈ lw_tbl := lw_at lw_m2 188 rfl
theorem q528 : (Jvm.Cond.fieldLinkNest "SpoonRow$Night" (51 : Nat) "SpoonRow$Bed" "awake" "I" "SpoonRow") ∈ lw_tbl := lw_at lw_m2 191 rfl
theorem q537 : (Jvm.Cond.fieldLinkNest "SpoonRow$Night" (61 : Nat) "SpoonRow$Bed" "sleepers" "Ljava/util/ArrayList;" "SpoonRow") ∈ lw_tbl := lw_at lw_m2 200 rfl
theorem q543 : (Jvm.Cond.fieldLinkNest "SpoonRow$Night" (80 : Nat) "SpoonRow$Bed" "wakes" "LSpoonRow$Expr;" "SpoonRow") ∈ lw_tbl := lw_at lw_m2 206 rfl
theorem q546 : (Jvm.Cond.fieldLinkNest "SpoonRow$Night" (87 : Nat) "SpoonRow$Bed" "view" "LSpoonRow$View;" "SpoonRow") ∈ lw_tbl := lw_at lw_m2 209 rfl
theorem q581 : (Jvm.Cond.fieldLinkNest "SpoonRow$Night" (65 : Nat) "SpoonRow$Lay" "at" "[I" "SpoonRow") ∈ lw_tbl := lw_at lw_m3 4 rfl
theorem q584 : (Jvm.Cond.fieldLinkNest "SpoonRow$Night" (181 : Nat) "SpoonRow$Lay" "out" "[I" "SpoonRow") ∈ lw_tbl := lw_at lw_m3 7 rfl
theorem q587 : (Jvm.Cond.fieldLinkNest "SpoonRow$Night" (56 : Nat) "SpoonRow$Lay" "many" "I" "SpoonRow") ∈ lw_tbl := lw_at lw_m3 10 rfl
theorem q589 : (Jvm.Cond.fieldLinkNest "SpoonRow$Night" (193 : Nat) "SpoonRow$Lay" "first" "I" "SpoonRow") ∈ lw_tbl := lw_at lw_m3 12 rfl
theorem q592 : (Jvm.Cond.fieldLinkNest "SpoonRow$Night" (168 : Nat) "SpoonRow$Lay" "by" "I" "SpoonRow") ∈ lw_tbl := lw_at lw_m3 15 rfl
theorem q595 : (Jvm.Cond.fieldLinkNest "SpoonRow$Night" (165 : Nat) "SpoonRow$Lay" "every" "I" "SpoonRow") ∈ lw_tbl := lw_at lw_m3 18 rfl
theorem q653 : (Jvm.Cond.selects "SpoonRow$Night" ({ cls := "java/lang/Object", name := "getClass", desc := "()Ljava/lang/Class;" } : Jvm.MethodName) ({ cls := "java/lang/Object", name := "getClass", desc := "()Ljava/lang/Class;" } : Jvm.MethodName)) ∈ lw_all := lw_g (lw_at lw_m3 76 rfl) rfl
theorem q712 : (Jvm.Cond.instantiable "SpoonRow$Night" (15 : Nat)) ∈ lw_all := lw_g (lw_at lw_m3 135 rfl) rfl
theorem q714 : (Jvm.Cond.instanceMethod ({ cls := "SpoonRow$Night", name := "<init>", desc := "(LSpoonRow$Bed;LSpoonRow$Lay;[I[I[I[I)V" } : Jvm.MethodName)) ∈ lw_all := lw_g (lw_at lw_m3 137 rfl) rfl
theorem q715 : (Jvm.Cond.code ({ cls := "SpoonRow$Night", name := "<init>", desc := "(LSpoonRow$Bed;LSpoonRow$Lay;[I[I[I[I)V" } : Jvm.MethodName) prog_10_method_1_code (7 : Nat) (Option.none : Option Jvm.ClassFile.FieldType)) ∈ lw_all := lw_g (lw_at lw_m3 138 rfl) rfl
theorem q716 : (Jvm.Cond.methodLink "SpoonRow$Night" (3 : Nat) ({ cls := "java/lang/Object", name := "<init>", desc := "()V" } : Jvm.MethodName)) ∈ lw_all := lw_g (lw_at lw_m3 139 rfl) rfl
theorem q717 : (Jvm.Cond.fieldLink "SpoonRow$Night" (27 : Nat) "SpoonRow$Night" "bed" "LSpoonRow$Bed;") ∈ lw_all := lw_g (lw_at lw_m3 140 rfl) rfl
theorem q718 : (Jvm.Cond.fieldLink "SpoonRow$Night" (31 : Nat) "SpoonRow$Night" "lay" "LSpoonRow$Lay;") ∈ lw_all := lw_g (lw_at lw_m3 141 rfl) rfl
theorem q719 : (Jvm.Cond.fieldLink "SpoonRow$Night" (9 : Nat) "SpoonRow$Night" "side" "[I") ∈ lw_all := lw_g (lw_at lw_m3 142 rfl) rfl
theorem q721 : (Jvm.Cond.fieldLink "SpoonRow$Night" (15 : Nat) "SpoonRow$Night" "since" "[I") ∈ lw_all := lw_g (lw_at lw_m3 144 rfl) rfl
theorem q722 : (Jvm.Cond.fieldLink "SpoonRow$Night" (18 : Nat) "SpoonRow$Night" "woken" "[I") ∈ lw_all := lw_g (lw_at lw_m3 145 rfl) rfl
theorem q724 : (Jvm.Cond.fieldLink "SpoonRow$Night" (21 : Nat) "SpoonRow$Night" "last" "[I") ∈ lw_all := lw_g (lw_at lw_m3 147 rfl) rfl
theorem q725 : (Jvm.Cond.fieldLink "SpoonRow$Night" (24 : Nat) "SpoonRow$Night" "begun" "[I") ∈ lw_all := lw_g (lw_at lw_m3 148 rfl) rfl
theorem q727 : (Jvm.Cond.fieldLink "SpoonRow$Night" (35 : Nat) "SpoonRow$Night" "turnAt" "[I") ∈ lw_all := lw_g (lw_at lw_m3 150 rfl) rfl
theorem q728 : (Jvm.Cond.fieldLink "SpoonRow$Night" (38 : Nat) "SpoonRow$Night" "turnBy" "[I") ∈ lw_all := lw_g (lw_at lw_m3 151 rfl) rfl
theorem q729 : (Jvm.Cond.fieldLink "SpoonRow$Night" (41 : Nat) "SpoonRow$Night" "turnWoken" "[I") ∈ lw_all := lw_g (lw_at lw_m3 152 rfl) rfl
theorem q730 : (Jvm.Cond.fieldLink "SpoonRow$Night" (44 : Nat) "SpoonRow$Night" "turnWord" "[I") ∈ lw_all := lw_g (lw_at lw_m3 153 rfl) rfl
theorem q731 : (Jvm.Cond.fieldLink "SpoonRow$Night" (109 : Nat) "SpoonRow$Night" "turns" "I") ∈ lw_all := lw_g (lw_at lw_m3 154 rfl) rfl
theorem q733 : (Jvm.Cond.fieldLink "SpoonRow$Night" (187 : Nat) "SpoonRow$Night" "quiet" "I") ∈ lw_all := lw_g (lw_at lw_m3 156 rfl) rfl
theorem q735 : (Jvm.Cond.fieldLink "SpoonRow$Night" (159 : Nat) "SpoonRow$Night" "still" "I") ∈ lw_all := lw_g (lw_at lw_m3 158 rfl) rfl
theorem q736 : (Jvm.Cond.fieldLink "SpoonRow$Night" (47 : Nat) "SpoonRow$Night" "minute" "I") ∈ lw_all := lw_g (lw_at lw_m3 159 rfl) rfl
theorem q738 : (Jvm.Cond.laysFinal "SpoonRow$Night" "SpoonRow$Night" "bed" "LSpoonRow$Bed;") ∈ lw_all := lw_g (lw_at lw_m3 161 rfl) rfl
theorem q739 : (Jvm.Cond.soleField "SpoonRow$Night" "bed") ∈ lw_all := lw_g (lw_at lw_m3 162 rfl) rfl
theorem q740 : (Jvm.Cond.laysFinal "SpoonRow$Night" "SpoonRow$Night" "lay" "LSpoonRow$Lay;") ∈ lw_all := lw_g (lw_at lw_m3 163 rfl) rfl
theorem q741 : (Jvm.Cond.soleField "SpoonRow$Night" "lay") ∈ lw_all := lw_g (lw_at lw_m3 164 rfl) rfl
theorem q742 : (Jvm.Cond.laysFinal "SpoonRow$Night" "SpoonRow$Night" "side" "[I") ∈ lw_all := lw_g (lw_at lw_m3 165 rfl) rfl
theorem q743 : (Jvm.Cond.soleField "SpoonRow$Night" "side") ∈ lw_all := lw_g (lw_at lw_m3 166 rfl) rfl
theorem q744 : (Jvm.Cond.laysFinal "SpoonRow$Night" "SpoonRow$Night" "since" "[I") ∈ lw_all := lw_g (lw_at lw_m3 167 rfl) rfl
theorem q745 : (Jvm.Cond.soleField "SpoonRow$Night" "since") ∈ lw_all := lw_g (lw_at lw_m3 168 rfl) rfl
theorem q746 : (Jvm.Cond.laysFinal "SpoonRow$Night" "SpoonRow$Night" "woken" "[I") ∈ lw_all := lw_g (lw_at lw_m3 169 rfl) rfl
theorem q747 : (Jvm.Cond.soleField "SpoonRow$Night" "woken") ∈ lw_all := lw_g (lw_at lw_m3 170 rfl) rfl
theorem q748 : (Jvm.Cond.laysFinal "SpoonRow$Night" "SpoonRow$Night" "last" "[I") ∈ lw_all := lw_g (lw_at lw_m3 171 rfl) rfl
theorem q749 : (Jvm.Cond.soleField "SpoonRow$Night" "last") ∈ lw_all := lw_g (lw_at lw_m3 172 rfl) rfl
theorem q750 : (Jvm.Cond.laysFinal "SpoonRow$Night" "SpoonRow$Night" "begun" "[I") ∈ lw_all := lw_g (lw_at lw_m3 173 rfl) rfl
theorem q751 : (Jvm.Cond.soleField "SpoonRow$Night" "begun") ∈ lw_all := lw_g (lw_at lw_m3 174 rfl) rfl
theorem q752 : (Jvm.Cond.laysFinal "SpoonRow$Night" "SpoonRow$Night" "turnAt" "[I") ∈ lw_all := lw_g (lw_at lw_m3 175 rfl) rfl
theorem q753 : (Jvm.Cond.soleField "SpoonRow$Night" "turnAt") ∈ lw_all := lw_g (lw_at lw_m3 176 rfl) rfl
theorem q754 : (Jvm.Cond.laysFinal "SpoonRow$Night" "SpoonRow$Night" "turnBy" "[I") ∈ lw_all := lw_g (lw_at lw_m3 177 rfl) rfl
theorem q755 : (Jvm.Cond.soleField "SpoonRow$Night" "turnBy") ∈ lw_all := lw_g (lw_at lw_m3 178 rfl) rfl
theorem q756 : (Jvm.Cond.laysFinal "SpoonRow$Night" "SpoonRow$Night" "turnWoken" "[I") ∈ lw_all := lw_g (lw_at lw_m3 179 rfl) rfl
theorem q757 : (Jvm.Cond.soleField "SpoonRow$Night" "turnWoken") ∈ lw_all := lw_g (lw_at lw_m3 180 rfl) rfl
theorem q758 : (Jvm.Cond.laysFinal "SpoonRow$Night" "SpoonRow$Night" "turnWord" "[I") ∈ lw_all := lw_g (lw_at lw_m3 181 rfl) rfl
theorem q759 : (Jvm.Cond.soleField "SpoonRow$Night" "turnWord") ∈ lw_all := lw_g (lw_at lw_m3 182 rfl) rfl
theorem q760 : (Jvm.Cond.lays "SpoonRow$Night" "SpoonRow$Night" "turns" "I") ∈ lw_all := lw_g (lw_at lw_m3 183 rfl) rfl
theorem q761 : (Jvm.Cond.soleField "SpoonRow$Night" "turns") ∈ lw_all := lw_g (lw_at lw_m3 184 rfl) rfl
theorem q762 : (Jvm.Cond.lays "SpoonRow$Night" "SpoonRow$Night" "quiet" "I") ∈ lw_all := lw_g (lw_at lw_m3 185 rfl) rfl
theorem q763 : (Jvm.Cond.soleField "SpoonRow$Night" "quiet") ∈ lw_all := lw_g (lw_at lw_m3 186 rfl) rfl
theorem q764 : (Jvm.Cond.lays "SpoonRow$Night" "SpoonRow$Night" "still" "I") ∈ lw_all := lw_g (lw_at lw_m3 187 rfl) rfl
theorem q765 : (Jvm.Cond.soleField "SpoonRow$Night" "still") ∈ lw_all := lw_g (lw_at lw_m3 188 rfl) rfl
theorem q766 : (Jvm.Cond.lays "SpoonRow$Night" "SpoonRow$Night" "minute" "I") ∈ lw_all := lw_g (lw_at lw_m3 189 rfl) rfl
theorem q767 : (Jvm.Cond.soleField "SpoonRow$Night" "minute") ∈ lw_all := lw_g (lw_at lw_m3 190 rfl) rfl
theorem q768 : (Jvm.Cond.superclass "SpoonRow$Night" "java/lang/Object") ∈ lw_all := lw_g (lw_at lw_m3 191 rfl) rfl
theorem q962 : (Jvm.Cond.instanceMethod ({ cls := "SpoonRow$Night", name := "all", desc := "()V" } : Jvm.MethodName)) ∈ lw_all := lw_g (lw_at lw_m4 145 rfl) rfl
theorem q963 : (Jvm.Cond.selects "SpoonRow$Night" ({ cls := "SpoonRow$Night", name := "all", desc := "()V" } : Jvm.MethodName) ({ cls := "SpoonRow$Night", name := "all", desc := "()V" } : Jvm.MethodName)) ∈ lw_all := lw_g (lw_at lw_m4 146 rfl) rfl
theorem q964 : (Jvm.Cond.code ({ cls := "SpoonRow$Night", name := "all", desc := "()V" } : Jvm.MethodName) prog_10_method_13_code (1 : Nat) (Option.none : Option Jvm.ClassFile.FieldType)) ∈ lw_all := lw_g (lw_at lw_m4 147 rfl) rfl
theorem q965 : (Jvm.Cond.methodLink "SpoonRow$Night" (207 : Nat) ({ cls := "SpoonRow$Night", name := "goesTo", desc := "(I)V" } : Jvm.MethodName)) ∈ lw_all := lw_g (lw_at lw_m4 148 rfl) rfl
theorem q966 : (Jvm.Cond.instanceMethod ({ cls := "SpoonRow$Night", name := "goesTo", desc := "(I)V" } : Jvm.MethodName)) ∈ lw_all := lw_g (lw_at lw_m4 149 rfl) rfl
theorem q967 : (Jvm.Cond.selects "SpoonRow$Night" ({ cls := "SpoonRow$Night", name := "goesTo", desc := "(I)V" } : Jvm.MethodName) ({ cls := "SpoonRow$Night", name := "goesTo", desc := "(I)V" } : Jvm.MethodName)) ∈ lw_all := lw_g (lw_at lw_m4 150 rfl) rfl
theorem q968 : (Jvm.Cond.code ({ cls := "SpoonRow$Night", name := "goesTo", desc := "(I)V" } : Jvm.MethodName) prog_10_method_12_code (2 : Nat) (Option.none : Option Jvm.ClassFile.FieldType)) ∈ lw_all := lw_g (lw_at lw_m4 151 rfl) rfl
theorem q969 : (Jvm.Cond.methodLink "SpoonRow$Night" (198 : Nat) ({ cls := "SpoonRow$Night", name := "begins", desc := "()V" } : Jvm.MethodName)) ∈ lw_all := lw_g (lw_at lw_m4 152 rfl) rfl
theorem q970 : (Jvm.Cond.instanceMethod ({ cls := "SpoonRow$Night", name := "begins", desc := "()V" } : Jvm.MethodName)) ∈ lw_all := lw_g (lw_at lw_m4 153 rfl) rfl
theorem q971 : (Jvm.Cond.selects "SpoonRow$Night" ({ cls := "SpoonRow$Night", name := "begins", desc := "()V" } : Jvm.MethodName) ({ cls := "SpoonRow$Night", name := "begins", desc := "()V" } : Jvm.MethodName)) ∈ lw_all := lw_g (lw_at lw_m4 154 rfl) rfl
theorem q972 : (Jvm.Cond.code ({ cls := "SpoonRow$Night", name := "begins", desc := "()V" } : Jvm.MethodName) prog_10_method_10_code (2 : Nat) (Option.none : Option Jvm.ClassFile.FieldType)) ∈ lw_all := lw_g (lw_at lw_m4 155 rfl) rfl
theorem q973 : (Jvm.Cond.methodLink "SpoonRow$Night" (201 : Nat) ({ cls := "SpoonRow$Night", name := "next", desc := "()V" } : Jvm.MethodName)) ∈ lw_all := lw_g (lw_at lw_m4 156 rfl) rfl
theorem q974 : (Jvm.Cond.instanceMethod ({ cls := "SpoonRow$Night", name := "next", desc := "()V" } : Jvm.MethodName)) ∈ lw_all := lw_g (lw_at lw_m4 157 rfl) rfl
theorem q975 : (Jvm.Cond.selects "SpoonRow$Night" ({ cls := "SpoonRow$Night", name := "next", desc := "()V" } : Jvm.MethodName) ({ cls := "SpoonRow$Night", name := "next", desc := "()V" } : Jvm.MethodName)) ∈ lw_all := lw_g (lw_at lw_m4 158 rfl) rfl
theorem q976 : (Jvm.Cond.code ({ cls := "SpoonRow$Night", name := "next", desc := "()V" } : Jvm.MethodName) prog_10_method_11_code (1 : Nat) (Option.none : Option Jvm.ClassFile.FieldType)) ∈ lw_all := lw_g (lw_at lw_m4 159 rfl) rfl
theorem q977 : (Jvm.Cond.methodLink "SpoonRow$Night" (196 : Nat) ({ cls := "SpoonRow$Night", name := "minute", desc := "()V" } : Jvm.MethodName)) ∈ lw_all := lw_g (lw_at lw_m4 160 rfl) rfl
theorem q978 : (Jvm.Cond.privateMethod ({ cls := "SpoonRow$Night", name := "minute", desc := "()V" } : Jvm.MethodName)) ∈ lw_tbl := lw_at lw_m4 161 rfl
theorem q979 : (Jvm.Cond.instanceMethod ({ cls := "SpoonRow$Night", name := "minute", desc := "()V" } : Jvm.MethodName)) ∈ lw_all := lw_g (lw_at lw_m4 162 rfl) rfl
theorem q980 : (Jvm.Cond.code ({ cls := "SpoonRow$Night", name := "minute", desc := "()V" } : Jvm.MethodName) prog_10_method_9_code (4 : Nat) (Option.none : Option Jvm.ClassFile.FieldType)) ∈ lw_all := lw_g (lw_at lw_m4 163 rfl) rfl
theorem q981 : (Jvm.Cond.methodLink "SpoonRow$Night" (170 : Nat) ({ cls := "SpoonRow$Night", name := "turn", desc := "(IIIZ)V" } : Jvm.MethodName)) ∈ lw_all := lw_g (lw_at lw_m4 164 rfl) rfl
theorem q982 : (Jvm.Cond.privateMethod ({ cls := "SpoonRow$Night", name := "turn", desc := "(IIIZ)V" } : Jvm.MethodName)) ∈ lw_tbl := lw_at lw_m4 165 rfl
theorem q983 : (Jvm.Cond.instanceMethod ({ cls := "SpoonRow$Night", name := "turn", desc := "(IIIZ)V" } : Jvm.MethodName)) ∈ lw_all := lw_g (lw_at lw_m4 166 rfl) rfl
theorem q984 : (Jvm.Cond.code ({ cls := "SpoonRow$Night", name := "turn", desc := "(IIIZ)V" } : Jvm.MethodName) prog_10_method_6_code (9 : Nat) (Option.none : Option Jvm.ClassFile.FieldType)) ∈ lw_all := lw_g (lw_at lw_m4 167 rfl) rfl
theorem q985 : (Jvm.Cond.methodLink "SpoonRow$Night" (68 : Nat) ({ cls := "java/util/ArrayList", name := "get", desc := "(I)Ljava/lang/Object;" } : Jvm.MethodName)) ∈ lw_all := lw_g (lw_at lw_m4 168 rfl) rfl
theorem q986 : (Jvm.Cond.classLink "SpoonRow$Night" (74 : Nat) "SpoonRow$Sleeper") ∈ lw_all := lw_g (lw_at lw_m4 169 rfl) rfl
theorem q987 : (Jvm.Cond.methodLink "SpoonRow$Night" (134 : Nat) ({ cls := "SpoonRow$Sleeper", name := "isTurned", desc := "()Z" } : Jvm.MethodName)) ∈ lw_all := lw_g (lw_at lw_m4 170 rfl) rfl
theorem q1002 : (Jvm.Cond.methodLink "SpoonRow$Night" (137 : Nat) ({ cls := "SpoonRow$Lay", name := "placeOf", desc := "(I)I" } : Jvm.MethodName)) ∈ lw_all := lw_g (lw_at lw_m4 185 rfl) rfl
theorem q1006 : (Jvm.Cond.methodLink "SpoonRow$Night" (141 : Nat) ({ cls := "SpoonRow$Sleeper", name := "isWoken", desc := "()Z" } : Jvm.MethodName)) ∈ lw_all := lw_g (lw_at lw_m4 189 rfl) rfl
theorem q1017 : (Jvm.Cond.methodLink "SpoonRow$Night" (144 : Nat) ({ cls := "SpoonRow$Night", name := "isAwake", desc := "(I)Z" } : Jvm.MethodName)) ∈ lw_all := lw_g (lw_at lw_m4 200 rfl) rfl
theorem q1018 : (Jvm.Cond.instanceMethod ({ cls := "SpoonRow$Night", name := "isAwake", desc := "(I)Z" } : Jvm.MethodName)) ∈ lw_all := lw_g (lw_at lw_m4 201 rfl) rfl
theorem q1019 : (Jvm.Cond.selects "SpoonRow$Night" ({ cls := "SpoonRow$Night", name := "isAwake", desc := "(I)Z" } : Jvm.MethodName) ({ cls := "SpoonRow$Night", name := "isAwake", desc := "(I)Z" } : Jvm.MethodName)) ∈ lw_all := lw_g (lw_at lw_m4 202 rfl) rfl
theorem q1020 : (Jvm.Cond.code ({ cls := "SpoonRow$Night", name := "isAwake", desc := "(I)Z" } : Jvm.MethodName) prog_10_method_2_code (2 : Nat) (Option.some Jvm.ClassFile.FieldType.boolean)) ∈ lw_all := lw_g (lw_at lw_m4 203 rfl) rfl
theorem q1021 : (Jvm.Cond.methodLink "SpoonRow$Night" (147 : Nat) ({ cls := "java/lang/Math", name := "abs", desc := "(I)I" } : Jvm.MethodName)) ∈ lw_all := lw_g (lw_at lw_m4 204 rfl) rfl
theorem q1024 : (Jvm.Cond.methodLink "SpoonRow$Night" (152 : Nat) ({ cls := "SpoonRow$Night", name := "wakes", desc := "(II)Z" } : Jvm.MethodName)) ∈ lw_all := lw_g (lw_at lw_m4 207 rfl) rfl
theorem q1025 : (Jvm.Cond.privateMethod ({ cls := "SpoonRow$Night", name := "wakes", desc := "(II)Z" } : Jvm.MethodName)) ∈ lw_tbl := lw_at lw_m4 208 rfl
theorem q1026 : (Jvm.Cond.instanceMethod ({ cls := "SpoonRow$Night", name := "wakes", desc := "(II)Z" } : Jvm.MethodName)) ∈ lw_all := lw_g (lw_at lw_m4 209 rfl) rfl
theorem q1027 : (Jvm.Cond.code ({ cls := "SpoonRow$Night", name := "wakes", desc := "(II)Z" } : Jvm.MethodName) prog_10_method_4_code (6 : Nat) (Option.some Jvm.ClassFile.FieldType.boolean)) ∈ lw_all := lw_g (lw_at lw_m4 210 rfl) rfl
theorem q1028 : (Jvm.Cond.fieldLink "SpoonRow$Night" (91 : Nat) "SpoonRow$Value" "LIGHT" "LSpoonRow$Value;") ∈ lw_all := lw_g (lw_at lw_m4 211 rfl) rfl
theorem q1030 : (Jvm.Cond.methodLink "SpoonRow$Night" (97 : Nat) ({ cls := "SpoonRow$View", name := "sees", desc := "(LSpoonRow$Value;I)V" } : Jvm.MethodName)) ∈ lw_all := lw_g (lw_at lw_m4 213 rfl) rfl
theorem q1040 : (Jvm.Cond.fieldLink "SpoonRow$Night" (103 : Nat) "SpoonRow$Value" "OFF" "LSpoonRow$Value;") ∈ lw_all := lw_g (lw_at lw_m4 223 rfl) rfl
theorem q1042 : (Jvm.Cond.fieldLink "SpoonRow$Night" (106 : Nat) "SpoonRow$Value" "TURNS" "LSpoonRow$Value;") ∈ lw_all := lw_g (lw_at lw_m4 225 rfl) rfl
theorem q1044 : (Jvm.Cond.fieldLink "SpoonRow$Night" (112 : Nat) "SpoonRow$Value" "HOUR" "LSpoonRow$Value;") ∈ lw_all := lw_g (lw_at lw_m4 227 rfl) rfl
theorem q1046 : (Jvm.Cond.fieldLink "SpoonRow$Night" (115 : Nat) "SpoonRow$Value" "SNORE" "LSpoonRow$Value;") ∈ lw_all := lw_g (lw_at lw_m4 229 rfl) rfl
theorem q1048 : (Jvm.Cond.methodLink "SpoonRow$Night" (118 : Nat) ({ cls := "SpoonRow$Night", name := "isSnorer", desc := "(I)Z" } : Jvm.MethodName)) ∈ lw_all := lw_g (lw_at lw_m4 231 rfl) rfl
theorem q1049 : (Jvm.Cond.privateMethod ({ cls := "SpoonRow$Night", name := "isSnorer", desc := "(I)Z" } : Jvm.MethodName)) ∈ lw_tbl := lw_at lw_m4 232 rfl
theorem q1050 : (Jvm.Cond.instanceMethod ({ cls := "SpoonRow$Night", name := "isSnorer", desc := "(I)Z" } : Jvm.MethodName)) ∈ lw_all := lw_g (lw_at lw_m4 233 rfl) rfl
theorem q1051 : (Jvm.Cond.code ({ cls := "SpoonRow$Night", name := "isSnorer", desc := "(I)Z" } : Jvm.MethodName) prog_10_method_3_code (2 : Nat) (Option.some Jvm.ClassFile.FieldType.boolean)) ∈ lw_all := lw_g (lw_at lw_m4 234 rfl) rfl
theorem q1052 : (Jvm.Cond.methodLink "SpoonRow$Night" (76 : Nat) ({ cls := "SpoonRow$Sleeper", name := "isSnoring", desc := "()Z" } : Jvm.MethodName)) ∈ lw_all := lw_g (lw_at lw_m4 235 rfl) rfl
theorem q1064 : (Jvm.Cond.fieldLink "SpoonRow$Night" (122 : Nat) "SpoonRow$Value" "EDGE" "LSpoonRow$Value;") ∈ lw_all := lw_g (lw_at lw_m5 7 rfl) rfl
theorem q1066 : (Jvm.Cond.fieldLink "SpoonRow$Night" (125 : Nat) "SpoonRow$Value" "WOKEN" "LSpoonRow$Value;") ∈ lw_all := lw_g (lw_at lw_m5 9 rfl) rfl
theorem q1068 : (Jvm.Cond.methodLink "SpoonRow$Night" (128 : Nat) ({ cls := "SpoonRow$Expr", name := "by", desc := "(LSpoonRow$View;)I" } : Jvm.MethodName)) ∈ lw_all := lw_g (lw_at lw_m5 11 rfl) rfl
theorem q1086 : (Jvm.Cond.methodLink "SpoonRow$Night" (155 : Nat) ({ cls := "SpoonRow$Night", name := "wake", desc := "(I)V" } : Jvm.MethodName)) ∈ lw_all := lw_g (lw_at lw_m5 29 rfl) rfl
theorem q1087 : (Jvm.Cond.privateMethod ({ cls := "SpoonRow$Night", name := "wake", desc := "(I)V" } : Jvm.MethodName)) ∈ lw_tbl := lw_at lw_m5 30 rfl
theorem q1088 : (Jvm.Cond.instanceMethod ({ cls := "SpoonRow$Night", name := "wake", desc := "(I)V" } : Jvm.MethodName)) ∈ lw_all := lw_g (lw_at lw_m5 31 rfl) rfl
theorem q1089 : (Jvm.Cond.code ({ cls := "SpoonRow$Night", name := "wake", desc := "(I)V" } : Jvm.MethodName) prog_10_method_5_code (2 : Nat) (Option.none : Option Jvm.ClassFile.FieldType)) ∈ lw_all := lw_g (lw_at lw_m5 32 rfl) rfl
theorem q1090 : (Jvm.Cond.methodLink "SpoonRow$Night" (174 : Nat) ({ cls := "SpoonRow$Lay", name := "isApart", desc := "(I)Z" } : Jvm.MethodName)) ∈ lw_all := lw_g (lw_at lw_m5 33 rfl) rfl
theorem q1094 : (Jvm.Cond.methodLink "SpoonRow$Night" (177 : Nat) ({ cls := "SpoonRow$Night", name := "sore", desc := "(II)I" } : Jvm.MethodName)) ∈ lw_all := lw_g (lw_at lw_m5 37 rfl) rfl
theorem q1095 : (Jvm.Cond.privateMethod ({ cls := "SpoonRow$Night", name := "sore", desc := "(II)I" } : Jvm.MethodName)) ∈ lw_tbl := lw_at lw_m5 38 rfl
theorem q1096 : (Jvm.Cond.instanceMethod ({ cls := "SpoonRow$Night", name := "sore", desc := "(II)I" } : Jvm.MethodName)) ∈ lw_all := lw_g (lw_at lw_m5 39 rfl) rfl
theorem q1097 : (Jvm.Cond.code ({ cls := "SpoonRow$Night", name := "sore", desc := "(II)I" } : Jvm.MethodName) prog_10_method_7_code (5 : Nat) (Option.some Jvm.ClassFile.FieldType.int)) ∈ lw_all := lw_g (lw_at lw_m5 40 rfl) rfl
theorem q1098 : (Jvm.Cond.methodLink "SpoonRow$Night" (162 : Nat) ({ cls := "SpoonRow$Sleeper", name := "isSore", desc := "(II)Z" } : Jvm.MethodName)) ∈ lw_all := lw_g (lw_at lw_m5 41 rfl) rfl
theorem q1112 : (Jvm.Cond.methodLink "SpoonRow$Night" (184 : Nat) ({ cls := "SpoonRow$Night", name := "goes", desc := "(I)V" } : Jvm.MethodName)) ∈ lw_all := lw_g (lw_at lw_m5 55 rfl) rfl
theorem q1113 : (Jvm.Cond.privateMethod ({ cls := "SpoonRow$Night", name := "goes", desc := "(I)V" } : Jvm.MethodName)) ∈ lw_tbl := lw_at lw_m5 56 rfl
theorem q1114 : (Jvm.Cond.instanceMethod ({ cls := "SpoonRow$Night", name := "goes", desc := "(I)V" } : Jvm.MethodName)) ∈ lw_all := lw_g (lw_at lw_m5 57 rfl) rfl
theorem q1115 : (Jvm.Cond.code ({ cls := "SpoonRow$Night", name := "goes", desc := "(I)V" } : Jvm.MethodName) prog_10_method_8_code (4 : Nat) (Option.none : Option Jvm.ClassFile.FieldType)) ∈ lw_all := lw_g (lw_at lw_m5 58 rfl) rfl
theorem q1116 : (Jvm.Cond.methodLink "SpoonRow$Night" (190 : Nat) ({ cls := "java/lang/Math", name := "max", desc := "(II)I" } : Jvm.MethodName)) ∈ lw_all := lw_g (lw_at lw_m5 59 rfl) rfl
theorem q1118 : (Jvm.Cond.instanceMethod ({ cls := "SpoonRow$Night", name := "wokenAll", desc := "()I" } : Jvm.MethodName)) ∈ lw_all := lw_g (lw_at lw_m5 61 rfl) rfl
theorem q1119 : (Jvm.Cond.selects "SpoonRow$Night" ({ cls := "SpoonRow$Night", name := "wokenAll", desc := "()I" } : Jvm.MethodName) ({ cls := "SpoonRow$Night", name := "wokenAll", desc := "()I" } : Jvm.MethodName)) ∈ lw_all := lw_g (lw_at lw_m5 62 rfl) rfl
theorem q1120 : (Jvm.Cond.code ({ cls := "SpoonRow$Night", name := "wokenAll", desc := "()I" } : Jvm.MethodName) prog_10_method_14_code (3 : Nat) (Option.some Jvm.ClassFile.FieldType.int)) ∈ lw_all := lw_g (lw_at lw_m5 63 rfl) rfl
theorem q1494 : (Jvm.Cond.fieldLink "SpoonRow$Night" (84 : Nat) "SpoonRow$Sleeper" "light" "I") ∈ lw_all := lw_g (lw_at lw_m6 197 rfl) rfl
theorem q2410 : (Jvm.Cond.castable "SpoonRow$Night" "java/lang/Object") ∈ lw_tbl := lw_at lw_m10 153 rfl
theorem q127 : (Jvm.Cond.initialized "SpoonRow$Reader") ∈ lw_all := lw_g (lw_at lw_m1 30 rfl) rfl
theorem q519 : (Jvm.Cond.fieldLinkNest "SpoonRow$Reader" (133 : Nat) "SpoonRow$Bed" "wide" "I" "SpoonRow") ∈ lw_tbl := lw_at lw_m2 182 rfl
theorem q522 : (Jvm.Cond.fieldLinkNest "SpoonRow$Reader" (136 : Nat) "SpoonRow$Bed" "room" "I" "SpoonRow") ∈ lw_tbl := lw_at lw_m2 185 rfl
theorem q526 : (Jvm.Cond.fieldLinkNest "SpoonRow$Reader" (141 : Nat) "SpoonRow$Bed" "minutes" "I" "SpoonRow") ∈ lw_tbl := lw_at lw_m2 189 rfl
theorem q530 : (Jvm.Cond.fieldLinkNest "SpoonRow$Reader" (146 : Nat) "SpoonRow$Bed" "awake" "I" "SpoonRow") ∈ lw_tbl := lw_at lw_m2 193 rfl
theorem q532 : (Jvm.Cond.fieldLinkNest "SpoonRow$Reader" (162 : Nat) "SpoonRow$Bed" "bolsters" "I" "SpoonRow") ∈ lw_tbl := lw_at lw_m2 195 rfl
theorem q534 : (Jvm.Cond.fieldLinkNest "SpoonRow$Reader" (167 : Nat) "SpoonRow$Bed" "nevers" "I" "SpoonRow") ∈ lw_tbl := lw_at lw_m2 197 rfl
theorem q539 : (Jvm.Cond.fieldLinkNest "SpoonRow$Reader" (181 : Nat) "SpoonRow$Bed" "sleepers" "Ljava/util/ArrayList;" "SpoonRow") ∈ lw_tbl := lw_at lw_m2 202 rfl
theorem q542 : (Jvm.Cond.fieldLinkNest "SpoonRow$Reader" (200 : Nat) "SpoonRow$Bed" "never" "[I" "SpoonRow") ∈ lw_tbl := lw_at lw_m2 205 rfl
theorem q544 : (Jvm.Cond.fieldLinkNest "SpoonRow$Reader" (154 : Nat) "SpoonRow$Bed" "wakes" "LSpoonRow$Expr;" "SpoonRow") ∈ lw_tbl := lw_at lw_m2 207 rfl
theorem q655 : (Jvm.Cond.selects "SpoonRow$Reader" ({ cls := "java/lang/Object", name := "getClass", desc := "()Ljava/lang/Class;" } : Jvm.MethodName) ({ cls := "java/lang/Object", name := "getClass", desc := "()Ljava/lang/Class;" } : Jvm.MethodName)) ∈ lw_all := lw_g (lw_at lw_m3 78 rfl) rfl
theorem q1176 : (Jvm.Cond.instantiable "SpoonRow$Reader" (9 : Nat)) ∈ lw_all := lw_g (lw_at lw_m5 119 rfl) rfl
theorem q1178 : (Jvm.Cond.instanceMethod ({ cls := "SpoonRow$Reader", name := "<init>", desc := "([BI)V" } : Jvm.MethodName)) ∈ lw_all := lw_g (lw_at lw_m5 121 rfl) rfl
theorem q1179 : (Jvm.Cond.code ({ cls := "SpoonRow$Reader", name := "<init>", desc := "([BI)V" } : Jvm.MethodName) prog_12_method_1_code (3 : Nat) (Option.none : Option Jvm.ClassFile.FieldType)) ∈ lw_all := lw_g (lw_at lw_m5 122 rfl) rfl
theorem q1180 : (Jvm.Cond.methodLink "SpoonRow$Reader" (3 : Nat) ({ cls := "java/lang/Object", name := "<init>", desc := "()V" } : Jvm.MethodName)) ∈ lw_all := lw_g (lw_at lw_m5 123 rfl) rfl
theorem q1181 : (Jvm.Cond.stringRef "SpoonRow$Reader" (9 : Nat) "") ∈ lw_tbl := lw_at lw_m5 124 rfl
theorem q1182 : (Jvm.Cond.methodLink "SpoonRow$Reader" (29 : Nat) ({ cls := "SpoonRow$Reader", name := "go", desc := "()V" } : Jvm.MethodName)) ∈ lw_all := lw_g (lw_at lw_m5 125 rfl) rfl
theorem q1183 : (Jvm.Cond.privateMethod ({ cls := "SpoonRow$Reader", name := "go", desc := "()V" } : Jvm.MethodName)) ∈ lw_tbl := lw_at lw_m5 126 rfl
theorem q1184 : (Jvm.Cond.instanceMethod ({ cls := "SpoonRow$Reader", name := "go", desc := "()V" } : Jvm.MethodName)) ∈ lw_all := lw_g (lw_at lw_m5 127 rfl) rfl
theorem q1185 : (Jvm.Cond.code ({ cls := "SpoonRow$Reader", name := "go", desc := "()V" } : Jvm.MethodName) prog_12_method_6_code (3 : Nat) (Option.none : Option Jvm.ClassFile.FieldType)) ∈ lw_all := lw_g (lw_at lw_m5 128 rfl) rfl
theorem q1186 : (Jvm.Cond.methodLink "SpoonRow$Reader" (35 : Nat) ({ cls := "SpoonRow$Reader", name := "byteAt", desc := "(I)I" } : Jvm.MethodName)) ∈ lw_all := lw_g (lw_at lw_m5 129 rfl) rfl
theorem q1187 : (Jvm.Cond.privateMethod ({ cls := "SpoonRow$Reader", name := "byteAt", desc := "(I)I" } : Jvm.MethodName)) ∈ lw_tbl := lw_at lw_m5 130 rfl
theorem q1188 : (Jvm.Cond.instanceMethod ({ cls := "SpoonRow$Reader", name := "byteAt", desc := "(I)I" } : Jvm.MethodName)) ∈ lw_all := lw_g (lw_at lw_m5 131 rfl) rfl
theorem q1189 : (Jvm.Cond.code ({ cls := "SpoonRow$Reader", name := "byteAt", desc := "(I)I" } : Jvm.MethodName) prog_12_method_2_code (2 : Nat) (Option.some Jvm.ClassFile.FieldType.int)) ∈ lw_all := lw_g (lw_at lw_m5 132 rfl) rfl
theorem q1190 : (Jvm.Cond.fieldLink "SpoonRow$Reader" (46 : Nat) "SpoonRow$Sort" "END" "LSpoonRow$Sort;") ∈ lw_all := lw_g (lw_at lw_m5 133 rfl) rfl
theorem q1192 : (Jvm.Cond.methodLink "SpoonRow$Reader" (55 : Nat) ({ cls := "SpoonRow$Reader", name := "isLetter", desc := "(I)Z" } : Jvm.MethodName)) ∈ lw_all := lw_g (lw_at lw_m5 135 rfl) rfl
theorem q1193 : (Jvm.Cond.static ({ cls := "SpoonRow$Reader", name := "isLetter", desc := "(I)Z" } : Jvm.MethodName)) ∈ lw_all := lw_g (lw_at lw_m5 136 rfl) rfl
theorem q1194 : (Jvm.Cond.code ({ cls := "SpoonRow$Reader", name := "isLetter", desc := "(I)Z" } : Jvm.MethodName) prog_12_method_3_code (1 : Nat) (Option.some Jvm.ClassFile.FieldType.boolean)) ∈ lw_all := lw_g (lw_at lw_m5 137 rfl) rfl
theorem q1195 : (Jvm.Cond.classLink "SpoonRow$Reader" (59 : Nat) "java/lang/StringBuilder") ∈ lw_all := lw_g (lw_at lw_m5 138 rfl) rfl
theorem q1196 : (Jvm.Cond.methodLink "SpoonRow$Reader" (61 : Nat) ({ cls := "java/lang/StringBuilder", name := "<init>", desc := "(I)V" } : Jvm.MethodName)) ∈ lw_all := lw_g (lw_at lw_m5 139 rfl) rfl
theorem q1199 : (Jvm.Cond.methodLink "SpoonRow$Reader" (64 : Nat) ({ cls := "java/lang/StringBuilder", name := "length", desc := "()I" } : Jvm.MethodName)) ∈ lw_all := lw_g (lw_at lw_m5 142 rfl) rfl
theorem q1200 : (Jvm.Cond.methodLink "SpoonRow$Reader" (68 : Nat) ({ cls := "java/lang/StringBuilder", name := "append", desc := "(C)Ljava/lang/StringBuilder;" } : Jvm.MethodName)) ∈ lw_all := lw_g (lw_at lw_m5 143 rfl) rfl
theorem q1220 : (Jvm.Cond.methodLink "SpoonRow$Reader" (72 : Nat) ({ cls := "java/lang/StringBuilder", name := "toString", desc := "()Ljava/lang/String;" } : Jvm.MethodName)) ∈ lw_all := lw_g (lw_at lw_m5 163 rfl) rfl
theorem q1221 : (Jvm.Cond.fieldLink "SpoonRow$Reader" (76 : Nat) "SpoonRow$Sort" "WORD" "LSpoonRow$Sort;") ∈ lw_all := lw_g (lw_at lw_m5 164 rfl) rfl
theorem q1223 : (Jvm.Cond.methodLink "SpoonRow$Reader" (79 : Nat) ({ cls := "SpoonRow$Reader", name := "isDigit", desc := "(I)Z" } : Jvm.MethodName)) ∈ lw_all := lw_g (lw_at lw_m5 166 rfl) rfl
theorem q1224 : (Jvm.Cond.static ({ cls := "SpoonRow$Reader", name := "isDigit", desc := "(I)Z" } : Jvm.MethodName)) ∈ lw_all := lw_g (lw_at lw_m5 167 rfl) rfl
theorem q1225 : (Jvm.Cond.code ({ cls := "SpoonRow$Reader", name := "isDigit", desc := "(I)Z" } : Jvm.MethodName) prog_12_method_4_code (1 : Nat) (Option.some Jvm.ClassFile.FieldType.boolean)) ∈ lw_all := lw_g (lw_at lw_m5 168 rfl) rfl
theorem q1226 : (Jvm.Cond.fieldLink "SpoonRow$Reader" (85 : Nat) "SpoonRow$Sort" "NUMBER" "LSpoonRow$Sort;") ∈ lw_all := lw_g (lw_at lw_m5 169 rfl) rfl
theorem q1228 : (Jvm.Cond.methodLink "SpoonRow$Reader" (88 : Nat) ({ cls := "SpoonRow$Reader", name := "isSign", desc := "(I)Z" } : Jvm.MethodName)) ∈ lw_all := lw_g (lw_at lw_m5 171 rfl) rfl
theorem q1229 : (Jvm.Cond.static ({ cls := "SpoonRow$Reader", name := "isSign", desc := "(I)Z" } : Jvm.MethodName)) ∈ lw_all := lw_g (lw_at lw_m5 172 rfl) rfl
theorem q1230 : (Jvm.Cond.code ({ cls := "SpoonRow$Reader", name := "isSign", desc := "(I)Z" } : Jvm.MethodName) prog_12_method_5_code (1 : Nat) (Option.some Jvm.ClassFile.FieldType.boolean)) ∈ lw_all := lw_g (lw_at lw_m5 173 rfl) rfl
theorem q1231 : (Jvm.Cond.fieldLink "SpoonRow$Reader" (91 : Nat) "SpoonRow$Sort" "SIGN" "LSpoonRow$Sort;") ∈ lw_all := lw_g (lw_at lw_m5 174 rfl) rfl
theorem q1233 : (Jvm.Cond.fieldLink "SpoonRow$Reader" (94 : Nat) "SpoonRow$Sort" "BAD" "LSpoonRow$Sort;") ∈ lw_all := lw_g (lw_at lw_m5 176 rfl) rfl
theorem q1235 : (Jvm.Cond.methodLink "SpoonRow$Reader" (97 : Nat) ({ cls := "java/lang/String", name := "valueOf", desc := "(C)Ljava/lang/String;" } : Jvm.MethodName)) ∈ lw_all := lw_g (lw_at lw_m5 178 rfl) rfl
theorem q1249 : (Jvm.Cond.fieldLink "SpoonRow$Reader" (21 : Nat) "SpoonRow$Reader" "text" "[B") ∈ lw_all := lw_g (lw_at lw_m5 192 rfl) rfl
theorem q1250 : (Jvm.Cond.fieldLink "SpoonRow$Reader" (25 : Nat) "SpoonRow$Reader" "size" "I") ∈ lw_all := lw_g (lw_at lw_m5 193 rfl) rfl
theorem q1251 : (Jvm.Cond.fieldLink "SpoonRow$Reader" (32 : Nat) "SpoonRow$Reader" "next" "I") ∈ lw_all := lw_g (lw_at lw_m5 194 rfl) rfl
theorem q1252 : (Jvm.Cond.fieldLink "SpoonRow$Reader" (39 : Nat) "SpoonRow$Reader" "place" "I") ∈ lw_all := lw_g (lw_at lw_m5 195 rfl) rfl
theorem q1253 : (Jvm.Cond.fieldLink "SpoonRow$Reader" (82 : Nat) "SpoonRow$Reader" "value" "I") ∈ lw_all := lw_g (lw_at lw_m5 196 rfl) rfl
theorem q1254 : (Jvm.Cond.fieldLink "SpoonRow$Reader" (42 : Nat) "SpoonRow$Reader" "isLong" "Z") ∈ lw_all := lw_g (lw_at lw_m5 197 rfl) rfl
theorem q1255 : (Jvm.Cond.fieldLink "SpoonRow$Reader" (52 : Nat) "SpoonRow$Reader" "sort" "LSpoonRow$Sort;") ∈ lw_all := lw_g (lw_at lw_m5 198 rfl) rfl
theorem q1256 : (Jvm.Cond.fieldLink "SpoonRow$Reader" (11 : Nat) "SpoonRow$Reader" "word" "Ljava/lang/String;") ∈ lw_all := lw_g (lw_at lw_m5 199 rfl) rfl
theorem q1257 : (Jvm.Cond.fieldLink "SpoonRow$Reader" (17 : Nat) "SpoonRow$Reader" "has" "[Z") ∈ lw_all := lw_g (lw_at lw_m5 200 rfl) rfl
theorem q1258 : (Jvm.Cond.laysFinal "SpoonRow$Reader" "SpoonRow$Reader" "text" "[B") ∈ lw_all := lw_g (lw_at lw_m5 201 rfl) rfl
theorem q1259 : (Jvm.Cond.soleField "SpoonRow$Reader" "text") ∈ lw_all := lw_g (lw_at lw_m5 202 rfl) rfl
theorem q1260 : (Jvm.Cond.laysFinal "SpoonRow$Reader" "SpoonRow$Reader" "size" "I") ∈ lw_all := lw_g (lw_at lw_m5 203 rfl) rfl
theorem q1261 : (Jvm.Cond.soleField "SpoonRow$Reader" "size") ∈ lw_all := lw_g (lw_at lw_m5 204 rfl) rfl
theorem q1262 : (Jvm.Cond.lays "SpoonRow$Reader" "SpoonRow$Reader" "next" "I") ∈ lw_all := lw_g (lw_at lw_m5 205 rfl) rfl
theorem q1263 : (Jvm.Cond.soleField "SpoonRow$Reader" "next") ∈ lw_all := lw_g (lw_at lw_m5 206 rfl) rfl
theorem q1264 : (Jvm.Cond.lays "SpoonRow$Reader" "SpoonRow$Reader" "place" "I") ∈ lw_all := lw_g (lw_at lw_m5 207 rfl) rfl
theorem q1265 : (Jvm.Cond.soleField "SpoonRow$Reader" "place") ∈ lw_all := lw_g (lw_at lw_m5 208 rfl) rfl
theorem q1266 : (Jvm.Cond.lays "SpoonRow$Reader" "SpoonRow$Reader" "value" "I") ∈ lw_all := lw_g (lw_at lw_m5 209 rfl) rfl
theorem q1267 : (Jvm.Cond.soleField "SpoonRow$Reader" "value") ∈ lw_all := lw_g (lw_at lw_m5 210 rfl) rfl
theorem q1268 : (Jvm.Cond.lays "SpoonRow$Reader" "SpoonRow$Reader" "isLong" "Z") ∈ lw_all := lw_g (lw_at lw_m5 211 rfl) rfl
theorem q1269 : (Jvm.Cond.soleField "SpoonRow$Reader" "isLong") ∈ lw_all := lw_g (lw_at lw_m5 212 rfl) rfl
theorem q1270 : (Jvm.Cond.lays "SpoonRow$Reader" "SpoonRow$Reader" "sort" "LSpoonRow$Sort;") ∈ lw_all := lw_g (lw_at lw_m5 213 rfl) rfl
theorem q1271 : (Jvm.Cond.soleField "SpoonRow$Reader" "sort") ∈ lw_all := lw_g (lw_at lw_m5 214 rfl) rfl
theorem q1272 : (Jvm.Cond.lays "SpoonRow$Reader" "SpoonRow$Reader" "word" "Ljava/lang/String;") ∈ lw_all := lw_g (lw_at lw_m5 215 rfl) rfl
theorem q1273 : (Jvm.Cond.soleField "SpoonRow$Reader" "word") ∈ lw_all := lw_g (lw_at lw_m5 216 rfl) rfl
theorem q1274 : (Jvm.Cond.laysFinal "SpoonRow$Reader" "SpoonRow$Reader" "has" "[Z") ∈ lw_all := lw_g (lw_at lw_m5 217 rfl) rfl
theorem q1275 : (Jvm.Cond.soleField "SpoonRow$Reader" "has") ∈ lw_all := lw_g (lw_at lw_m5 218 rfl) rfl
theorem q1276 : (Jvm.Cond.superclass "SpoonRow$Reader" "java/lang/Object") ∈ lw_all := lw_g (lw_at lw_m5 219 rfl) rfl
theorem q1279 : (Jvm.Cond.instanceMethod ({ cls := "SpoonRow$Reader", name := "bed", desc := "()LSpoonRow$Bed;" } : Jvm.MethodName)) ∈ lw_all := lw_g (lw_at lw_m5 222 rfl) rfl
theorem q1280 : (Jvm.Cond.selects "SpoonRow$Reader" ({ cls := "SpoonRow$Reader", name := "bed", desc := "()LSpoonRow$Bed;" } : Jvm.MethodName) ({ cls := "SpoonRow$Reader", name := "bed", desc := "()LSpoonRow$Bed;" } : Jvm.MethodName)) ∈ lw_all := lw_g (lw_at lw_m5 223 rfl) rfl
theorem q1281 : (Jvm.Cond.code ({ cls := "SpoonRow$Reader", name := "bed", desc := "()LSpoonRow$Bed;" } : Jvm.MethodName) prog_12_method_14_code (3 : Nat) (Option.some (Jvm.ClassFile.FieldType.object "SpoonRow$Bed"))) ∈ lw_all := lw_g (lw_at lw_m5 224 rfl) rfl
theorem q1282 : (Jvm.Cond.classLink "SpoonRow$Reader" (120 : Nat) "SpoonRow$Bed") ∈ lw_all := lw_g (lw_at lw_m5 225 rfl) rfl
theorem q1283 : (Jvm.Cond.methodLinkNest "SpoonRow$Reader" (122 : Nat) ({ cls := "SpoonRow$Bed", name := "<init>", desc := "()V" } : Jvm.MethodName) "SpoonRow") ∈ lw_tbl := lw_at lw_m5 226 rfl
theorem q1284 : (Jvm.Cond.stringRef "SpoonRow$Reader" (123 : Nat) "bed") ∈ lw_tbl := lw_at lw_m5 227 rfl
theorem q1285 : (Jvm.Cond.methodLink "SpoonRow$Reader" (125 : Nat) ({ cls := "SpoonRow$Reader", name := "begins", desc := "(Ljava/lang/String;I)Z" } : Jvm.MethodName)) ∈ lw_all := lw_g (lw_at lw_m5 228 rfl) rfl
theorem q1286 : (Jvm.Cond.privateMethod ({ cls := "SpoonRow$Reader", name := "begins", desc := "(Ljava/lang/String;I)Z" } : Jvm.MethodName)) ∈ lw_tbl := lw_at lw_m5 229 rfl
theorem q1287 : (Jvm.Cond.instanceMethod ({ cls := "SpoonRow$Reader", name := "begins", desc := "(Ljava/lang/String;I)Z" } : Jvm.MethodName)) ∈ lw_all := lw_g (lw_at lw_m5 230 rfl) rfl
theorem q1288 : (Jvm.Cond.code ({ cls := "SpoonRow$Reader", name := "begins", desc := "(Ljava/lang/String;I)Z" } : Jvm.MethodName) prog_12_method_11_code (3 : Nat) (Option.some Jvm.ClassFile.FieldType.boolean)) ∈ lw_all := lw_g (lw_at lw_m5 231 rfl) rfl
theorem q1289 : (Jvm.Cond.methodLink "SpoonRow$Reader" (112 : Nat) ({ cls := "SpoonRow$Reader", name := "is", desc := "(Ljava/lang/String;)Z" } : Jvm.MethodName)) ∈ lw_all := lw_g (lw_at lw_m5 232 rfl) rfl
theorem q1290 : (Jvm.Cond.privateMethod ({ cls := "SpoonRow$Reader", name := "is", desc := "(Ljava/lang/String;)Z" } : Jvm.MethodName)) ∈ lw_tbl := lw_at lw_m5 233 rfl
theorem q1291 : (Jvm.Cond.instanceMethod ({ cls := "SpoonRow$Reader", name := "is", desc := "(Ljava/lang/String;)Z" } : Jvm.MethodName)) ∈ lw_all := lw_g (lw_at lw_m5 234 rfl) rfl
theorem q1292 : (Jvm.Cond.code ({ cls := "SpoonRow$Reader", name := "is", desc := "(Ljava/lang/String;)Z" } : Jvm.MethodName) prog_12_method_7_code (2 : Nat) (Option.some Jvm.ClassFile.FieldType.boolean)) ∈ lw_all := lw_g (lw_at lw_m5 235 rfl) rfl
theorem q1293 : (Jvm.Cond.methodLink "SpoonRow$Reader" (103 : Nat) ({ cls := "java/lang/String", name := "equals", desc := "(Ljava/lang/Object;)Z" } : Jvm.MethodName)) ∈ lw_all := lw_g (lw_at lw_m5 236 rfl) rfl
theorem q1300 : (Jvm.Cond.methodLink "SpoonRow$Reader" (116 : Nat) ({ cls := "SpoonRow$Reader", name := "check", desc := "(ZI)V" } : Jvm.MethodName)) ∈ lw_all := lw_g (lw_at lw_m6 3 rfl) rfl
theorem q1301 : (Jvm.Cond.privateMethod ({ cls := "SpoonRow$Reader", name := "check", desc := "(ZI)V" } : Jvm.MethodName)) ∈ lw_tbl := lw_at lw_m6 4 rfl
theorem q1302 : (Jvm.Cond.instanceMethod ({ cls := "SpoonRow$Reader", name := "check", desc := "(ZI)V" } : Jvm.MethodName)) ∈ lw_all := lw_g (lw_at lw_m6 5 rfl) rfl
theorem q1303 : (Jvm.Cond.code ({ cls := "SpoonRow$Reader", name := "check", desc := "(ZI)V" } : Jvm.MethodName) prog_12_method_8_code (3 : Nat) (Option.none : Option Jvm.ClassFile.FieldType)) ∈ lw_all := lw_g (lw_at lw_m6 6 rfl) rfl
theorem q1304 : (Jvm.Cond.classLink "SpoonRow$Reader" (107 : Nat) "SpoonRow$Fault") ∈ lw_all := lw_g (lw_at lw_m6 7 rfl) rfl
theorem q1313 : (Jvm.Cond.methodLink "SpoonRow$Reader" (109 : Nat) ({ cls := "SpoonRow$Fault", name := "<init>", desc := "(II)V" } : Jvm.MethodName)) ∈ lw_all := lw_g (lw_at lw_m6 16 rfl) rfl
theorem q1327 : (Jvm.Cond.methodLink "SpoonRow$Reader" (129 : Nat) ({ cls := "SpoonRow$Reader", name := "number", desc := "(II)I" } : Jvm.MethodName)) ∈ lw_all := lw_g (lw_at lw_m6 30 rfl) rfl
theorem q1328 : (Jvm.Cond.privateMethod ({ cls := "SpoonRow$Reader", name := "number", desc := "(II)I" } : Jvm.MethodName)) ∈ lw_tbl := lw_at lw_m6 31 rfl
theorem q1329 : (Jvm.Cond.instanceMethod ({ cls := "SpoonRow$Reader", name := "number", desc := "(II)I" } : Jvm.MethodName)) ∈ lw_all := lw_g (lw_at lw_m6 32 rfl) rfl
theorem q1330 : (Jvm.Cond.code ({ cls := "SpoonRow$Reader", name := "number", desc := "(II)I" } : Jvm.MethodName) prog_12_method_10_code (4 : Nat) (Option.some Jvm.ClassFile.FieldType.int)) ∈ lw_all := lw_g (lw_at lw_m6 33 rfl) rfl
theorem q1331 : (Jvm.Cond.stringRef "SpoonRow$Reader" (139 : Nat) "night") ∈ lw_tbl := lw_at lw_m6 34 rfl
theorem q1332 : (Jvm.Cond.stringRef "SpoonRow$Reader" (144 : Nat) "awake") ∈ lw_tbl := lw_at lw_m6 35 rfl
theorem q1333 : (Jvm.Cond.stringRef "SpoonRow$Reader" (148 : Nat) "wakes") ∈ lw_tbl := lw_at lw_m6 36 rfl
theorem q1334 : (Jvm.Cond.methodLink "SpoonRow$Reader" (150 : Nat) ({ cls := "SpoonRow$Reader", name := "expr", desc := "(I)LSpoonRow$Expr;" } : Jvm.MethodName)) ∈ lw_all := lw_g (lw_at lw_m6 37 rfl) rfl
theorem q1335 : (Jvm.Cond.privateMethod ({ cls := "SpoonRow$Reader", name := "expr", desc := "(I)LSpoonRow$Expr;" } : Jvm.MethodName)) ∈ lw_tbl := lw_at lw_m6 38 rfl
theorem q1336 : (Jvm.Cond.instanceMethod ({ cls := "SpoonRow$Reader", name := "expr", desc := "(I)LSpoonRow$Expr;" } : Jvm.MethodName)) ∈ lw_all := lw_g (lw_at lw_m6 39 rfl) rfl
theorem q1337 : (Jvm.Cond.code ({ cls := "SpoonRow$Reader", name := "expr", desc := "(I)LSpoonRow$Expr;" } : Jvm.MethodName) prog_12_method_17_code (3 : Nat) (Option.some (Jvm.ClassFile.FieldType.object "SpoonRow$Expr"))) ∈ lw_all := lw_g (lw_at lw_m6 40 rfl) rfl
theorem q1338 : (Jvm.Cond.stringRef "SpoonRow$Reader" (220 : Nat) "(") ∈ lw_tbl := lw_at lw_m6 41 rfl
theorem q1339 : (Jvm.Cond.methodLink "SpoonRow$Reader" (222 : Nat) ({ cls := "SpoonRow$Reader", name := "and", desc := "(I)LSpoonRow$Expr;" } : Jvm.MethodName)) ∈ lw_all := lw_g (lw_at lw_m6 42 rfl) rfl
theorem q1340 : (Jvm.Cond.privateMethod ({ cls := "SpoonRow$Reader", name := "and", desc := "(I)LSpoonRow$Expr;" } : Jvm.MethodName)) ∈ lw_tbl := lw_at lw_m6 43 rfl
theorem q1341 : (Jvm.Cond.instanceMethod ({ cls := "SpoonRow$Reader", name := "and", desc := "(I)LSpoonRow$Expr;" } : Jvm.MethodName)) ∈ lw_all := lw_g (lw_at lw_m6 44 rfl) rfl
theorem q1342 : (Jvm.Cond.code ({ cls := "SpoonRow$Reader", name := "and", desc := "(I)LSpoonRow$Expr;" } : Jvm.MethodName) prog_12_method_18_code (3 : Nat) (Option.some (Jvm.ClassFile.FieldType.object "SpoonRow$Expr"))) ∈ lw_all := lw_g (lw_at lw_m6 45 rfl) rfl
theorem q1343 : (Jvm.Cond.methodLink "SpoonRow$Reader" (232 : Nat) ({ cls := "SpoonRow$Reader", name := "not", desc := "(I)LSpoonRow$Expr;" } : Jvm.MethodName)) ∈ lw_all := lw_g (lw_at lw_m6 46 rfl) rfl
theorem q1344 : (Jvm.Cond.privateMethod ({ cls := "SpoonRow$Reader", name := "not", desc := "(I)LSpoonRow$Expr;" } : Jvm.MethodName)) ∈ lw_tbl := lw_at lw_m6 47 rfl
theorem q1345 : (Jvm.Cond.instanceMethod ({ cls := "SpoonRow$Reader", name := "not", desc := "(I)LSpoonRow$Expr;" } : Jvm.MethodName)) ∈ lw_all := lw_g (lw_at lw_m6 48 rfl) rfl
theorem q1346 : (Jvm.Cond.code ({ cls := "SpoonRow$Reader", name := "not", desc := "(I)LSpoonRow$Expr;" } : Jvm.MethodName) prog_12_method_19_code (5 : Nat) (Option.some (Jvm.ClassFile.FieldType.object "SpoonRow$Expr"))) ∈ lw_all := lw_g (lw_at lw_m6 49 rfl) rfl
theorem q1347 : (Jvm.Cond.stringRef "SpoonRow$Reader" (236 : Nat) "not") ∈ lw_tbl := lw_at lw_m6 50 rfl
theorem q1348 : (Jvm.Cond.methodLink "SpoonRow$Reader" (237 : Nat) ({ cls := "SpoonRow$Reader", name := "sum", desc := "(I)LSpoonRow$Expr;" } : Jvm.MethodName)) ∈ lw_all := lw_g (lw_at lw_m6 51 rfl) rfl
theorem q1349 : (Jvm.Cond.privateMethod ({ cls := "SpoonRow$Reader", name := "sum", desc := "(I)LSpoonRow$Expr;" } : Jvm.MethodName)) ∈ lw_tbl := lw_at lw_m6 52 rfl
theorem q1350 : (Jvm.Cond.instanceMethod ({ cls := "SpoonRow$Reader", name := "sum", desc := "(I)LSpoonRow$Expr;" } : Jvm.MethodName)) ∈ lw_all := lw_g (lw_at lw_m6 53 rfl) rfl
theorem q1351 : (Jvm.Cond.code ({ cls := "SpoonRow$Reader", name := "sum", desc := "(I)LSpoonRow$Expr;" } : Jvm.MethodName) prog_12_method_20_code (4 : Nat) (Option.some (Jvm.ClassFile.FieldType.object "SpoonRow$Expr"))) ∈ lw_all := lw_g (lw_at lw_m6 54 rfl) rfl
theorem q1352 : (Jvm.Cond.methodLink "SpoonRow$Reader" (253 : Nat) ({ cls := "SpoonRow$Reader", name := "product", desc := "(I)LSpoonRow$Expr;" } : Jvm.MethodName)) ∈ lw_all := lw_g (lw_at lw_m6 55 rfl) rfl
theorem q1353 : (Jvm.Cond.privateMethod ({ cls := "SpoonRow$Reader", name := "product", desc := "(I)LSpoonRow$Expr;" } : Jvm.MethodName)) ∈ lw_tbl := lw_at lw_m6 56 rfl
theorem q1354 : (Jvm.Cond.instanceMethod ({ cls := "SpoonRow$Reader", name := "product", desc := "(I)LSpoonRow$Expr;" } : Jvm.MethodName)) ∈ lw_all := lw_g (lw_at lw_m6 57 rfl) rfl
theorem q1355 : (Jvm.Cond.code ({ cls := "SpoonRow$Reader", name := "product", desc := "(I)LSpoonRow$Expr;" } : Jvm.MethodName) prog_12_method_21_code (4 : Nat) (Option.some (Jvm.ClassFile.FieldType.object "SpoonRow$Expr"))) ∈ lw_all := lw_g (lw_at lw_m6 58 rfl) rfl
theorem q1356 : (Jvm.Cond.methodLink "SpoonRow$Reader" (260 : Nat) ({ cls := "SpoonRow$Reader", name := "part", desc := "(I)LSpoonRow$Expr;" } : Jvm.MethodName)) ∈ lw_all := lw_g (lw_at lw_m6 59 rfl) rfl
theorem q1357 : (Jvm.Cond.privateMethod ({ cls := "SpoonRow$Reader", name := "part", desc := "(I)LSpoonRow$Expr;" } : Jvm.MethodName)) ∈ lw_tbl := lw_at lw_m6 60 rfl
theorem q1358 : (Jvm.Cond.instanceMethod ({ cls := "SpoonRow$Reader", name := "part", desc := "(I)LSpoonRow$Expr;" } : Jvm.MethodName)) ∈ lw_all := lw_g (lw_at lw_m6 61 rfl) rfl
theorem q1359 : (Jvm.Cond.code ({ cls := "SpoonRow$Reader", name := "part", desc := "(I)LSpoonRow$Expr;" } : Jvm.MethodName) prog_12_method_22_code (3 : Nat) (Option.some (Jvm.ClassFile.FieldType.object "SpoonRow$Expr"))) ∈ lw_all := lw_g (lw_at lw_m6 62 rfl) rfl
theorem q1360 : (Jvm.Cond.classLink "SpoonRow$Reader" (267 : Nat) "SpoonRow$Told") ∈ lw_all := lw_g (lw_at lw_m6 63 rfl) rfl
theorem q1362 : (Jvm.Cond.methodLink "SpoonRow$Reader" (269 : Nat) ({ cls := "SpoonRow$Told", name := "<init>", desc := "(I)V" } : Jvm.MethodName)) ∈ lw_all := lw_g (lw_at lw_m6 65 rfl) rfl
theorem q1373 : (Jvm.Cond.stringRef "SpoonRow$Reader" (270 : Nat) ")") ∈ lw_tbl := lw_at lw_m6 76 rfl
theorem q1374 : (Jvm.Cond.methodLink "SpoonRow$Reader" (193 : Nat) ({ cls := "SpoonRow$Reader", name := "need", desc := "(Ljava/lang/String;)V" } : Jvm.MethodName)) ∈ lw_all := lw_g (lw_at lw_m6 77 rfl) rfl
theorem q1375 : (Jvm.Cond.privateMethod ({ cls := "SpoonRow$Reader", name := "need", desc := "(Ljava/lang/String;)V" } : Jvm.MethodName)) ∈ lw_tbl := lw_at lw_m6 78 rfl
theorem q1376 : (Jvm.Cond.instanceMethod ({ cls := "SpoonRow$Reader", name := "need", desc := "(Ljava/lang/String;)V" } : Jvm.MethodName)) ∈ lw_all := lw_g (lw_at lw_m6 79 rfl) rfl
theorem q1377 : (Jvm.Cond.code ({ cls := "SpoonRow$Reader", name := "need", desc := "(Ljava/lang/String;)V" } : Jvm.MethodName) prog_12_method_9_code (2 : Nat) (Option.none : Option Jvm.ClassFile.FieldType)) ∈ lw_all := lw_g (lw_at lw_m6 80 rfl) rfl
theorem q1378 : (Jvm.Cond.methodLink "SpoonRow$Reader" (272 : Nat) ({ cls := "SpoonRow$Reader", name := "valueOf", desc := "(Ljava/lang/String;)LSpoonRow$Value;" } : Jvm.MethodName)) ∈ lw_all := lw_g (lw_at lw_m6 81 rfl) rfl
theorem q1379 : (Jvm.Cond.static ({ cls := "SpoonRow$Reader", name := "valueOf", desc := "(Ljava/lang/String;)LSpoonRow$Value;" } : Jvm.MethodName)) ∈ lw_all := lw_g (lw_at lw_m6 82 rfl) rfl
theorem q1380 : (Jvm.Cond.code ({ cls := "SpoonRow$Reader", name := "valueOf", desc := "(Ljava/lang/String;)LSpoonRow$Value;" } : Jvm.MethodName) prog_12_method_23_code (1 : Nat) (Option.some (Jvm.ClassFile.FieldType.object "SpoonRow$Value"))) ∈ lw_all := lw_g (lw_at lw_m6 83 rfl) rfl
theorem q1381 : (Jvm.Cond.stringRef "SpoonRow$Reader" (280 : Nat) "light") ∈ lw_tbl := lw_at lw_m6 84 rfl
theorem q1382 : (Jvm.Cond.fieldLink "SpoonRow$Reader" (282 : Nat) "SpoonRow$Value" "LIGHT" "LSpoonRow$Value;") ∈ lw_all := lw_g (lw_at lw_m6 85 rfl) rfl
theorem q1383 : (Jvm.Cond.stringRef "SpoonRow$Reader" (288 : Nat) "off") ∈ lw_tbl := lw_at lw_m6 86 rfl
theorem q1384 : (Jvm.Cond.fieldLink "SpoonRow$Reader" (290 : Nat) "SpoonRow$Value" "OFF" "LSpoonRow$Value;") ∈ lw_all := lw_g (lw_at lw_m6 87 rfl) rfl
theorem q1385 : (Jvm.Cond.stringRef "SpoonRow$Reader" (293 : Nat) "turns") ∈ lw_tbl := lw_at lw_m6 88 rfl
theorem q1386 : (Jvm.Cond.fieldLink "SpoonRow$Reader" (295 : Nat) "SpoonRow$Value" "TURNS" "LSpoonRow$Value;") ∈ lw_all := lw_g (lw_at lw_m6 89 rfl) rfl
theorem q1387 : (Jvm.Cond.stringRef "SpoonRow$Reader" (298 : Nat) "hour") ∈ lw_tbl := lw_at lw_m6 90 rfl
theorem q1388 : (Jvm.Cond.fieldLink "SpoonRow$Reader" (300 : Nat) "SpoonRow$Value" "HOUR" "LSpoonRow$Value;") ∈ lw_all := lw_g (lw_at lw_m6 91 rfl) rfl
theorem q1389 : (Jvm.Cond.stringRef "SpoonRow$Reader" (303 : Nat) "snore") ∈ lw_tbl := lw_at lw_m6 92 rfl
theorem q1390 : (Jvm.Cond.fieldLink "SpoonRow$Reader" (305 : Nat) "SpoonRow$Value" "SNORE" "LSpoonRow$Value;") ∈ lw_all := lw_g (lw_at lw_m6 93 rfl) rfl
theorem q1391 : (Jvm.Cond.stringRef "SpoonRow$Reader" (308 : Nat) "edge") ∈ lw_tbl := lw_at lw_m6 94 rfl
theorem q1392 : (Jvm.Cond.fieldLink "SpoonRow$Reader" (310 : Nat) "SpoonRow$Value" "EDGE" "LSpoonRow$Value;") ∈ lw_all := lw_g (lw_at lw_m6 95 rfl) rfl
theorem q1393 : (Jvm.Cond.stringRef "SpoonRow$Reader" (313 : Nat) "woken") ∈ lw_tbl := lw_at lw_m6 96 rfl
theorem q1394 : (Jvm.Cond.fieldLink "SpoonRow$Reader" (315 : Nat) "SpoonRow$Value" "WOKEN" "LSpoonRow$Value;") ∈ lw_all := lw_g (lw_at lw_m6 97 rfl) rfl
theorem q1395 : (Jvm.Cond.classLink "SpoonRow$Reader" (275 : Nat) "SpoonRow$Seen") ∈ lw_all := lw_g (lw_at lw_m6 98 rfl) rfl
theorem q1397 : (Jvm.Cond.methodLink "SpoonRow$Reader" (277 : Nat) ({ cls := "SpoonRow$Seen", name := "<init>", desc := "(LSpoonRow$Value;)V" } : Jvm.MethodName)) ∈ lw_all := lw_g (lw_at lw_m6 100 rfl) rfl
theorem q1405 : (Jvm.Cond.stringRef "SpoonRow$Reader" (263 : Nat) "*") ∈ lw_tbl := lw_at lw_m6 108 rfl
theorem q1406 : (Jvm.Cond.stringRef "SpoonRow$Reader" (265 : Nat) "/") ∈ lw_tbl := lw_at lw_m6 109 rfl
theorem q1407 : (Jvm.Cond.methodLink "SpoonRow$Reader" (244 : Nat) ({ cls := "java/lang/String", name := "charAt", desc := "(I)C" } : Jvm.MethodName)) ∈ lw_all := lw_g (lw_at lw_m6 110 rfl) rfl
theorem q1422 : (Jvm.Cond.classLink "SpoonRow$Reader" (227 : Nat) "SpoonRow$Both") ∈ lw_all := lw_g (lw_at lw_m6 125 rfl) rfl
theorem q1424 : (Jvm.Cond.methodLink "SpoonRow$Reader" (229 : Nat) ({ cls := "SpoonRow$Both", name := "<init>", desc := "(CLSpoonRow$Expr;LSpoonRow$Expr;)V" } : Jvm.MethodName)) ∈ lw_all := lw_g (lw_at lw_m6 127 rfl) rfl
theorem q1438 : (Jvm.Cond.stringRef "SpoonRow$Reader" (256 : Nat) "+") ∈ lw_tbl := lw_at lw_m6 141 rfl
theorem q1439 : (Jvm.Cond.stringRef "SpoonRow$Reader" (258 : Nat) "-") ∈ lw_tbl := lw_at lw_m6 142 rfl
theorem q1440 : (Jvm.Cond.stringRef "SpoonRow$Reader" (240 : Nat) "<") ∈ lw_tbl := lw_at lw_m6 143 rfl
theorem q1441 : (Jvm.Cond.stringRef "SpoonRow$Reader" (242 : Nat) "=") ∈ lw_tbl := lw_at lw_m6 144 rfl
theorem q1442 : (Jvm.Cond.classLink "SpoonRow$Reader" (248 : Nat) "SpoonRow$Not") ∈ lw_all := lw_g (lw_at lw_m6 145 rfl) rfl
theorem q1444 : (Jvm.Cond.methodLink "SpoonRow$Reader" (250 : Nat) ({ cls := "SpoonRow$Not", name := "<init>", desc := "(LSpoonRow$Expr;)V" } : Jvm.MethodName)) ∈ lw_all := lw_g (lw_at lw_m6 147 rfl) rfl
theorem q1452 : (Jvm.Cond.stringRef "SpoonRow$Reader" (235 : Nat) "and") ∈ lw_tbl := lw_at lw_m6 155 rfl
theorem q1453 : (Jvm.Cond.stringRef "SpoonRow$Reader" (225 : Nat) "or") ∈ lw_tbl := lw_at lw_m6 156 rfl
theorem q1454 : (Jvm.Cond.stringRef "SpoonRow$Reader" (157 : Nat) "bolster") ∈ lw_tbl := lw_at lw_m6 157 rfl
theorem q1455 : (Jvm.Cond.methodLink "SpoonRow$Reader" (159 : Nat) ({ cls := "SpoonRow$Reader", name := "numberHere", desc := "(II)I" } : Jvm.MethodName)) ∈ lw_all := lw_g (lw_at lw_m6 158 rfl) rfl
theorem q1456 : (Jvm.Cond.privateMethod ({ cls := "SpoonRow$Reader", name := "numberHere", desc := "(II)I" } : Jvm.MethodName)) ∈ lw_tbl := lw_at lw_m6 159 rfl
theorem q1457 : (Jvm.Cond.instanceMethod ({ cls := "SpoonRow$Reader", name := "numberHere", desc := "(II)I" } : Jvm.MethodName)) ∈ lw_all := lw_g (lw_at lw_m6 160 rfl) rfl
theorem q1458 : (Jvm.Cond.code ({ cls := "SpoonRow$Reader", name := "numberHere", desc := "(II)I" } : Jvm.MethodName) prog_12_method_12_code (3 : Nat) (Option.some Jvm.ClassFile.FieldType.int)) ∈ lw_all := lw_g (lw_at lw_m6 161 rfl) rfl
theorem q1459 : (Jvm.Cond.stringRef "SpoonRow$Reader" (165 : Nat) "never") ∈ lw_tbl := lw_at lw_m6 162 rfl
theorem q1460 : (Jvm.Cond.methodLink "SpoonRow$Reader" (170 : Nat) ({ cls := "SpoonRow$Reader", name := "never", desc := "(LSpoonRow$Bed;)V" } : Jvm.MethodName)) ∈ lw_all := lw_g (lw_at lw_m6 163 rfl) rfl
theorem q1461 : (Jvm.Cond.privateMethod ({ cls := "SpoonRow$Reader", name := "never", desc := "(LSpoonRow$Bed;)V" } : Jvm.MethodName)) ∈ lw_tbl := lw_at lw_m6 164 rfl
theorem q1462 : (Jvm.Cond.instanceMethod ({ cls := "SpoonRow$Reader", name := "never", desc := "(LSpoonRow$Bed;)V" } : Jvm.MethodName)) ∈ lw_all := lw_g (lw_at lw_m6 165 rfl) rfl
theorem q1463 : (Jvm.Cond.code ({ cls := "SpoonRow$Reader", name := "never", desc := "(LSpoonRow$Bed;)V" } : Jvm.MethodName) prog_12_method_15_code (4 : Nat) (Option.none : Option Jvm.ClassFile.FieldType)) ∈ lw_all := lw_g (lw_at lw_m6 166 rfl) rfl
theorem q1464 : (Jvm.Cond.methodLink "SpoonRow$Reader" (185 : Nat) ({ cls := "java/util/ArrayList", name := "size", desc := "()I" } : Jvm.MethodName)) ∈ lw_all := lw_g (lw_at lw_m6 167 rfl) rfl
theorem q1465 : (Jvm.Cond.methodLink "SpoonRow$Reader" (197 : Nat) ({ cls := "SpoonRow$Reader", name := "amongHere", desc := "(I)I" } : Jvm.MethodName)) ∈ lw_all := lw_g (lw_at lw_m6 168 rfl) rfl
theorem q1466 : (Jvm.Cond.privateMethod ({ cls := "SpoonRow$Reader", name := "amongHere", desc := "(I)I" } : Jvm.MethodName)) ∈ lw_tbl := lw_at lw_m6 169 rfl
theorem q1467 : (Jvm.Cond.instanceMethod ({ cls := "SpoonRow$Reader", name := "amongHere", desc := "(I)I" } : Jvm.MethodName)) ∈ lw_all := lw_g (lw_at lw_m6 170 rfl) rfl
theorem q1468 : (Jvm.Cond.code ({ cls := "SpoonRow$Reader", name := "amongHere", desc := "(I)I" } : Jvm.MethodName) prog_12_method_13_code (2 : Nat) (Option.some Jvm.ClassFile.FieldType.int)) ∈ lw_all := lw_g (lw_at lw_m6 171 rfl) rfl
theorem q1469 : (Jvm.Cond.stringRef "SpoonRow$Reader" (173 : Nat) "sleeper") ∈ lw_tbl := lw_at lw_m6 172 rfl
theorem q1470 : (Jvm.Cond.stringRef "SpoonRow$Reader" (175 : Nat) "child") ∈ lw_tbl := lw_at lw_m6 173 rfl
theorem q1471 : (Jvm.Cond.stringRef "SpoonRow$Reader" (177 : Nat) "snorer") ∈ lw_tbl := lw_at lw_m6 174 rfl
theorem q1472 : (Jvm.Cond.stringRef "SpoonRow$Reader" (179 : Nat) "dog") ∈ lw_tbl := lw_at lw_m6 175 rfl
theorem q1473 : (Jvm.Cond.methodLink "SpoonRow$Reader" (189 : Nat) ({ cls := "SpoonRow$Reader", name := "sleeper", desc := "(LSpoonRow$Bed;)V" } : Jvm.MethodName)) ∈ lw_all := lw_g (lw_at lw_m6 176 rfl) rfl
theorem q1474 : (Jvm.Cond.privateMethod ({ cls := "SpoonRow$Reader", name := "sleeper", desc := "(LSpoonRow$Bed;)V" } : Jvm.MethodName)) ∈ lw_tbl := lw_at lw_m6 177 rfl
theorem q1475 : (Jvm.Cond.instanceMethod ({ cls := "SpoonRow$Reader", name := "sleeper", desc := "(LSpoonRow$Bed;)V" } : Jvm.MethodName)) ∈ lw_all := lw_g (lw_at lw_m6 178 rfl) rfl
theorem q1476 : (Jvm.Cond.code ({ cls := "SpoonRow$Reader", name := "sleeper", desc := "(LSpoonRow$Bed;)V" } : Jvm.MethodName) prog_12_method_16_code (9 : Nat) (Option.none : Option Jvm.ClassFile.FieldType)) ∈ lw_all := lw_g (lw_at lw_m6 179 rfl) rfl
theorem q1477 : (Jvm.Cond.classLink "SpoonRow$Reader" (203 : Nat) "SpoonRow$Dog") ∈ lw_all := lw_g (lw_at lw_m6 180 rfl) rfl
theorem q1479 : (Jvm.Cond.methodLink "SpoonRow$Reader" (205 : Nat) ({ cls := "SpoonRow$Dog", name := "<init>", desc := "(I)V" } : Jvm.MethodName)) ∈ lw_all := lw_g (lw_at lw_m6 182 rfl) rfl
theorem q1515 : (Jvm.Cond.methodLink "SpoonRow$Reader" (206 : Nat) ({ cls := "java/util/ArrayList", name := "add", desc := "(Ljava/lang/Object;)Z" } : Jvm.MethodName)) ∈ lw_all := lw_g (lw_at lw_m6 218 rfl) rfl
theorem q1516 : (Jvm.Cond.classLink "SpoonRow$Reader" (209 : Nat) "SpoonRow$Child") ∈ lw_all := lw_g (lw_at lw_m6 219 rfl) rfl
theorem q1518 : (Jvm.Cond.methodLink "SpoonRow$Reader" (211 : Nat) ({ cls := "SpoonRow$Child", name := "<init>", desc := "(IIIIII)V" } : Jvm.MethodName)) ∈ lw_all := lw_g (lw_at lw_m6 221 rfl) rfl
theorem q1525 : (Jvm.Cond.classLink "SpoonRow$Reader" (214 : Nat) "SpoonRow$Snorer") ∈ lw_all := lw_g (lw_at lw_m6 228 rfl) rfl
theorem q1527 : (Jvm.Cond.methodLink "SpoonRow$Reader" (216 : Nat) ({ cls := "SpoonRow$Snorer", name := "<init>", desc := "(IIIIII)V" } : Jvm.MethodName)) ∈ lw_all := lw_g (lw_at lw_m6 230 rfl) rfl
theorem q1537 : (Jvm.Cond.classLink "SpoonRow$Reader" (217 : Nat) "SpoonRow$Sleeper") ∈ lw_all := lw_g (lw_at lw_m7 0 rfl) rfl
theorem q1539 : (Jvm.Cond.methodLink "SpoonRow$Reader" (219 : Nat) ({ cls := "SpoonRow$Sleeper", name := "<init>", desc := "(IIIIII)V" } : Jvm.MethodName)) ∈ lw_all := lw_g (lw_at lw_m7 2 rfl) rfl
theorem q1547 : (Jvm.Cond.stringRef "SpoonRow$Reader" (191 : Nat) ";") ∈ lw_tbl := lw_at lw_m7 10 rfl
theorem q2412 : (Jvm.Cond.castable "SpoonRow$Reader" "java/lang/Object") ∈ lw_tbl := lw_at lw_m10 155 rfl
theorem q167 : (Jvm.Cond.arrayOver (Jvm.ClassFile.FieldType.object "java/lang/Object")) ∈ lw_tbl := lw_at lw_m1 70 rfl
theorem q242 : (Jvm.Cond.arrayClass Jvm.ClassFile.FieldType.byte) ∈ lw_all := lw_g (lw_at lw_m1 145 rfl) rfl
theorem q509 : (Jvm.Cond.arrayOver (Jvm.ClassFile.FieldType.object "SpoonRow$Value")) ∈ lw_tbl := lw_at lw_m2 172 rfl
theorem q516 : (Jvm.Cond.arrayClass Jvm.ClassFile.FieldType.int) ∈ lw_all := lw_g (lw_at lw_m2 179 rfl) rfl
theorem q1277 : (Jvm.Cond.arrayClass Jvm.ClassFile.FieldType.boolean) ∈ lw_all := lw_g (lw_at lw_m5 220 rfl) rfl
theorem q1759 : (Jvm.Cond.arrayOver (Jvm.ClassFile.FieldType.object "java/lang/String")) ∈ lw_tbl := lw_at lw_m7 222 rfl
theorem q2382 : (Jvm.Cond.arrayClass Jvm.ClassFile.FieldType.long) ∈ lw_all := lw_g (lw_at lw_m10 125 rfl) rfl
