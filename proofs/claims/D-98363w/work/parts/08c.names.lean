set_option maxRecDepth 100000
/-! java/util/AbstractCollection: codes (from claim/names) -/
abbrev cJ0_init : ByteArray := prog_44_method_1_code
def yJ0_init : MethodName := ⟨RJ0, "<init>", "()V"⟩
theorem dJ0_init_0 : decode cJ0_init 0 = .ok (.aload_n 0, 1) := by decide +kernel
theorem dJ0_init_1 : decode cJ0_init 1 = .ok (.invokespecial 1, 3) := by decide +kernel
theorem dJ0_init_4 : decode cJ0_init 4 = .ok (.return_, 1) := by decide +kernel
/-! java/util/AbstractList: codes (from claim/names) -/
abbrev cJ1_init : ByteArray := prog_45_method_1_code
def yJ1_init : MethodName := ⟨RJ1, "<init>", "()V"⟩
def dkwJ1_init_0 : List UInt8 := [42, 183, 0, 1, 42, 3, 181, 0, 7, 177]
abbrev dktJ1_init_0 : List UInt8 := dkwJ1_init_0 ++ []
theorem dksJ1_init_0 : cJ1_init.data.toList.drop 0 = dktJ1_init_0 := by decide +kernel
theorem dJ1_init_0 : decode cJ1_init 0 = .ok (.aload_n 0, 1) := dk_42 (dk_at dksJ1_init_0 0 rfl rfl)
theorem dJ1_init_1 : decode cJ1_init 1 = .ok (.invokespecial 1, 3) := dk_183 0 1 (dk_at dksJ1_init_0 1 rfl rfl)
theorem dJ1_init_4 : decode cJ1_init 4 = .ok (.aload_n 0, 1) := dk_42 (dk_at dksJ1_init_0 4 rfl rfl)
theorem dJ1_init_5 : decode cJ1_init 5 = .ok (.iconst 0, 1) := dk_3 (dk_at dksJ1_init_0 5 rfl rfl)
theorem dJ1_init_6 : decode cJ1_init 6 = .ok (.putfield 7, 3) := dk_181 0 7 (dk_at dksJ1_init_0 6 rfl rfl)
theorem dJ1_init_9 : decode cJ1_init 9 = .ok (.return_, 1) := dk_177 (dk_at dksJ1_init_0 9 rfl rfl)
/-! jdk/internal/util/ArraysSupport: codes (from claim/names) -/
abbrev cJ11_newLength : ByteArray := prog_54_method_27_code
def yJ11_newLength : MethodName := ⟨RJ11, "newLength", "(III)I"⟩
def dkwJ11_newLength_1 : List UInt8 := [184, 0, 201, 172]
abbrev dktJ11_newLength_1 : List UInt8 := dkwJ11_newLength_1 ++ []
def dkwJ11_newLength_0 : List UInt8 := [26, 27, 28, 184, 0, 194, 96, 62, 3, 29, 162, 0, 11, 29, 18, 200, 163, 0, 5, 29, 172, 26, 27]
abbrev dktJ11_newLength_0 : List UInt8 := dkwJ11_newLength_0 ++ dktJ11_newLength_1
theorem dksJ11_newLength_0 : cJ11_newLength.data.toList.drop 0 = dktJ11_newLength_0 := by decide +kernel
theorem dksJ11_newLength_1 : cJ11_newLength.data.toList.drop 23 = dktJ11_newLength_1 := dk_seg dksJ11_newLength_0 23 rfl rfl
theorem dJ11_newLength_0 : decode cJ11_newLength 0 = .ok (.iload_n 0, 1) := dk_26 (dk_at dksJ11_newLength_0 0 rfl rfl)
theorem dJ11_newLength_1 : decode cJ11_newLength 1 = .ok (.iload_n 1, 1) := dk_27 (dk_at dksJ11_newLength_0 1 rfl rfl)
theorem dJ11_newLength_2 : decode cJ11_newLength 2 = .ok (.iload_n 2, 1) := dk_28 (dk_at dksJ11_newLength_0 2 rfl rfl)
theorem dJ11_newLength_3 : decode cJ11_newLength 3 = .ok (.invokestatic 194, 3) := dk_184 0 194 (dk_at dksJ11_newLength_0 3 rfl rfl)
theorem dJ11_newLength_6 : decode cJ11_newLength 6 = .ok (.iadd, 1) := dk_96 (dk_at dksJ11_newLength_0 6 rfl rfl)
theorem dJ11_newLength_7 : decode cJ11_newLength 7 = .ok (.istore_n 3, 1) := dk_62 (dk_at dksJ11_newLength_0 7 rfl rfl)
theorem dJ11_newLength_8 : decode cJ11_newLength 8 = .ok (.iconst 0, 1) := dk_3 (dk_at dksJ11_newLength_0 8 rfl rfl)
theorem dJ11_newLength_9 : decode cJ11_newLength 9 = .ok (.iload_n 3, 1) := dk_29 (dk_at dksJ11_newLength_0 9 rfl rfl)
theorem dJ11_newLength_10 : decode cJ11_newLength 10 = .ok (.if_icmp .ge 11, 3) := dk_162 0 11 (dk_at dksJ11_newLength_0 10 rfl rfl)
theorem dJ11_newLength_13 : decode cJ11_newLength 13 = .ok (.iload_n 3, 1) := dk_29 (dk_at dksJ11_newLength_0 13 rfl rfl)
theorem dJ11_newLength_14 : decode cJ11_newLength 14 = .ok (.ldc 200, 2) := dk_18 200 (dk_at dksJ11_newLength_0 14 rfl rfl)
theorem dJ11_newLength_16 : decode cJ11_newLength 16 = .ok (.if_icmp .gt 5, 3) := dk_163 0 5 (dk_at dksJ11_newLength_0 16 rfl rfl)
theorem dJ11_newLength_19 : decode cJ11_newLength 19 = .ok (.iload_n 3, 1) := dk_29 (dk_at dksJ11_newLength_0 19 rfl rfl)
theorem dJ11_newLength_20 : decode cJ11_newLength 20 = .ok (.ireturn, 1) := dk_172 (dk_at dksJ11_newLength_0 20 rfl rfl)
theorem dJ11_newLength_21 : decode cJ11_newLength 21 = .ok (.iload_n 0, 1) := dk_26 (dk_at dksJ11_newLength_0 21 rfl rfl)
theorem dJ11_newLength_22 : decode cJ11_newLength 22 = .ok (.iload_n 1, 1) := dk_27 (dk_at dksJ11_newLength_0 22 rfl rfl)
theorem dJ11_newLength_23 : decode cJ11_newLength 23 = .ok (.invokestatic 201, 3) := dk_184 0 201 (dk_at dksJ11_newLength_1 0 rfl rfl)
theorem dJ11_newLength_26 : decode cJ11_newLength 26 = .ok (.ireturn, 1) := dk_172 (dk_at dksJ11_newLength_1 3 rfl rfl)
abbrev cJ11_hugeLength : ByteArray := prog_54_method_28_code
def yJ11_hugeLength : MethodName := ⟨RJ11, "hugeLength", "(II)I"⟩
def dkwJ11_hugeLength_2 : List UInt8 := [191, 28, 18, 200, 163, 0, 6, 18, 200, 172, 28, 172]
abbrev dktJ11_hugeLength_2 : List UInt8 := dkwJ11_hugeLength_2 ++ []
def dkwJ11_hugeLength_1 : List UInt8 := [26, 182, 0, 98, 18, 208, 182, 0, 94, 27, 182, 0, 98, 18, 210, 182, 0, 94, 182, 0, 101, 183, 0, 212]
abbrev dktJ11_hugeLength_1 : List UInt8 := dkwJ11_hugeLength_1 ++ dktJ11_hugeLength_2
def dkwJ11_hugeLength_0 : List UInt8 := [26, 27, 96, 61, 28, 156, 0, 44, 187, 0, 204, 89, 187, 0, 89, 89, 183, 0, 91, 18, 206, 182, 0, 94]
abbrev dktJ11_hugeLength_0 : List UInt8 := dkwJ11_hugeLength_0 ++ dktJ11_hugeLength_1
theorem dksJ11_hugeLength_0 : cJ11_hugeLength.data.toList.drop 0 = dktJ11_hugeLength_0 := by decide +kernel
theorem dksJ11_hugeLength_1 : cJ11_hugeLength.data.toList.drop 24 = dktJ11_hugeLength_1 := dk_seg dksJ11_hugeLength_0 24 rfl rfl
theorem dksJ11_hugeLength_2 : cJ11_hugeLength.data.toList.drop 48 = dktJ11_hugeLength_2 := dk_seg dksJ11_hugeLength_1 24 rfl rfl
theorem dJ11_hugeLength_0 : decode cJ11_hugeLength 0 = .ok (.iload_n 0, 1) := dk_26 (dk_at dksJ11_hugeLength_0 0 rfl rfl)
theorem dJ11_hugeLength_1 : decode cJ11_hugeLength 1 = .ok (.iload_n 1, 1) := dk_27 (dk_at dksJ11_hugeLength_0 1 rfl rfl)
theorem dJ11_hugeLength_2 : decode cJ11_hugeLength 2 = .ok (.iadd, 1) := dk_96 (dk_at dksJ11_hugeLength_0 2 rfl rfl)
theorem dJ11_hugeLength_3 : decode cJ11_hugeLength 3 = .ok (.istore_n 2, 1) := dk_61 (dk_at dksJ11_hugeLength_0 3 rfl rfl)
theorem dJ11_hugeLength_4 : decode cJ11_hugeLength 4 = .ok (.iload_n 2, 1) := dk_28 (dk_at dksJ11_hugeLength_0 4 rfl rfl)
theorem dJ11_hugeLength_5 : decode cJ11_hugeLength 5 = .ok (.ifCond .ge 44, 3) := dk_156 0 44 (dk_at dksJ11_hugeLength_0 5 rfl rfl)
theorem dJ11_hugeLength_8 : decode cJ11_hugeLength 8 = .ok (.new 204, 3) := dk_187 0 204 (dk_at dksJ11_hugeLength_0 8 rfl rfl)
theorem dJ11_hugeLength_11 : decode cJ11_hugeLength 11 = .ok (.dup, 1) := dk_89 (dk_at dksJ11_hugeLength_0 11 rfl rfl)
theorem dJ11_hugeLength_12 : decode cJ11_hugeLength 12 = .ok (.new 89, 3) := dk_187 0 89 (dk_at dksJ11_hugeLength_0 12 rfl rfl)
theorem dJ11_hugeLength_15 : decode cJ11_hugeLength 15 = .ok (.dup, 1) := dk_89 (dk_at dksJ11_hugeLength_0 15 rfl rfl)
theorem dJ11_hugeLength_16 : decode cJ11_hugeLength 16 = .ok (.invokespecial 91, 3) := dk_183 0 91 (dk_at dksJ11_hugeLength_0 16 rfl rfl)
theorem dJ11_hugeLength_19 : decode cJ11_hugeLength 19 = .ok (.ldc 206, 2) := dk_18 206 (dk_at dksJ11_hugeLength_0 19 rfl rfl)
theorem dJ11_hugeLength_21 : decode cJ11_hugeLength 21 = .ok (.invokevirtual 94, 3) := dk_182 0 94 (dk_at dksJ11_hugeLength_0 21 rfl rfl)
theorem dJ11_hugeLength_24 : decode cJ11_hugeLength 24 = .ok (.iload_n 0, 1) := dk_26 (dk_at dksJ11_hugeLength_1 0 rfl rfl)
theorem dJ11_hugeLength_25 : decode cJ11_hugeLength 25 = .ok (.invokevirtual 98, 3) := dk_182 0 98 (dk_at dksJ11_hugeLength_1 1 rfl rfl)
theorem dJ11_hugeLength_28 : decode cJ11_hugeLength 28 = .ok (.ldc 208, 2) := dk_18 208 (dk_at dksJ11_hugeLength_1 4 rfl rfl)
theorem dJ11_hugeLength_30 : decode cJ11_hugeLength 30 = .ok (.invokevirtual 94, 3) := dk_182 0 94 (dk_at dksJ11_hugeLength_1 6 rfl rfl)
theorem dJ11_hugeLength_33 : decode cJ11_hugeLength 33 = .ok (.iload_n 1, 1) := dk_27 (dk_at dksJ11_hugeLength_1 9 rfl rfl)
theorem dJ11_hugeLength_34 : decode cJ11_hugeLength 34 = .ok (.invokevirtual 98, 3) := dk_182 0 98 (dk_at dksJ11_hugeLength_1 10 rfl rfl)
theorem dJ11_hugeLength_37 : decode cJ11_hugeLength 37 = .ok (.ldc 210, 2) := dk_18 210 (dk_at dksJ11_hugeLength_1 13 rfl rfl)
theorem dJ11_hugeLength_39 : decode cJ11_hugeLength 39 = .ok (.invokevirtual 94, 3) := dk_182 0 94 (dk_at dksJ11_hugeLength_1 15 rfl rfl)
theorem dJ11_hugeLength_42 : decode cJ11_hugeLength 42 = .ok (.invokevirtual 101, 3) := dk_182 0 101 (dk_at dksJ11_hugeLength_1 18 rfl rfl)
theorem dJ11_hugeLength_45 : decode cJ11_hugeLength 45 = .ok (.invokespecial 212, 3) := dk_183 0 212 (dk_at dksJ11_hugeLength_1 21 rfl rfl)
theorem dJ11_hugeLength_48 : decode cJ11_hugeLength 48 = .ok (.athrow, 1) := dk_191 (dk_at dksJ11_hugeLength_2 0 rfl rfl)
theorem dJ11_hugeLength_49 : decode cJ11_hugeLength 49 = .ok (.iload_n 2, 1) := dk_28 (dk_at dksJ11_hugeLength_2 1 rfl rfl)
theorem dJ11_hugeLength_50 : decode cJ11_hugeLength 50 = .ok (.ldc 200, 2) := dk_18 200 (dk_at dksJ11_hugeLength_2 2 rfl rfl)
theorem dJ11_hugeLength_52 : decode cJ11_hugeLength 52 = .ok (.if_icmp .gt 6, 3) := dk_163 0 6 (dk_at dksJ11_hugeLength_2 4 rfl rfl)
theorem dJ11_hugeLength_55 : decode cJ11_hugeLength 55 = .ok (.ldc 200, 2) := dk_18 200 (dk_at dksJ11_hugeLength_2 7 rfl rfl)
theorem dJ11_hugeLength_57 : decode cJ11_hugeLength 57 = .ok (.ireturn, 1) := dk_172 (dk_at dksJ11_hugeLength_2 9 rfl rfl)
theorem dJ11_hugeLength_58 : decode cJ11_hugeLength 58 = .ok (.iload_n 2, 1) := dk_28 (dk_at dksJ11_hugeLength_2 10 rfl rfl)
theorem dJ11_hugeLength_59 : decode cJ11_hugeLength 59 = .ok (.ireturn, 1) := dk_172 (dk_at dksJ11_hugeLength_2 11 rfl rfl)
/-! java/lang/Math: codes (from claim/names) -/
abbrev cJ12_max : ByteArray := prog_33_method_65_code
def yJ12_max : MethodName := ⟨RJ12, "max", "(II)I"⟩
def dkwJ12_max_0 : List UInt8 := [26, 27, 161, 0, 7, 26, 167, 0, 4, 27, 172]
abbrev dktJ12_max_0 : List UInt8 := dkwJ12_max_0 ++ []
theorem dksJ12_max_0 : cJ12_max.data.toList.drop 0 = dktJ12_max_0 := by decide +kernel
theorem dJ12_max_0 : decode cJ12_max 0 = .ok (.iload_n 0, 1) := dk_26 (dk_at dksJ12_max_0 0 rfl rfl)
theorem dJ12_max_1 : decode cJ12_max 1 = .ok (.iload_n 1, 1) := dk_27 (dk_at dksJ12_max_0 1 rfl rfl)
theorem dJ12_max_2 : decode cJ12_max 2 = .ok (.if_icmp .lt 7, 3) := dk_161 0 7 (dk_at dksJ12_max_0 2 rfl rfl)
theorem dJ12_max_5 : decode cJ12_max 5 = .ok (.iload_n 0, 1) := dk_26 (dk_at dksJ12_max_0 5 rfl rfl)
theorem dJ12_max_6 : decode cJ12_max 6 = .ok (.goto 4, 3) := dk_167 0 4 (dk_at dksJ12_max_0 6 rfl rfl)
theorem dJ12_max_9 : decode cJ12_max 9 = .ok (.iload_n 1, 1) := dk_27 (dk_at dksJ12_max_0 9 rfl rfl)
theorem dJ12_max_10 : decode cJ12_max 10 = .ok (.ireturn, 1) := dk_172 (dk_at dksJ12_max_0 10 rfl rfl)
abbrev cJ12_min : ByteArray := prog_33_method_69_code
def yJ12_min : MethodName := ⟨RJ12, "min", "(II)I"⟩
def dkwJ12_min_0 : List UInt8 := [26, 27, 163, 0, 7, 26, 167, 0, 4, 27, 172]
abbrev dktJ12_min_0 : List UInt8 := dkwJ12_min_0 ++ []
theorem dksJ12_min_0 : cJ12_min.data.toList.drop 0 = dktJ12_min_0 := by decide +kernel
theorem dJ12_min_0 : decode cJ12_min 0 = .ok (.iload_n 0, 1) := dk_26 (dk_at dksJ12_min_0 0 rfl rfl)
theorem dJ12_min_1 : decode cJ12_min 1 = .ok (.iload_n 1, 1) := dk_27 (dk_at dksJ12_min_0 1 rfl rfl)
theorem dJ12_min_2 : decode cJ12_min 2 = .ok (.if_icmp .gt 7, 3) := dk_163 0 7 (dk_at dksJ12_min_0 2 rfl rfl)
theorem dJ12_min_5 : decode cJ12_min 5 = .ok (.iload_n 0, 1) := dk_26 (dk_at dksJ12_min_0 5 rfl rfl)
theorem dJ12_min_6 : decode cJ12_min 6 = .ok (.goto 4, 3) := dk_167 0 4 (dk_at dksJ12_min_0 6 rfl rfl)
theorem dJ12_min_9 : decode cJ12_min 9 = .ok (.iload_n 1, 1) := dk_27 (dk_at dksJ12_min_0 9 rfl rfl)
theorem dJ12_min_10 : decode cJ12_min 10 = .ok (.ireturn, 1) := dk_172 (dk_at dksJ12_min_0 10 rfl rfl)
abbrev cJ12_abs : ByteArray := prog_33_method_59_code
def yJ12_abs : MethodName := ⟨RJ12, "abs", "(I)I"⟩
def dkwJ12_abs_0 : List UInt8 := [26, 156, 0, 8, 26, 116, 167, 0, 4, 26, 172]
abbrev dktJ12_abs_0 : List UInt8 := dkwJ12_abs_0 ++ []
theorem dksJ12_abs_0 : cJ12_abs.data.toList.drop 0 = dktJ12_abs_0 := by decide +kernel
theorem dJ12_abs_0 : decode cJ12_abs 0 = .ok (.iload_n 0, 1) := dk_26 (dk_at dksJ12_abs_0 0 rfl rfl)
theorem dJ12_abs_1 : decode cJ12_abs 1 = .ok (.ifCond .ge 8, 3) := dk_156 0 8 (dk_at dksJ12_abs_0 1 rfl rfl)
theorem dJ12_abs_4 : decode cJ12_abs 4 = .ok (.iload_n 0, 1) := dk_26 (dk_at dksJ12_abs_0 4 rfl rfl)
theorem dJ12_abs_5 : decode cJ12_abs 5 = .ok (.ineg, 1) := dk_116 (dk_at dksJ12_abs_0 5 rfl rfl)
theorem dJ12_abs_6 : decode cJ12_abs 6 = .ok (.goto 4, 3) := dk_167 0 4 (dk_at dksJ12_abs_0 6 rfl rfl)
theorem dJ12_abs_9 : decode cJ12_abs 9 = .ok (.iload_n 0, 1) := dk_26 (dk_at dksJ12_abs_0 9 rfl rfl)
theorem dJ12_abs_10 : decode cJ12_abs 10 = .ok (.ireturn, 1) := dk_172 (dk_at dksJ12_abs_0 10 rfl rfl)
/-! java/util/Arrays: codes (from claim/names) -/
abbrev cJ13_copyOf : ByteArray := prog_47_method_121_code
def yJ13_copyOf : MethodName := ⟨RJ13, "copyOf", "([BI)[B"⟩
def dkwJ13_copyOf_1 : List UInt8 := [27, 184, 1, 48, 184, 0, 150, 44, 176]
abbrev dktJ13_copyOf_1 : List UInt8 := dkwJ13_copyOf_1 ++ []
def dkwJ13_copyOf_0 : List UInt8 := [27, 42, 190, 160, 0, 11, 42, 182, 1, 54, 192, 1, 55, 176, 27, 188, 8, 77, 42, 3, 44, 3, 42, 190]
abbrev dktJ13_copyOf_0 : List UInt8 := dkwJ13_copyOf_0 ++ dktJ13_copyOf_1
theorem dksJ13_copyOf_0 : cJ13_copyOf.data.toList.drop 0 = dktJ13_copyOf_0 := by decide +kernel
theorem dksJ13_copyOf_1 : cJ13_copyOf.data.toList.drop 24 = dktJ13_copyOf_1 := dk_seg dksJ13_copyOf_0 24 rfl rfl
theorem dJ13_copyOf_0 : decode cJ13_copyOf 0 = .ok (.iload_n 1, 1) := dk_27 (dk_at dksJ13_copyOf_0 0 rfl rfl)
theorem dJ13_copyOf_1 : decode cJ13_copyOf 1 = .ok (.aload_n 0, 1) := dk_42 (dk_at dksJ13_copyOf_0 1 rfl rfl)
theorem dJ13_copyOf_2 : decode cJ13_copyOf 2 = .ok (.arraylength, 1) := dk_190 (dk_at dksJ13_copyOf_0 2 rfl rfl)
theorem dJ13_copyOf_3 : decode cJ13_copyOf 3 = .ok (.if_icmp .ne 11, 3) := dk_160 0 11 (dk_at dksJ13_copyOf_0 3 rfl rfl)
theorem dJ13_copyOf_6 : decode cJ13_copyOf 6 = .ok (.aload_n 0, 1) := dk_42 (dk_at dksJ13_copyOf_0 6 rfl rfl)
theorem dJ13_copyOf_7 : decode cJ13_copyOf 7 = .ok (.invokevirtual 310, 3) := dk_182 1 54 (dk_at dksJ13_copyOf_0 7 rfl rfl)
theorem dJ13_copyOf_10 : decode cJ13_copyOf 10 = .ok (.checkcast 311, 3) := dk_192 1 55 (dk_at dksJ13_copyOf_0 10 rfl rfl)
theorem dJ13_copyOf_13 : decode cJ13_copyOf 13 = .ok (.areturn, 1) := dk_176 (dk_at dksJ13_copyOf_0 13 rfl rfl)
theorem dJ13_copyOf_14 : decode cJ13_copyOf 14 = .ok (.iload_n 1, 1) := dk_27 (dk_at dksJ13_copyOf_0 14 rfl rfl)
theorem dJ13_copyOf_15 : decode cJ13_copyOf 15 = .ok (.newarray .byte, 2) := dk_188_8 (dk_at dksJ13_copyOf_0 15 rfl rfl)
theorem dJ13_copyOf_17 : decode cJ13_copyOf 17 = .ok (.astore_n 2, 1) := dk_77 (dk_at dksJ13_copyOf_0 17 rfl rfl)
theorem dJ13_copyOf_18 : decode cJ13_copyOf 18 = .ok (.aload_n 0, 1) := dk_42 (dk_at dksJ13_copyOf_0 18 rfl rfl)
theorem dJ13_copyOf_19 : decode cJ13_copyOf 19 = .ok (.iconst 0, 1) := dk_3 (dk_at dksJ13_copyOf_0 19 rfl rfl)
theorem dJ13_copyOf_20 : decode cJ13_copyOf 20 = .ok (.aload_n 2, 1) := dk_44 (dk_at dksJ13_copyOf_0 20 rfl rfl)
theorem dJ13_copyOf_21 : decode cJ13_copyOf 21 = .ok (.iconst 0, 1) := dk_3 (dk_at dksJ13_copyOf_0 21 rfl rfl)
theorem dJ13_copyOf_22 : decode cJ13_copyOf 22 = .ok (.aload_n 0, 1) := dk_42 (dk_at dksJ13_copyOf_0 22 rfl rfl)
theorem dJ13_copyOf_23 : decode cJ13_copyOf 23 = .ok (.arraylength, 1) := dk_190 (dk_at dksJ13_copyOf_0 23 rfl rfl)
theorem dJ13_copyOf_24 : decode cJ13_copyOf 24 = .ok (.iload_n 1, 1) := dk_27 (dk_at dksJ13_copyOf_1 0 rfl rfl)
theorem dJ13_copyOf_25 : decode cJ13_copyOf 25 = .ok (.invokestatic 304, 3) := dk_184 1 48 (dk_at dksJ13_copyOf_1 1 rfl rfl)
theorem dJ13_copyOf_28 : decode cJ13_copyOf 28 = .ok (.invokestatic 150, 3) := dk_184 0 150 (dk_at dksJ13_copyOf_1 4 rfl rfl)
theorem dJ13_copyOf_31 : decode cJ13_copyOf 31 = .ok (.aload_n 2, 1) := dk_44 (dk_at dksJ13_copyOf_1 7 rfl rfl)
theorem dJ13_copyOf_32 : decode cJ13_copyOf 32 = .ok (.areturn, 1) := dk_176 (dk_at dksJ13_copyOf_1 8 rfl rfl)
abbrev cJ13_copyOfRange : ByteArray := prog_47_method_132_code
def yJ13_copyOfRange : MethodName := ⟨RJ13, "copyOfRange", "([BII)[B"⟩
def dkwJ13_copyOfRange_1 : List UInt8 := [176]
abbrev dktJ13_copyOfRange_1 : List UInt8 := dkwJ13_copyOfRange_1 ++ []
def dkwJ13_copyOfRange_0 : List UInt8 := [27, 154, 0, 9, 28, 42, 190, 159, 0, 10, 42, 27, 28, 184, 1, 83, 176, 42, 182, 1, 54, 192, 1, 55]
abbrev dktJ13_copyOfRange_0 : List UInt8 := dkwJ13_copyOfRange_0 ++ dktJ13_copyOfRange_1
theorem dksJ13_copyOfRange_0 : cJ13_copyOfRange.data.toList.drop 0 = dktJ13_copyOfRange_0 := by decide +kernel
theorem dksJ13_copyOfRange_1 : cJ13_copyOfRange.data.toList.drop 24 = dktJ13_copyOfRange_1 := dk_seg dksJ13_copyOfRange_0 24 rfl rfl
theorem dJ13_copyOfRange_0 : decode cJ13_copyOfRange 0 = .ok (.iload_n 1, 1) := dk_27 (dk_at dksJ13_copyOfRange_0 0 rfl rfl)
theorem dJ13_copyOfRange_1 : decode cJ13_copyOfRange 1 = .ok (.ifCond .ne 9, 3) := dk_154 0 9 (dk_at dksJ13_copyOfRange_0 1 rfl rfl)
theorem dJ13_copyOfRange_4 : decode cJ13_copyOfRange 4 = .ok (.iload_n 2, 1) := dk_28 (dk_at dksJ13_copyOfRange_0 4 rfl rfl)
theorem dJ13_copyOfRange_5 : decode cJ13_copyOfRange 5 = .ok (.aload_n 0, 1) := dk_42 (dk_at dksJ13_copyOfRange_0 5 rfl rfl)
theorem dJ13_copyOfRange_6 : decode cJ13_copyOfRange 6 = .ok (.arraylength, 1) := dk_190 (dk_at dksJ13_copyOfRange_0 6 rfl rfl)
theorem dJ13_copyOfRange_7 : decode cJ13_copyOfRange 7 = .ok (.if_icmp .eq 10, 3) := dk_159 0 10 (dk_at dksJ13_copyOfRange_0 7 rfl rfl)
theorem dJ13_copyOfRange_10 : decode cJ13_copyOfRange 10 = .ok (.aload_n 0, 1) := dk_42 (dk_at dksJ13_copyOfRange_0 10 rfl rfl)
theorem dJ13_copyOfRange_11 : decode cJ13_copyOfRange 11 = .ok (.iload_n 1, 1) := dk_27 (dk_at dksJ13_copyOfRange_0 11 rfl rfl)
theorem dJ13_copyOfRange_12 : decode cJ13_copyOfRange 12 = .ok (.iload_n 2, 1) := dk_28 (dk_at dksJ13_copyOfRange_0 12 rfl rfl)
theorem dJ13_copyOfRange_13 : decode cJ13_copyOfRange 13 = .ok (.invokestatic 339, 3) := dk_184 1 83 (dk_at dksJ13_copyOfRange_0 13 rfl rfl)
theorem dJ13_copyOfRange_16 : decode cJ13_copyOfRange 16 = .ok (.areturn, 1) := dk_176 (dk_at dksJ13_copyOfRange_0 16 rfl rfl)
theorem dJ13_copyOfRange_17 : decode cJ13_copyOfRange 17 = .ok (.aload_n 0, 1) := dk_42 (dk_at dksJ13_copyOfRange_0 17 rfl rfl)
theorem dJ13_copyOfRange_18 : decode cJ13_copyOfRange 18 = .ok (.invokevirtual 310, 3) := dk_182 1 54 (dk_at dksJ13_copyOfRange_0 18 rfl rfl)
theorem dJ13_copyOfRange_21 : decode cJ13_copyOfRange 21 = .ok (.checkcast 311, 3) := dk_192 1 55 (dk_at dksJ13_copyOfRange_0 21 rfl rfl)
theorem dJ13_copyOfRange_24 : decode cJ13_copyOfRange 24 = .ok (.areturn, 1) := dk_176 (dk_at dksJ13_copyOfRange_1 0 rfl rfl)
abbrev cJ13_copyOfRangeByte : ByteArray := prog_47_method_133_code
def yJ13_copyOfRangeByte : MethodName := ⟨RJ13, "copyOfRangeByte", "([BII)[B"⟩
def dkwJ13_copyOfRangeByte_1 : List UInt8 := [184, 1, 48, 184, 0, 150, 25, 4, 176]
abbrev dktJ13_copyOfRangeByte_1 : List UInt8 := dkwJ13_copyOfRangeByte_1 ++ []
def dkwJ13_copyOfRangeByte_0 : List UInt8 := [27, 28, 184, 1, 87, 28, 27, 100, 62, 29, 188, 8, 58, 4, 42, 27, 25, 4, 3, 42, 190, 27, 100, 29]
abbrev dktJ13_copyOfRangeByte_0 : List UInt8 := dkwJ13_copyOfRangeByte_0 ++ dktJ13_copyOfRangeByte_1
theorem dksJ13_copyOfRangeByte_0 : cJ13_copyOfRangeByte.data.toList.drop 0 = dktJ13_copyOfRangeByte_0 := by decide +kernel
theorem dksJ13_copyOfRangeByte_1 : cJ13_copyOfRangeByte.data.toList.drop 24 = dktJ13_copyOfRangeByte_1 := dk_seg dksJ13_copyOfRangeByte_0 24 rfl rfl
theorem dJ13_copyOfRangeByte_0 : decode cJ13_copyOfRangeByte 0 = .ok (.iload_n 1, 1) := dk_27 (dk_at dksJ13_copyOfRangeByte_0 0 rfl rfl)
theorem dJ13_copyOfRangeByte_1 : decode cJ13_copyOfRangeByte 1 = .ok (.iload_n 2, 1) := dk_28 (dk_at dksJ13_copyOfRangeByte_0 1 rfl rfl)
theorem dJ13_copyOfRangeByte_2 : decode cJ13_copyOfRangeByte 2 = .ok (.invokestatic 343, 3) := dk_184 1 87 (dk_at dksJ13_copyOfRangeByte_0 2 rfl rfl)
theorem dJ13_copyOfRangeByte_5 : decode cJ13_copyOfRangeByte 5 = .ok (.iload_n 2, 1) := dk_28 (dk_at dksJ13_copyOfRangeByte_0 5 rfl rfl)
theorem dJ13_copyOfRangeByte_6 : decode cJ13_copyOfRangeByte 6 = .ok (.iload_n 1, 1) := dk_27 (dk_at dksJ13_copyOfRangeByte_0 6 rfl rfl)
theorem dJ13_copyOfRangeByte_7 : decode cJ13_copyOfRangeByte 7 = .ok (.isub, 1) := dk_100 (dk_at dksJ13_copyOfRangeByte_0 7 rfl rfl)
theorem dJ13_copyOfRangeByte_8 : decode cJ13_copyOfRangeByte 8 = .ok (.istore_n 3, 1) := dk_62 (dk_at dksJ13_copyOfRangeByte_0 8 rfl rfl)
theorem dJ13_copyOfRangeByte_9 : decode cJ13_copyOfRangeByte 9 = .ok (.iload_n 3, 1) := dk_29 (dk_at dksJ13_copyOfRangeByte_0 9 rfl rfl)
theorem dJ13_copyOfRangeByte_10 : decode cJ13_copyOfRangeByte 10 = .ok (.newarray .byte, 2) := dk_188_8 (dk_at dksJ13_copyOfRangeByte_0 10 rfl rfl)
theorem dJ13_copyOfRangeByte_12 : decode cJ13_copyOfRangeByte 12 = .ok (.astore 4, 2) := dk_58 4 (dk_at dksJ13_copyOfRangeByte_0 12 rfl rfl)
theorem dJ13_copyOfRangeByte_14 : decode cJ13_copyOfRangeByte 14 = .ok (.aload_n 0, 1) := dk_42 (dk_at dksJ13_copyOfRangeByte_0 14 rfl rfl)
theorem dJ13_copyOfRangeByte_15 : decode cJ13_copyOfRangeByte 15 = .ok (.iload_n 1, 1) := dk_27 (dk_at dksJ13_copyOfRangeByte_0 15 rfl rfl)
theorem dJ13_copyOfRangeByte_16 : decode cJ13_copyOfRangeByte 16 = .ok (.aload 4, 2) := dk_25 4 (dk_at dksJ13_copyOfRangeByte_0 16 rfl rfl)
theorem dJ13_copyOfRangeByte_18 : decode cJ13_copyOfRangeByte 18 = .ok (.iconst 0, 1) := dk_3 (dk_at dksJ13_copyOfRangeByte_0 18 rfl rfl)
theorem dJ13_copyOfRangeByte_19 : decode cJ13_copyOfRangeByte 19 = .ok (.aload_n 0, 1) := dk_42 (dk_at dksJ13_copyOfRangeByte_0 19 rfl rfl)
theorem dJ13_copyOfRangeByte_20 : decode cJ13_copyOfRangeByte 20 = .ok (.arraylength, 1) := dk_190 (dk_at dksJ13_copyOfRangeByte_0 20 rfl rfl)
theorem dJ13_copyOfRangeByte_21 : decode cJ13_copyOfRangeByte 21 = .ok (.iload_n 1, 1) := dk_27 (dk_at dksJ13_copyOfRangeByte_0 21 rfl rfl)
theorem dJ13_copyOfRangeByte_22 : decode cJ13_copyOfRangeByte 22 = .ok (.isub, 1) := dk_100 (dk_at dksJ13_copyOfRangeByte_0 22 rfl rfl)
theorem dJ13_copyOfRangeByte_23 : decode cJ13_copyOfRangeByte 23 = .ok (.iload_n 3, 1) := dk_29 (dk_at dksJ13_copyOfRangeByte_0 23 rfl rfl)
theorem dJ13_copyOfRangeByte_24 : decode cJ13_copyOfRangeByte 24 = .ok (.invokestatic 304, 3) := dk_184 1 48 (dk_at dksJ13_copyOfRangeByte_1 0 rfl rfl)
theorem dJ13_copyOfRangeByte_27 : decode cJ13_copyOfRangeByte 27 = .ok (.invokestatic 150, 3) := dk_184 0 150 (dk_at dksJ13_copyOfRangeByte_1 3 rfl rfl)
theorem dJ13_copyOfRangeByte_30 : decode cJ13_copyOfRangeByte 30 = .ok (.aload 4, 2) := dk_25 4 (dk_at dksJ13_copyOfRangeByte_1 6 rfl rfl)
theorem dJ13_copyOfRangeByte_32 : decode cJ13_copyOfRangeByte 32 = .ok (.areturn, 1) := dk_176 (dk_at dksJ13_copyOfRangeByte_1 8 rfl rfl)
abbrev cJ13_checkLength : ByteArray := prog_47_method_131_code
def yJ13_checkLength : MethodName := ⟨RJ13, "checkLength", "(II)V"⟩
def dkwJ13_checkLength_1 : List UInt8 := [182, 0, 50, 27, 182, 0, 54, 182, 0, 61, 183, 0, 65, 191, 177]
abbrev dktJ13_checkLength_1 : List UInt8 := dkwJ13_checkLength_1 ++ []
def dkwJ13_checkLength_0 : List UInt8 := [27, 26, 162, 0, 35, 187, 0, 43, 89, 187, 0, 45, 89, 183, 0, 47, 26, 182, 0, 54, 19, 1, 81]
abbrev dktJ13_checkLength_0 : List UInt8 := dkwJ13_checkLength_0 ++ dktJ13_checkLength_1
theorem dksJ13_checkLength_0 : cJ13_checkLength.data.toList.drop 0 = dktJ13_checkLength_0 := by decide +kernel
theorem dksJ13_checkLength_1 : cJ13_checkLength.data.toList.drop 23 = dktJ13_checkLength_1 := dk_seg dksJ13_checkLength_0 23 rfl rfl
theorem dJ13_checkLength_0 : decode cJ13_checkLength 0 = .ok (.iload_n 1, 1) := dk_27 (dk_at dksJ13_checkLength_0 0 rfl rfl)
theorem dJ13_checkLength_1 : decode cJ13_checkLength 1 = .ok (.iload_n 0, 1) := dk_26 (dk_at dksJ13_checkLength_0 1 rfl rfl)
theorem dJ13_checkLength_2 : decode cJ13_checkLength 2 = .ok (.if_icmp .ge 35, 3) := dk_162 0 35 (dk_at dksJ13_checkLength_0 2 rfl rfl)
theorem dJ13_checkLength_5 : decode cJ13_checkLength 5 = .ok (.new 43, 3) := dk_187 0 43 (dk_at dksJ13_checkLength_0 5 rfl rfl)
theorem dJ13_checkLength_8 : decode cJ13_checkLength 8 = .ok (.dup, 1) := dk_89 (dk_at dksJ13_checkLength_0 8 rfl rfl)
theorem dJ13_checkLength_9 : decode cJ13_checkLength 9 = .ok (.new 45, 3) := dk_187 0 45 (dk_at dksJ13_checkLength_0 9 rfl rfl)
theorem dJ13_checkLength_12 : decode cJ13_checkLength 12 = .ok (.dup, 1) := dk_89 (dk_at dksJ13_checkLength_0 12 rfl rfl)
theorem dJ13_checkLength_13 : decode cJ13_checkLength 13 = .ok (.invokespecial 47, 3) := dk_183 0 47 (dk_at dksJ13_checkLength_0 13 rfl rfl)
theorem dJ13_checkLength_16 : decode cJ13_checkLength 16 = .ok (.iload_n 0, 1) := dk_26 (dk_at dksJ13_checkLength_0 16 rfl rfl)
theorem dJ13_checkLength_17 : decode cJ13_checkLength 17 = .ok (.invokevirtual 54, 3) := dk_182 0 54 (dk_at dksJ13_checkLength_0 17 rfl rfl)
theorem dJ13_checkLength_20 : decode cJ13_checkLength 20 = .ok (.ldc_w 337, 3) := dk_19 1 81 (dk_at dksJ13_checkLength_0 20 rfl rfl)
theorem dJ13_checkLength_23 : decode cJ13_checkLength 23 = .ok (.invokevirtual 50, 3) := dk_182 0 50 (dk_at dksJ13_checkLength_1 0 rfl rfl)
theorem dJ13_checkLength_26 : decode cJ13_checkLength 26 = .ok (.iload_n 1, 1) := dk_27 (dk_at dksJ13_checkLength_1 3 rfl rfl)
theorem dJ13_checkLength_27 : decode cJ13_checkLength 27 = .ok (.invokevirtual 54, 3) := dk_182 0 54 (dk_at dksJ13_checkLength_1 4 rfl rfl)
theorem dJ13_checkLength_30 : decode cJ13_checkLength 30 = .ok (.invokevirtual 61, 3) := dk_182 0 61 (dk_at dksJ13_checkLength_1 7 rfl rfl)
theorem dJ13_checkLength_33 : decode cJ13_checkLength 33 = .ok (.invokespecial 65, 3) := dk_183 0 65 (dk_at dksJ13_checkLength_1 10 rfl rfl)
theorem dJ13_checkLength_36 : decode cJ13_checkLength 36 = .ok (.athrow, 1) := dk_191 (dk_at dksJ13_checkLength_1 13 rfl rfl)
theorem dJ13_checkLength_37 : decode cJ13_checkLength 37 = .ok (.return_, 1) := dk_177 (dk_at dksJ13_checkLength_1 14 rfl rfl)
abbrev cJ13_copyOf_2 : ByteArray := prog_47_method_119_code
def yJ13_copyOf_2 : MethodName := ⟨RJ13, "copyOf", "([Ljava/lang/Object;I)[Ljava/lang/Object;"⟩
def dkwJ13_copyOf_2_0 : List UInt8 := [42, 27, 42, 182, 0, 86, 184, 1, 44, 176]
abbrev dktJ13_copyOf_2_0 : List UInt8 := dkwJ13_copyOf_2_0 ++ []
theorem dksJ13_copyOf_2_0 : cJ13_copyOf_2.data.toList.drop 0 = dktJ13_copyOf_2_0 := by decide +kernel
theorem dJ13_copyOf_2_0 : decode cJ13_copyOf_2 0 = .ok (.aload_n 0, 1) := dk_42 (dk_at dksJ13_copyOf_2_0 0 rfl rfl)
theorem dJ13_copyOf_2_1 : decode cJ13_copyOf_2 1 = .ok (.iload_n 1, 1) := dk_27 (dk_at dksJ13_copyOf_2_0 1 rfl rfl)
theorem dJ13_copyOf_2_2 : decode cJ13_copyOf_2 2 = .ok (.aload_n 0, 1) := dk_42 (dk_at dksJ13_copyOf_2_0 2 rfl rfl)
theorem dJ13_copyOf_2_3 : decode cJ13_copyOf_2 3 = .ok (.invokevirtual 86, 3) := dk_182 0 86 (dk_at dksJ13_copyOf_2_0 3 rfl rfl)
theorem dJ13_copyOf_2_6 : decode cJ13_copyOf_2 6 = .ok (.invokestatic 300, 3) := dk_184 1 44 (dk_at dksJ13_copyOf_2_0 6 rfl rfl)
theorem dJ13_copyOf_2_9 : decode cJ13_copyOf_2 9 = .ok (.areturn, 1) := dk_176 (dk_at dksJ13_copyOf_2_0 9 rfl rfl)
abbrev cJ13_copyOf_3 : ByteArray := prog_47_method_120_code
def yJ13_copyOf_3 : MethodName := ⟨RJ13, "copyOf", "([Ljava/lang/Object;ILjava/lang/Class;)[Ljava/lang/Object;"⟩
def dkwJ13_copyOf_3_1 : List UInt8 := [78, 42, 3, 45, 3, 42, 190, 27, 184, 1, 48, 184, 0, 150, 45, 176]
abbrev dktJ13_copyOf_3_1 : List UInt8 := dkwJ13_copyOf_3_1 ++ []
def dkwJ13_copyOf_3_0 : List UInt8 := [44, 18, 110, 166, 0, 10, 27, 189, 0, 2, 167, 0, 14, 44, 182, 0, 90, 27, 184, 0, 95, 192, 0, 110]
abbrev dktJ13_copyOf_3_0 : List UInt8 := dkwJ13_copyOf_3_0 ++ dktJ13_copyOf_3_1
theorem dksJ13_copyOf_3_0 : cJ13_copyOf_3.data.toList.drop 0 = dktJ13_copyOf_3_0 := by decide +kernel
theorem dksJ13_copyOf_3_1 : cJ13_copyOf_3.data.toList.drop 24 = dktJ13_copyOf_3_1 := dk_seg dksJ13_copyOf_3_0 24 rfl rfl
theorem dJ13_copyOf_3_0 : decode cJ13_copyOf_3 0 = .ok (.aload_n 2, 1) := dk_44 (dk_at dksJ13_copyOf_3_0 0 rfl rfl)
theorem dJ13_copyOf_3_1 : decode cJ13_copyOf_3 1 = .ok (.ldc 110, 2) := dk_18 110 (dk_at dksJ13_copyOf_3_0 1 rfl rfl)
theorem dJ13_copyOf_3_3 : decode cJ13_copyOf_3 3 = .ok (.if_acmp .ne 10, 3) := dk_166 0 10 (dk_at dksJ13_copyOf_3_0 3 rfl rfl)
theorem dJ13_copyOf_3_6 : decode cJ13_copyOf_3 6 = .ok (.iload_n 1, 1) := dk_27 (dk_at dksJ13_copyOf_3_0 6 rfl rfl)
theorem dJ13_copyOf_3_7 : decode cJ13_copyOf_3 7 = .ok (.anewarray 2, 3) := dk_189 0 2 (dk_at dksJ13_copyOf_3_0 7 rfl rfl)
theorem dJ13_copyOf_3_10 : decode cJ13_copyOf_3 10 = .ok (.goto 14, 3) := dk_167 0 14 (dk_at dksJ13_copyOf_3_0 10 rfl rfl)
theorem dJ13_copyOf_3_13 : decode cJ13_copyOf_3 13 = .ok (.aload_n 2, 1) := dk_44 (dk_at dksJ13_copyOf_3_0 13 rfl rfl)
theorem dJ13_copyOf_3_14 : decode cJ13_copyOf_3 14 = .ok (.invokevirtual 90, 3) := dk_182 0 90 (dk_at dksJ13_copyOf_3_0 14 rfl rfl)
theorem dJ13_copyOf_3_17 : decode cJ13_copyOf_3 17 = .ok (.iload_n 1, 1) := dk_27 (dk_at dksJ13_copyOf_3_0 17 rfl rfl)
theorem dJ13_copyOf_3_18 : decode cJ13_copyOf_3 18 = .ok (.invokestatic 95, 3) := dk_184 0 95 (dk_at dksJ13_copyOf_3_0 18 rfl rfl)
theorem dJ13_copyOf_3_21 : decode cJ13_copyOf_3 21 = .ok (.checkcast 110, 3) := dk_192 0 110 (dk_at dksJ13_copyOf_3_0 21 rfl rfl)
theorem dJ13_copyOf_3_24 : decode cJ13_copyOf_3 24 = .ok (.astore_n 3, 1) := dk_78 (dk_at dksJ13_copyOf_3_1 0 rfl rfl)
theorem dJ13_copyOf_3_25 : decode cJ13_copyOf_3 25 = .ok (.aload_n 0, 1) := dk_42 (dk_at dksJ13_copyOf_3_1 1 rfl rfl)
theorem dJ13_copyOf_3_26 : decode cJ13_copyOf_3 26 = .ok (.iconst 0, 1) := dk_3 (dk_at dksJ13_copyOf_3_1 2 rfl rfl)
theorem dJ13_copyOf_3_27 : decode cJ13_copyOf_3 27 = .ok (.aload_n 3, 1) := dk_45 (dk_at dksJ13_copyOf_3_1 3 rfl rfl)
theorem dJ13_copyOf_3_28 : decode cJ13_copyOf_3 28 = .ok (.iconst 0, 1) := dk_3 (dk_at dksJ13_copyOf_3_1 4 rfl rfl)
theorem dJ13_copyOf_3_29 : decode cJ13_copyOf_3 29 = .ok (.aload_n 0, 1) := dk_42 (dk_at dksJ13_copyOf_3_1 5 rfl rfl)
theorem dJ13_copyOf_3_30 : decode cJ13_copyOf_3 30 = .ok (.arraylength, 1) := dk_190 (dk_at dksJ13_copyOf_3_1 6 rfl rfl)
theorem dJ13_copyOf_3_31 : decode cJ13_copyOf_3 31 = .ok (.iload_n 1, 1) := dk_27 (dk_at dksJ13_copyOf_3_1 7 rfl rfl)
theorem dJ13_copyOf_3_32 : decode cJ13_copyOf_3 32 = .ok (.invokestatic 304, 3) := dk_184 1 48 (dk_at dksJ13_copyOf_3_1 8 rfl rfl)
theorem dJ13_copyOf_3_35 : decode cJ13_copyOf_3 35 = .ok (.invokestatic 150, 3) := dk_184 0 150 (dk_at dksJ13_copyOf_3_1 11 rfl rfl)
theorem dJ13_copyOf_3_38 : decode cJ13_copyOf_3 38 = .ok (.aload_n 3, 1) := dk_45 (dk_at dksJ13_copyOf_3_1 14 rfl rfl)
theorem dJ13_copyOf_3_39 : decode cJ13_copyOf_3 39 = .ok (.areturn, 1) := dk_176 (dk_at dksJ13_copyOf_3_1 15 rfl rfl)
/-! jdk/internal/util/Preconditions: codes (from claim/names) -/
abbrev cJ14_checkFromToIndex : ByteArray := prog_55_method_12_code
def yJ14_checkFromToIndex : MethodName := ⟨RJ14, "checkFromToIndex", "(IIILjava/util/function/BiFunction;)I"⟩
def dkwJ14_checkFromToIndex_0 : List UInt8 := [26, 155, 0, 13, 26, 27, 163, 0, 8, 27, 28, 164, 0, 11, 45, 26, 27, 28, 184, 0, 99, 191, 26, 172]
abbrev dktJ14_checkFromToIndex_0 : List UInt8 := dkwJ14_checkFromToIndex_0 ++ []
theorem dksJ14_checkFromToIndex_0 : cJ14_checkFromToIndex.data.toList.drop 0 = dktJ14_checkFromToIndex_0 := by decide +kernel
theorem dJ14_checkFromToIndex_0 : decode cJ14_checkFromToIndex 0 = .ok (.iload_n 0, 1) := dk_26 (dk_at dksJ14_checkFromToIndex_0 0 rfl rfl)
theorem dJ14_checkFromToIndex_1 : decode cJ14_checkFromToIndex 1 = .ok (.ifCond .lt 13, 3) := dk_155 0 13 (dk_at dksJ14_checkFromToIndex_0 1 rfl rfl)
theorem dJ14_checkFromToIndex_4 : decode cJ14_checkFromToIndex 4 = .ok (.iload_n 0, 1) := dk_26 (dk_at dksJ14_checkFromToIndex_0 4 rfl rfl)
theorem dJ14_checkFromToIndex_5 : decode cJ14_checkFromToIndex 5 = .ok (.iload_n 1, 1) := dk_27 (dk_at dksJ14_checkFromToIndex_0 5 rfl rfl)
theorem dJ14_checkFromToIndex_6 : decode cJ14_checkFromToIndex 6 = .ok (.if_icmp .gt 8, 3) := dk_163 0 8 (dk_at dksJ14_checkFromToIndex_0 6 rfl rfl)
theorem dJ14_checkFromToIndex_9 : decode cJ14_checkFromToIndex 9 = .ok (.iload_n 1, 1) := dk_27 (dk_at dksJ14_checkFromToIndex_0 9 rfl rfl)
theorem dJ14_checkFromToIndex_10 : decode cJ14_checkFromToIndex 10 = .ok (.iload_n 2, 1) := dk_28 (dk_at dksJ14_checkFromToIndex_0 10 rfl rfl)
theorem dJ14_checkFromToIndex_11 : decode cJ14_checkFromToIndex 11 = .ok (.if_icmp .le 11, 3) := dk_164 0 11 (dk_at dksJ14_checkFromToIndex_0 11 rfl rfl)
theorem dJ14_checkFromToIndex_14 : decode cJ14_checkFromToIndex 14 = .ok (.aload_n 3, 1) := dk_45 (dk_at dksJ14_checkFromToIndex_0 14 rfl rfl)
theorem dJ14_checkFromToIndex_15 : decode cJ14_checkFromToIndex 15 = .ok (.iload_n 0, 1) := dk_26 (dk_at dksJ14_checkFromToIndex_0 15 rfl rfl)
theorem dJ14_checkFromToIndex_16 : decode cJ14_checkFromToIndex 16 = .ok (.iload_n 1, 1) := dk_27 (dk_at dksJ14_checkFromToIndex_0 16 rfl rfl)
theorem dJ14_checkFromToIndex_17 : decode cJ14_checkFromToIndex 17 = .ok (.iload_n 2, 1) := dk_28 (dk_at dksJ14_checkFromToIndex_0 17 rfl rfl)
theorem dJ14_checkFromToIndex_18 : decode cJ14_checkFromToIndex 18 = .ok (.invokestatic 99, 3) := dk_184 0 99 (dk_at dksJ14_checkFromToIndex_0 18 rfl rfl)
theorem dJ14_checkFromToIndex_21 : decode cJ14_checkFromToIndex 21 = .ok (.athrow, 1) := dk_191 (dk_at dksJ14_checkFromToIndex_0 21 rfl rfl)
theorem dJ14_checkFromToIndex_22 : decode cJ14_checkFromToIndex 22 = .ok (.iload_n 0, 1) := dk_26 (dk_at dksJ14_checkFromToIndex_0 22 rfl rfl)
theorem dJ14_checkFromToIndex_23 : decode cJ14_checkFromToIndex 23 = .ok (.ireturn, 1) := dk_172 (dk_at dksJ14_checkFromToIndex_0 23 rfl rfl)
abbrev cJ14_checkFromIndexSize : ByteArray := prog_55_method_13_code
def yJ14_checkFromIndexSize : MethodName := ⟨RJ14, "checkFromIndexSize", "(IIILjava/util/function/BiFunction;)I"⟩
def dkwJ14_checkFromIndexSize_1 : List UInt8 := [172]
abbrev dktJ14_checkFromIndexSize_1 : List UInt8 := dkwJ14_checkFromIndexSize_1 ++ []
def dkwJ14_checkFromIndexSize_0 : List UInt8 := [28, 26, 128, 27, 128, 155, 0, 10, 27, 28, 26, 100, 164, 0, 11, 45, 26, 27, 28, 184, 0, 103, 191, 26]
abbrev dktJ14_checkFromIndexSize_0 : List UInt8 := dkwJ14_checkFromIndexSize_0 ++ dktJ14_checkFromIndexSize_1
theorem dksJ14_checkFromIndexSize_0 : cJ14_checkFromIndexSize.data.toList.drop 0 = dktJ14_checkFromIndexSize_0 := by decide +kernel
theorem dksJ14_checkFromIndexSize_1 : cJ14_checkFromIndexSize.data.toList.drop 24 = dktJ14_checkFromIndexSize_1 := dk_seg dksJ14_checkFromIndexSize_0 24 rfl rfl
theorem dJ14_checkFromIndexSize_0 : decode cJ14_checkFromIndexSize 0 = .ok (.iload_n 2, 1) := dk_28 (dk_at dksJ14_checkFromIndexSize_0 0 rfl rfl)
theorem dJ14_checkFromIndexSize_1 : decode cJ14_checkFromIndexSize 1 = .ok (.iload_n 0, 1) := dk_26 (dk_at dksJ14_checkFromIndexSize_0 1 rfl rfl)
theorem dJ14_checkFromIndexSize_2 : decode cJ14_checkFromIndexSize 2 = .ok (.ior, 1) := dk_128 (dk_at dksJ14_checkFromIndexSize_0 2 rfl rfl)
theorem dJ14_checkFromIndexSize_3 : decode cJ14_checkFromIndexSize 3 = .ok (.iload_n 1, 1) := dk_27 (dk_at dksJ14_checkFromIndexSize_0 3 rfl rfl)
theorem dJ14_checkFromIndexSize_4 : decode cJ14_checkFromIndexSize 4 = .ok (.ior, 1) := dk_128 (dk_at dksJ14_checkFromIndexSize_0 4 rfl rfl)
theorem dJ14_checkFromIndexSize_5 : decode cJ14_checkFromIndexSize 5 = .ok (.ifCond .lt 10, 3) := dk_155 0 10 (dk_at dksJ14_checkFromIndexSize_0 5 rfl rfl)
theorem dJ14_checkFromIndexSize_8 : decode cJ14_checkFromIndexSize 8 = .ok (.iload_n 1, 1) := dk_27 (dk_at dksJ14_checkFromIndexSize_0 8 rfl rfl)
theorem dJ14_checkFromIndexSize_9 : decode cJ14_checkFromIndexSize 9 = .ok (.iload_n 2, 1) := dk_28 (dk_at dksJ14_checkFromIndexSize_0 9 rfl rfl)
theorem dJ14_checkFromIndexSize_10 : decode cJ14_checkFromIndexSize 10 = .ok (.iload_n 0, 1) := dk_26 (dk_at dksJ14_checkFromIndexSize_0 10 rfl rfl)
theorem dJ14_checkFromIndexSize_11 : decode cJ14_checkFromIndexSize 11 = .ok (.isub, 1) := dk_100 (dk_at dksJ14_checkFromIndexSize_0 11 rfl rfl)
theorem dJ14_checkFromIndexSize_12 : decode cJ14_checkFromIndexSize 12 = .ok (.if_icmp .le 11, 3) := dk_164 0 11 (dk_at dksJ14_checkFromIndexSize_0 12 rfl rfl)
theorem dJ14_checkFromIndexSize_15 : decode cJ14_checkFromIndexSize 15 = .ok (.aload_n 3, 1) := dk_45 (dk_at dksJ14_checkFromIndexSize_0 15 rfl rfl)
theorem dJ14_checkFromIndexSize_16 : decode cJ14_checkFromIndexSize 16 = .ok (.iload_n 0, 1) := dk_26 (dk_at dksJ14_checkFromIndexSize_0 16 rfl rfl)
theorem dJ14_checkFromIndexSize_17 : decode cJ14_checkFromIndexSize 17 = .ok (.iload_n 1, 1) := dk_27 (dk_at dksJ14_checkFromIndexSize_0 17 rfl rfl)
theorem dJ14_checkFromIndexSize_18 : decode cJ14_checkFromIndexSize 18 = .ok (.iload_n 2, 1) := dk_28 (dk_at dksJ14_checkFromIndexSize_0 18 rfl rfl)
theorem dJ14_checkFromIndexSize_19 : decode cJ14_checkFromIndexSize 19 = .ok (.invokestatic 103, 3) := dk_184 0 103 (dk_at dksJ14_checkFromIndexSize_0 19 rfl rfl)
theorem dJ14_checkFromIndexSize_22 : decode cJ14_checkFromIndexSize 22 = .ok (.athrow, 1) := dk_191 (dk_at dksJ14_checkFromIndexSize_0 22 rfl rfl)
theorem dJ14_checkFromIndexSize_23 : decode cJ14_checkFromIndexSize 23 = .ok (.iload_n 0, 1) := dk_26 (dk_at dksJ14_checkFromIndexSize_0 23 rfl rfl)
theorem dJ14_checkFromIndexSize_24 : decode cJ14_checkFromIndexSize 24 = .ok (.ireturn, 1) := dk_172 (dk_at dksJ14_checkFromIndexSize_1 0 rfl rfl)
abbrev cJ14_checkIndex : ByteArray := prog_55_method_11_code
def yJ14_checkIndex : MethodName := ⟨RJ14, "checkIndex", "(IILjava/util/function/BiFunction;)I"⟩
def dkwJ14_checkIndex_0 : List UInt8 := [26, 155, 0, 8, 26, 27, 161, 0, 10, 44, 26, 27, 184, 0, 95, 191, 26, 172]
abbrev dktJ14_checkIndex_0 : List UInt8 := dkwJ14_checkIndex_0 ++ []
theorem dksJ14_checkIndex_0 : cJ14_checkIndex.data.toList.drop 0 = dktJ14_checkIndex_0 := by decide +kernel
theorem dJ14_checkIndex_0 : decode cJ14_checkIndex 0 = .ok (.iload_n 0, 1) := dk_26 (dk_at dksJ14_checkIndex_0 0 rfl rfl)
theorem dJ14_checkIndex_1 : decode cJ14_checkIndex 1 = .ok (.ifCond .lt 8, 3) := dk_155 0 8 (dk_at dksJ14_checkIndex_0 1 rfl rfl)
theorem dJ14_checkIndex_4 : decode cJ14_checkIndex 4 = .ok (.iload_n 0, 1) := dk_26 (dk_at dksJ14_checkIndex_0 4 rfl rfl)
theorem dJ14_checkIndex_5 : decode cJ14_checkIndex 5 = .ok (.iload_n 1, 1) := dk_27 (dk_at dksJ14_checkIndex_0 5 rfl rfl)
theorem dJ14_checkIndex_6 : decode cJ14_checkIndex 6 = .ok (.if_icmp .lt 10, 3) := dk_161 0 10 (dk_at dksJ14_checkIndex_0 6 rfl rfl)
theorem dJ14_checkIndex_9 : decode cJ14_checkIndex 9 = .ok (.aload_n 2, 1) := dk_44 (dk_at dksJ14_checkIndex_0 9 rfl rfl)
theorem dJ14_checkIndex_10 : decode cJ14_checkIndex 10 = .ok (.iload_n 0, 1) := dk_26 (dk_at dksJ14_checkIndex_0 10 rfl rfl)
theorem dJ14_checkIndex_11 : decode cJ14_checkIndex 11 = .ok (.iload_n 1, 1) := dk_27 (dk_at dksJ14_checkIndex_0 11 rfl rfl)
theorem dJ14_checkIndex_12 : decode cJ14_checkIndex 12 = .ok (.invokestatic 95, 3) := dk_184 0 95 (dk_at dksJ14_checkIndex_0 12 rfl rfl)
theorem dJ14_checkIndex_15 : decode cJ14_checkIndex 15 = .ok (.athrow, 1) := dk_191 (dk_at dksJ14_checkIndex_0 15 rfl rfl)
theorem dJ14_checkIndex_16 : decode cJ14_checkIndex 16 = .ok (.iload_n 0, 1) := dk_26 (dk_at dksJ14_checkIndex_0 16 rfl rfl)
theorem dJ14_checkIndex_17 : decode cJ14_checkIndex 17 = .ok (.ireturn, 1) := dk_172 (dk_at dksJ14_checkIndex_0 17 rfl rfl)
/-! java/lang/StringLatin1: codes (from claim/names) -/
abbrev cJ15_inflate : ByteArray := prog_38_method_50_code
def yJ15_inflate : MethodName := ⟨RJ15, "inflate", "([BI[BII)V"⟩
def dkwJ15_inflate_0 : List UInt8 := [42, 27, 44, 29, 21, 4, 184, 0, 240, 177]
abbrev dktJ15_inflate_0 : List UInt8 := dkwJ15_inflate_0 ++ []
theorem dksJ15_inflate_0 : cJ15_inflate.data.toList.drop 0 = dktJ15_inflate_0 := by decide +kernel
theorem dJ15_inflate_0 : decode cJ15_inflate 0 = .ok (.aload_n 0, 1) := dk_42 (dk_at dksJ15_inflate_0 0 rfl rfl)
theorem dJ15_inflate_1 : decode cJ15_inflate 1 = .ok (.iload_n 1, 1) := dk_27 (dk_at dksJ15_inflate_0 1 rfl rfl)
theorem dJ15_inflate_2 : decode cJ15_inflate 2 = .ok (.aload_n 2, 1) := dk_44 (dk_at dksJ15_inflate_0 2 rfl rfl)
theorem dJ15_inflate_3 : decode cJ15_inflate 3 = .ok (.iload_n 3, 1) := dk_29 (dk_at dksJ15_inflate_0 3 rfl rfl)
theorem dJ15_inflate_4 : decode cJ15_inflate 4 = .ok (.iload 4, 2) := dk_21 4 (dk_at dksJ15_inflate_0 4 rfl rfl)
theorem dJ15_inflate_6 : decode cJ15_inflate 6 = .ok (.invokestatic 240, 3) := dk_184 0 240 (dk_at dksJ15_inflate_0 6 rfl rfl)
theorem dJ15_inflate_9 : decode cJ15_inflate 9 = .ok (.return_, 1) := dk_177 (dk_at dksJ15_inflate_0 9 rfl rfl)
abbrev cJ15_canEncode : ByteArray := prog_38_method_3_code
def yJ15_canEncode : MethodName := ⟨RJ15, "canEncode", "(C)Z"⟩
def dkwJ15_canEncode_0 : List UInt8 := [26, 17, 0, 255, 163, 0, 7, 4, 167, 0, 4, 3, 172]
abbrev dktJ15_canEncode_0 : List UInt8 := dkwJ15_canEncode_0 ++ []
theorem dksJ15_canEncode_0 : cJ15_canEncode.data.toList.drop 0 = dktJ15_canEncode_0 := by decide +kernel
theorem dJ15_canEncode_0 : decode cJ15_canEncode 0 = .ok (.iload_n 0, 1) := dk_26 (dk_at dksJ15_canEncode_0 0 rfl rfl)
theorem dJ15_canEncode_1 : decode cJ15_canEncode 1 = .ok (.sipush 255, 3) := dk_17 0 255 (dk_at dksJ15_canEncode_0 1 rfl rfl)
theorem dJ15_canEncode_4 : decode cJ15_canEncode 4 = .ok (.if_icmp .gt 7, 3) := dk_163 0 7 (dk_at dksJ15_canEncode_0 4 rfl rfl)
theorem dJ15_canEncode_7 : decode cJ15_canEncode 7 = .ok (.iconst 1, 1) := dk_4 (dk_at dksJ15_canEncode_0 7 rfl rfl)
theorem dJ15_canEncode_8 : decode cJ15_canEncode 8 = .ok (.goto 4, 3) := dk_167 0 4 (dk_at dksJ15_canEncode_0 8 rfl rfl)
theorem dJ15_canEncode_11 : decode cJ15_canEncode 11 = .ok (.iconst 0, 1) := dk_3 (dk_at dksJ15_canEncode_0 11 rfl rfl)
theorem dJ15_canEncode_12 : decode cJ15_canEncode 12 = .ok (.ireturn, 1) := dk_172 (dk_at dksJ15_canEncode_0 12 rfl rfl)
abbrev cJ15_toBytes : ByteArray := prog_38_method_46_code
def yJ15_toBytes : MethodName := ⟨RJ15, "toBytes", "(C)[B"⟩
def dkwJ15_toBytes_0 : List UInt8 := [4, 188, 8, 89, 3, 26, 145, 84, 176]
abbrev dktJ15_toBytes_0 : List UInt8 := dkwJ15_toBytes_0 ++ []
theorem dksJ15_toBytes_0 : cJ15_toBytes.data.toList.drop 0 = dktJ15_toBytes_0 := by decide +kernel
theorem dJ15_toBytes_0 : decode cJ15_toBytes 0 = .ok (.iconst 1, 1) := dk_4 (dk_at dksJ15_toBytes_0 0 rfl rfl)
theorem dJ15_toBytes_1 : decode cJ15_toBytes 1 = .ok (.newarray .byte, 2) := dk_188_8 (dk_at dksJ15_toBytes_0 1 rfl rfl)
theorem dJ15_toBytes_3 : decode cJ15_toBytes 3 = .ok (.dup, 1) := dk_89 (dk_at dksJ15_toBytes_0 3 rfl rfl)
theorem dJ15_toBytes_4 : decode cJ15_toBytes 4 = .ok (.iconst 0, 1) := dk_3 (dk_at dksJ15_toBytes_0 4 rfl rfl)
theorem dJ15_toBytes_5 : decode cJ15_toBytes 5 = .ok (.iload_n 0, 1) := dk_26 (dk_at dksJ15_toBytes_0 5 rfl rfl)
theorem dJ15_toBytes_6 : decode cJ15_toBytes 6 = .ok (.i2b, 1) := dk_145 (dk_at dksJ15_toBytes_0 6 rfl rfl)
theorem dJ15_toBytes_7 : decode cJ15_toBytes 7 = .ok (.bastore, 1) := dk_84 (dk_at dksJ15_toBytes_0 7 rfl rfl)
theorem dJ15_toBytes_8 : decode cJ15_toBytes 8 = .ok (.areturn, 1) := dk_176 (dk_at dksJ15_toBytes_0 8 rfl rfl)
abbrev cJ15_equals : ByteArray := prog_38_method_13_code
def yJ15_equals : MethodName := ⟨RJ15, "equals", "([B[B)Z"⟩
def dkwJ15_equals_1 : List UInt8 := [3, 172, 132, 2, 1, 167, 255, 236, 4, 172, 3, 172]
abbrev dktJ15_equals_1 : List UInt8 := dkwJ15_equals_1 ++ []
def dkwJ15_equals_0 : List UInt8 := [42, 190, 43, 190, 160, 0, 30, 3, 61, 28, 42, 190, 162, 0, 20, 42, 28, 51, 43, 28, 51, 159, 0, 5]
abbrev dktJ15_equals_0 : List UInt8 := dkwJ15_equals_0 ++ dktJ15_equals_1
theorem dksJ15_equals_0 : cJ15_equals.data.toList.drop 0 = dktJ15_equals_0 := by decide +kernel
theorem dksJ15_equals_1 : cJ15_equals.data.toList.drop 24 = dktJ15_equals_1 := dk_seg dksJ15_equals_0 24 rfl rfl
theorem dJ15_equals_0 : decode cJ15_equals 0 = .ok (.aload_n 0, 1) := dk_42 (dk_at dksJ15_equals_0 0 rfl rfl)
theorem dJ15_equals_1 : decode cJ15_equals 1 = .ok (.arraylength, 1) := dk_190 (dk_at dksJ15_equals_0 1 rfl rfl)
theorem dJ15_equals_2 : decode cJ15_equals 2 = .ok (.aload_n 1, 1) := dk_43 (dk_at dksJ15_equals_0 2 rfl rfl)
theorem dJ15_equals_3 : decode cJ15_equals 3 = .ok (.arraylength, 1) := dk_190 (dk_at dksJ15_equals_0 3 rfl rfl)
theorem dJ15_equals_4 : decode cJ15_equals 4 = .ok (.if_icmp .ne 30, 3) := dk_160 0 30 (dk_at dksJ15_equals_0 4 rfl rfl)
theorem dJ15_equals_7 : decode cJ15_equals 7 = .ok (.iconst 0, 1) := dk_3 (dk_at dksJ15_equals_0 7 rfl rfl)
theorem dJ15_equals_8 : decode cJ15_equals 8 = .ok (.istore_n 2, 1) := dk_61 (dk_at dksJ15_equals_0 8 rfl rfl)
theorem dJ15_equals_9 : decode cJ15_equals 9 = .ok (.iload_n 2, 1) := dk_28 (dk_at dksJ15_equals_0 9 rfl rfl)
theorem dJ15_equals_10 : decode cJ15_equals 10 = .ok (.aload_n 0, 1) := dk_42 (dk_at dksJ15_equals_0 10 rfl rfl)
theorem dJ15_equals_11 : decode cJ15_equals 11 = .ok (.arraylength, 1) := dk_190 (dk_at dksJ15_equals_0 11 rfl rfl)
theorem dJ15_equals_12 : decode cJ15_equals 12 = .ok (.if_icmp .ge 20, 3) := dk_162 0 20 (dk_at dksJ15_equals_0 12 rfl rfl)
theorem dJ15_equals_15 : decode cJ15_equals 15 = .ok (.aload_n 0, 1) := dk_42 (dk_at dksJ15_equals_0 15 rfl rfl)
theorem dJ15_equals_16 : decode cJ15_equals 16 = .ok (.iload_n 2, 1) := dk_28 (dk_at dksJ15_equals_0 16 rfl rfl)
theorem dJ15_equals_17 : decode cJ15_equals 17 = .ok (.baload, 1) := dk_51 (dk_at dksJ15_equals_0 17 rfl rfl)
theorem dJ15_equals_18 : decode cJ15_equals 18 = .ok (.aload_n 1, 1) := dk_43 (dk_at dksJ15_equals_0 18 rfl rfl)
theorem dJ15_equals_19 : decode cJ15_equals 19 = .ok (.iload_n 2, 1) := dk_28 (dk_at dksJ15_equals_0 19 rfl rfl)
theorem dJ15_equals_20 : decode cJ15_equals 20 = .ok (.baload, 1) := dk_51 (dk_at dksJ15_equals_0 20 rfl rfl)
theorem dJ15_equals_21 : decode cJ15_equals 21 = .ok (.if_icmp .eq 5, 3) := dk_159 0 5 (dk_at dksJ15_equals_0 21 rfl rfl)
theorem dJ15_equals_24 : decode cJ15_equals 24 = .ok (.iconst 0, 1) := dk_3 (dk_at dksJ15_equals_1 0 rfl rfl)
theorem dJ15_equals_25 : decode cJ15_equals 25 = .ok (.ireturn, 1) := dk_172 (dk_at dksJ15_equals_1 1 rfl rfl)
theorem dJ15_equals_26 : decode cJ15_equals 26 = .ok (.iinc 2 1, 3) := dk_132 2 1 (dk_at dksJ15_equals_1 2 rfl rfl)
theorem dJ15_equals_29 : decode cJ15_equals 29 = .ok (.goto (-20), 3) := dk_167 255 236 (dk_at dksJ15_equals_1 5 rfl rfl)
theorem dJ15_equals_32 : decode cJ15_equals 32 = .ok (.iconst 1, 1) := dk_4 (dk_at dksJ15_equals_1 8 rfl rfl)
theorem dJ15_equals_33 : decode cJ15_equals 33 = .ok (.ireturn, 1) := dk_172 (dk_at dksJ15_equals_1 9 rfl rfl)
theorem dJ15_equals_34 : decode cJ15_equals 34 = .ok (.iconst 0, 1) := dk_3 (dk_at dksJ15_equals_1 10 rfl rfl)
theorem dJ15_equals_35 : decode cJ15_equals 35 = .ok (.ireturn, 1) := dk_172 (dk_at dksJ15_equals_1 11 rfl rfl)
abbrev cJ15_charAt : ByteArray := prog_38_method_2_code
def yJ15_charAt : MethodName := ⟨RJ15, "charAt", "([BI)C"⟩
def dkwJ15_charAt_0 : List UInt8 := [27, 42, 190, 184, 0, 9, 42, 27, 51, 17, 0, 255, 126, 146, 172]
abbrev dktJ15_charAt_0 : List UInt8 := dkwJ15_charAt_0 ++ []
theorem dksJ15_charAt_0 : cJ15_charAt.data.toList.drop 0 = dktJ15_charAt_0 := by decide +kernel
theorem dJ15_charAt_0 : decode cJ15_charAt 0 = .ok (.iload_n 1, 1) := dk_27 (dk_at dksJ15_charAt_0 0 rfl rfl)
theorem dJ15_charAt_1 : decode cJ15_charAt 1 = .ok (.aload_n 0, 1) := dk_42 (dk_at dksJ15_charAt_0 1 rfl rfl)
theorem dJ15_charAt_2 : decode cJ15_charAt 2 = .ok (.arraylength, 1) := dk_190 (dk_at dksJ15_charAt_0 2 rfl rfl)
theorem dJ15_charAt_3 : decode cJ15_charAt 3 = .ok (.invokestatic 9, 3) := dk_184 0 9 (dk_at dksJ15_charAt_0 3 rfl rfl)
theorem dJ15_charAt_6 : decode cJ15_charAt 6 = .ok (.aload_n 0, 1) := dk_42 (dk_at dksJ15_charAt_0 6 rfl rfl)
theorem dJ15_charAt_7 : decode cJ15_charAt 7 = .ok (.iload_n 1, 1) := dk_27 (dk_at dksJ15_charAt_0 7 rfl rfl)
theorem dJ15_charAt_8 : decode cJ15_charAt 8 = .ok (.baload, 1) := dk_51 (dk_at dksJ15_charAt_0 8 rfl rfl)
theorem dJ15_charAt_9 : decode cJ15_charAt 9 = .ok (.sipush 255, 3) := dk_17 0 255 (dk_at dksJ15_charAt_0 9 rfl rfl)
theorem dJ15_charAt_12 : decode cJ15_charAt 12 = .ok (.iand, 1) := dk_126 (dk_at dksJ15_charAt_0 12 rfl rfl)
theorem dJ15_charAt_13 : decode cJ15_charAt 13 = .ok (.i2c, 1) := dk_146 (dk_at dksJ15_charAt_0 13 rfl rfl)
theorem dJ15_charAt_14 : decode cJ15_charAt 14 = .ok (.ireturn, 1) := dk_172 (dk_at dksJ15_charAt_0 14 rfl rfl)
/-! java/lang/Integer: codes (from claim/names) -/
abbrev cJ16_stringSize : ByteArray := prog_31_method_13_code
def yJ16_stringSize : MethodName := ⟨RJ16, "stringSize", "(I)I"⟩
def dkwJ16_stringSize_1 : List UInt8 := [164, 0, 7, 29, 27, 96, 172, 16, 10, 28, 104, 61, 132, 3, 1, 167, 255, 233, 16, 10, 27, 96, 172]
abbrev dktJ16_stringSize_1 : List UInt8 := dkwJ16_stringSize_1 ++ []
def dkwJ16_stringSize_0 : List UInt8 := [4, 60, 26, 155, 0, 8, 3, 60, 26, 116, 59, 16, 246, 61, 4, 62, 29, 16, 10, 162, 0, 23, 26, 28]
abbrev dktJ16_stringSize_0 : List UInt8 := dkwJ16_stringSize_0 ++ dktJ16_stringSize_1
theorem dksJ16_stringSize_0 : cJ16_stringSize.data.toList.drop 0 = dktJ16_stringSize_0 := by decide +kernel
theorem dksJ16_stringSize_1 : cJ16_stringSize.data.toList.drop 24 = dktJ16_stringSize_1 := dk_seg dksJ16_stringSize_0 24 rfl rfl
theorem dJ16_stringSize_0 : decode cJ16_stringSize 0 = .ok (.iconst 1, 1) := dk_4 (dk_at dksJ16_stringSize_0 0 rfl rfl)
theorem dJ16_stringSize_1 : decode cJ16_stringSize 1 = .ok (.istore_n 1, 1) := dk_60 (dk_at dksJ16_stringSize_0 1 rfl rfl)
theorem dJ16_stringSize_2 : decode cJ16_stringSize 2 = .ok (.iload_n 0, 1) := dk_26 (dk_at dksJ16_stringSize_0 2 rfl rfl)
theorem dJ16_stringSize_3 : decode cJ16_stringSize 3 = .ok (.ifCond .lt 8, 3) := dk_155 0 8 (dk_at dksJ16_stringSize_0 3 rfl rfl)
theorem dJ16_stringSize_6 : decode cJ16_stringSize 6 = .ok (.iconst 0, 1) := dk_3 (dk_at dksJ16_stringSize_0 6 rfl rfl)
theorem dJ16_stringSize_7 : decode cJ16_stringSize 7 = .ok (.istore_n 1, 1) := dk_60 (dk_at dksJ16_stringSize_0 7 rfl rfl)
theorem dJ16_stringSize_8 : decode cJ16_stringSize 8 = .ok (.iload_n 0, 1) := dk_26 (dk_at dksJ16_stringSize_0 8 rfl rfl)
theorem dJ16_stringSize_9 : decode cJ16_stringSize 9 = .ok (.ineg, 1) := dk_116 (dk_at dksJ16_stringSize_0 9 rfl rfl)
theorem dJ16_stringSize_10 : decode cJ16_stringSize 10 = .ok (.istore_n 0, 1) := dk_59 (dk_at dksJ16_stringSize_0 10 rfl rfl)
theorem dJ16_stringSize_11 : decode cJ16_stringSize 11 = .ok (.bipush (-10), 2) := dk_16 246 (dk_at dksJ16_stringSize_0 11 rfl rfl)
theorem dJ16_stringSize_13 : decode cJ16_stringSize 13 = .ok (.istore_n 2, 1) := dk_61 (dk_at dksJ16_stringSize_0 13 rfl rfl)
theorem dJ16_stringSize_14 : decode cJ16_stringSize 14 = .ok (.iconst 1, 1) := dk_4 (dk_at dksJ16_stringSize_0 14 rfl rfl)
theorem dJ16_stringSize_15 : decode cJ16_stringSize 15 = .ok (.istore_n 3, 1) := dk_62 (dk_at dksJ16_stringSize_0 15 rfl rfl)
theorem dJ16_stringSize_16 : decode cJ16_stringSize 16 = .ok (.iload_n 3, 1) := dk_29 (dk_at dksJ16_stringSize_0 16 rfl rfl)
theorem dJ16_stringSize_17 : decode cJ16_stringSize 17 = .ok (.bipush 10, 2) := dk_16 10 (dk_at dksJ16_stringSize_0 17 rfl rfl)
theorem dJ16_stringSize_19 : decode cJ16_stringSize 19 = .ok (.if_icmp .ge 23, 3) := dk_162 0 23 (dk_at dksJ16_stringSize_0 19 rfl rfl)
theorem dJ16_stringSize_22 : decode cJ16_stringSize 22 = .ok (.iload_n 0, 1) := dk_26 (dk_at dksJ16_stringSize_0 22 rfl rfl)
theorem dJ16_stringSize_23 : decode cJ16_stringSize 23 = .ok (.iload_n 2, 1) := dk_28 (dk_at dksJ16_stringSize_0 23 rfl rfl)
theorem dJ16_stringSize_24 : decode cJ16_stringSize 24 = .ok (.if_icmp .le 7, 3) := dk_164 0 7 (dk_at dksJ16_stringSize_1 0 rfl rfl)
theorem dJ16_stringSize_27 : decode cJ16_stringSize 27 = .ok (.iload_n 3, 1) := dk_29 (dk_at dksJ16_stringSize_1 3 rfl rfl)
theorem dJ16_stringSize_28 : decode cJ16_stringSize 28 = .ok (.iload_n 1, 1) := dk_27 (dk_at dksJ16_stringSize_1 4 rfl rfl)
theorem dJ16_stringSize_29 : decode cJ16_stringSize 29 = .ok (.iadd, 1) := dk_96 (dk_at dksJ16_stringSize_1 5 rfl rfl)
theorem dJ16_stringSize_30 : decode cJ16_stringSize 30 = .ok (.ireturn, 1) := dk_172 (dk_at dksJ16_stringSize_1 6 rfl rfl)
theorem dJ16_stringSize_31 : decode cJ16_stringSize 31 = .ok (.bipush 10, 2) := dk_16 10 (dk_at dksJ16_stringSize_1 7 rfl rfl)
theorem dJ16_stringSize_33 : decode cJ16_stringSize 33 = .ok (.iload_n 2, 1) := dk_28 (dk_at dksJ16_stringSize_1 9 rfl rfl)
theorem dJ16_stringSize_34 : decode cJ16_stringSize 34 = .ok (.imul, 1) := dk_104 (dk_at dksJ16_stringSize_1 10 rfl rfl)
theorem dJ16_stringSize_35 : decode cJ16_stringSize 35 = .ok (.istore_n 2, 1) := dk_61 (dk_at dksJ16_stringSize_1 11 rfl rfl)
theorem dJ16_stringSize_36 : decode cJ16_stringSize 36 = .ok (.iinc 3 1, 3) := dk_132 3 1 (dk_at dksJ16_stringSize_1 12 rfl rfl)
theorem dJ16_stringSize_39 : decode cJ16_stringSize 39 = .ok (.goto (-23), 3) := dk_167 255 233 (dk_at dksJ16_stringSize_1 15 rfl rfl)
theorem dJ16_stringSize_42 : decode cJ16_stringSize 42 = .ok (.bipush 10, 2) := dk_16 10 (dk_at dksJ16_stringSize_1 18 rfl rfl)
theorem dJ16_stringSize_44 : decode cJ16_stringSize 44 = .ok (.iload_n 1, 1) := dk_27 (dk_at dksJ16_stringSize_1 20 rfl rfl)
theorem dJ16_stringSize_45 : decode cJ16_stringSize 45 = .ok (.iadd, 1) := dk_96 (dk_at dksJ16_stringSize_1 21 rfl rfl)
theorem dJ16_stringSize_46 : decode cJ16_stringSize 46 = .ok (.ireturn, 1) := dk_172 (dk_at dksJ16_stringSize_1 22 rfl rfl)
abbrev cJ16_getChars : ByteArray := prog_31_method_12_code
def yJ16_getChars : MethodName := ⟨RJ16, "getChars", "(II[B)I"⟩
def dkwJ16_getChars_5 : List UInt8 := [16, 45, 84, 21, 5, 172]
abbrev dktJ16_getChars_5 : List UInt8 := dkwJ16_getChars_5 ++ []
def dkwJ16_getChars_4 : List UInt8 := [132, 5, 255, 21, 5, 178, 0, 87, 26, 116, 51, 84, 21, 6, 153, 0, 12, 44, 132, 5, 255, 21, 5]
abbrev dktJ16_getChars_4 : List UInt8 := dkwJ16_getChars_4 ++ dktJ16_getChars_5
def dkwJ16_getChars_3 : List UInt8 := [167, 255, 209, 44, 132, 5, 255, 21, 5, 178, 0, 83, 26, 116, 51, 84, 26, 16, 247, 162, 0, 16, 44]
abbrev dktJ16_getChars_3 : List UInt8 := dkwJ16_getChars_3 ++ dktJ16_getChars_4
def dkwJ16_getChars_2 : List UInt8 := [21, 5, 178, 0, 83, 21, 4, 51, 84, 44, 132, 5, 255, 21, 5, 178, 0, 87, 21, 4, 51, 84]
abbrev dktJ16_getChars_2 : List UInt8 := dkwJ16_getChars_2 ++ dktJ16_getChars_3
def dkwJ16_getChars_1 : List UInt8 := [16, 156, 163, 0, 47, 26, 16, 100, 108, 62, 29, 16, 100, 104, 26, 100, 54, 4, 29, 59, 44, 132, 5, 255]
abbrev dktJ16_getChars_1 : List UInt8 := dkwJ16_getChars_1 ++ dktJ16_getChars_2
def dkwJ16_getChars_0 : List UInt8 := [27, 54, 5, 26, 156, 0, 7, 4, 167, 0, 4, 3, 54, 6, 21, 6, 154, 0, 6, 26, 116, 59, 26]
abbrev dktJ16_getChars_0 : List UInt8 := dkwJ16_getChars_0 ++ dktJ16_getChars_1
theorem dksJ16_getChars_0 : cJ16_getChars.data.toList.drop 0 = dktJ16_getChars_0 := by decide +kernel
theorem dksJ16_getChars_1 : cJ16_getChars.data.toList.drop 23 = dktJ16_getChars_1 := dk_seg dksJ16_getChars_0 23 rfl rfl
theorem dksJ16_getChars_2 : cJ16_getChars.data.toList.drop 47 = dktJ16_getChars_2 := dk_seg dksJ16_getChars_1 24 rfl rfl
theorem dksJ16_getChars_3 : cJ16_getChars.data.toList.drop 69 = dktJ16_getChars_3 := dk_seg dksJ16_getChars_2 22 rfl rfl
theorem dksJ16_getChars_4 : cJ16_getChars.data.toList.drop 92 = dktJ16_getChars_4 := dk_seg dksJ16_getChars_3 23 rfl rfl
theorem dksJ16_getChars_5 : cJ16_getChars.data.toList.drop 115 = dktJ16_getChars_5 := dk_seg dksJ16_getChars_4 23 rfl rfl
theorem dJ16_getChars_0 : decode cJ16_getChars 0 = .ok (.iload_n 1, 1) := dk_27 (dk_at dksJ16_getChars_0 0 rfl rfl)
theorem dJ16_getChars_1 : decode cJ16_getChars 1 = .ok (.istore 5, 2) := dk_54 5 (dk_at dksJ16_getChars_0 1 rfl rfl)
theorem dJ16_getChars_3 : decode cJ16_getChars 3 = .ok (.iload_n 0, 1) := dk_26 (dk_at dksJ16_getChars_0 3 rfl rfl)
theorem dJ16_getChars_4 : decode cJ16_getChars 4 = .ok (.ifCond .ge 7, 3) := dk_156 0 7 (dk_at dksJ16_getChars_0 4 rfl rfl)
theorem dJ16_getChars_7 : decode cJ16_getChars 7 = .ok (.iconst 1, 1) := dk_4 (dk_at dksJ16_getChars_0 7 rfl rfl)
theorem dJ16_getChars_8 : decode cJ16_getChars 8 = .ok (.goto 4, 3) := dk_167 0 4 (dk_at dksJ16_getChars_0 8 rfl rfl)
theorem dJ16_getChars_11 : decode cJ16_getChars 11 = .ok (.iconst 0, 1) := dk_3 (dk_at dksJ16_getChars_0 11 rfl rfl)
theorem dJ16_getChars_12 : decode cJ16_getChars 12 = .ok (.istore 6, 2) := dk_54 6 (dk_at dksJ16_getChars_0 12 rfl rfl)
theorem dJ16_getChars_14 : decode cJ16_getChars 14 = .ok (.iload 6, 2) := dk_21 6 (dk_at dksJ16_getChars_0 14 rfl rfl)
theorem dJ16_getChars_16 : decode cJ16_getChars 16 = .ok (.ifCond .ne 6, 3) := dk_154 0 6 (dk_at dksJ16_getChars_0 16 rfl rfl)
theorem dJ16_getChars_19 : decode cJ16_getChars 19 = .ok (.iload_n 0, 1) := dk_26 (dk_at dksJ16_getChars_0 19 rfl rfl)
theorem dJ16_getChars_20 : decode cJ16_getChars 20 = .ok (.ineg, 1) := dk_116 (dk_at dksJ16_getChars_0 20 rfl rfl)
theorem dJ16_getChars_21 : decode cJ16_getChars 21 = .ok (.istore_n 0, 1) := dk_59 (dk_at dksJ16_getChars_0 21 rfl rfl)
theorem dJ16_getChars_22 : decode cJ16_getChars 22 = .ok (.iload_n 0, 1) := dk_26 (dk_at dksJ16_getChars_0 22 rfl rfl)
theorem dJ16_getChars_23 : decode cJ16_getChars 23 = .ok (.bipush (-100), 2) := dk_16 156 (dk_at dksJ16_getChars_1 0 rfl rfl)
theorem dJ16_getChars_25 : decode cJ16_getChars 25 = .ok (.if_icmp .gt 47, 3) := dk_163 0 47 (dk_at dksJ16_getChars_1 2 rfl rfl)
theorem dJ16_getChars_28 : decode cJ16_getChars 28 = .ok (.iload_n 0, 1) := dk_26 (dk_at dksJ16_getChars_1 5 rfl rfl)
theorem dJ16_getChars_29 : decode cJ16_getChars 29 = .ok (.bipush 100, 2) := dk_16 100 (dk_at dksJ16_getChars_1 6 rfl rfl)
theorem dJ16_getChars_31 : decode cJ16_getChars 31 = .ok (.idiv, 1) := dk_108 (dk_at dksJ16_getChars_1 8 rfl rfl)
theorem dJ16_getChars_32 : decode cJ16_getChars 32 = .ok (.istore_n 3, 1) := dk_62 (dk_at dksJ16_getChars_1 9 rfl rfl)
theorem dJ16_getChars_33 : decode cJ16_getChars 33 = .ok (.iload_n 3, 1) := dk_29 (dk_at dksJ16_getChars_1 10 rfl rfl)
theorem dJ16_getChars_34 : decode cJ16_getChars 34 = .ok (.bipush 100, 2) := dk_16 100 (dk_at dksJ16_getChars_1 11 rfl rfl)
theorem dJ16_getChars_36 : decode cJ16_getChars 36 = .ok (.imul, 1) := dk_104 (dk_at dksJ16_getChars_1 13 rfl rfl)
theorem dJ16_getChars_37 : decode cJ16_getChars 37 = .ok (.iload_n 0, 1) := dk_26 (dk_at dksJ16_getChars_1 14 rfl rfl)
theorem dJ16_getChars_38 : decode cJ16_getChars 38 = .ok (.isub, 1) := dk_100 (dk_at dksJ16_getChars_1 15 rfl rfl)
theorem dJ16_getChars_39 : decode cJ16_getChars 39 = .ok (.istore 4, 2) := dk_54 4 (dk_at dksJ16_getChars_1 16 rfl rfl)
theorem dJ16_getChars_41 : decode cJ16_getChars 41 = .ok (.iload_n 3, 1) := dk_29 (dk_at dksJ16_getChars_1 18 rfl rfl)
theorem dJ16_getChars_42 : decode cJ16_getChars 42 = .ok (.istore_n 0, 1) := dk_59 (dk_at dksJ16_getChars_1 19 rfl rfl)
theorem dJ16_getChars_43 : decode cJ16_getChars 43 = .ok (.aload_n 2, 1) := dk_44 (dk_at dksJ16_getChars_1 20 rfl rfl)
theorem dJ16_getChars_44 : decode cJ16_getChars 44 = .ok (.iinc 5 (-1), 3) := dk_132 5 255 (dk_at dksJ16_getChars_1 21 rfl rfl)
theorem dJ16_getChars_47 : decode cJ16_getChars 47 = .ok (.iload 5, 2) := dk_21 5 (dk_at dksJ16_getChars_2 0 rfl rfl)
theorem dJ16_getChars_49 : decode cJ16_getChars 49 = .ok (.getstatic 83, 3) := dk_178 0 83 (dk_at dksJ16_getChars_2 2 rfl rfl)
theorem dJ16_getChars_52 : decode cJ16_getChars 52 = .ok (.iload 4, 2) := dk_21 4 (dk_at dksJ16_getChars_2 5 rfl rfl)
theorem dJ16_getChars_54 : decode cJ16_getChars 54 = .ok (.baload, 1) := dk_51 (dk_at dksJ16_getChars_2 7 rfl rfl)
theorem dJ16_getChars_55 : decode cJ16_getChars 55 = .ok (.bastore, 1) := dk_84 (dk_at dksJ16_getChars_2 8 rfl rfl)
theorem dJ16_getChars_56 : decode cJ16_getChars 56 = .ok (.aload_n 2, 1) := dk_44 (dk_at dksJ16_getChars_2 9 rfl rfl)
theorem dJ16_getChars_57 : decode cJ16_getChars 57 = .ok (.iinc 5 (-1), 3) := dk_132 5 255 (dk_at dksJ16_getChars_2 10 rfl rfl)
theorem dJ16_getChars_60 : decode cJ16_getChars 60 = .ok (.iload 5, 2) := dk_21 5 (dk_at dksJ16_getChars_2 13 rfl rfl)
theorem dJ16_getChars_62 : decode cJ16_getChars 62 = .ok (.getstatic 87, 3) := dk_178 0 87 (dk_at dksJ16_getChars_2 15 rfl rfl)
theorem dJ16_getChars_65 : decode cJ16_getChars 65 = .ok (.iload 4, 2) := dk_21 4 (dk_at dksJ16_getChars_2 18 rfl rfl)
theorem dJ16_getChars_67 : decode cJ16_getChars 67 = .ok (.baload, 1) := dk_51 (dk_at dksJ16_getChars_2 20 rfl rfl)
theorem dJ16_getChars_68 : decode cJ16_getChars 68 = .ok (.bastore, 1) := dk_84 (dk_at dksJ16_getChars_2 21 rfl rfl)
theorem dJ16_getChars_69 : decode cJ16_getChars 69 = .ok (.goto (-47), 3) := dk_167 255 209 (dk_at dksJ16_getChars_3 0 rfl rfl)
theorem dJ16_getChars_72 : decode cJ16_getChars 72 = .ok (.aload_n 2, 1) := dk_44 (dk_at dksJ16_getChars_3 3 rfl rfl)
theorem dJ16_getChars_73 : decode cJ16_getChars 73 = .ok (.iinc 5 (-1), 3) := dk_132 5 255 (dk_at dksJ16_getChars_3 4 rfl rfl)
theorem dJ16_getChars_76 : decode cJ16_getChars 76 = .ok (.iload 5, 2) := dk_21 5 (dk_at dksJ16_getChars_3 7 rfl rfl)
theorem dJ16_getChars_78 : decode cJ16_getChars 78 = .ok (.getstatic 83, 3) := dk_178 0 83 (dk_at dksJ16_getChars_3 9 rfl rfl)
theorem dJ16_getChars_81 : decode cJ16_getChars 81 = .ok (.iload_n 0, 1) := dk_26 (dk_at dksJ16_getChars_3 12 rfl rfl)
theorem dJ16_getChars_82 : decode cJ16_getChars 82 = .ok (.ineg, 1) := dk_116 (dk_at dksJ16_getChars_3 13 rfl rfl)
theorem dJ16_getChars_83 : decode cJ16_getChars 83 = .ok (.baload, 1) := dk_51 (dk_at dksJ16_getChars_3 14 rfl rfl)
theorem dJ16_getChars_84 : decode cJ16_getChars 84 = .ok (.bastore, 1) := dk_84 (dk_at dksJ16_getChars_3 15 rfl rfl)
theorem dJ16_getChars_85 : decode cJ16_getChars 85 = .ok (.iload_n 0, 1) := dk_26 (dk_at dksJ16_getChars_3 16 rfl rfl)
theorem dJ16_getChars_86 : decode cJ16_getChars 86 = .ok (.bipush (-9), 2) := dk_16 247 (dk_at dksJ16_getChars_3 17 rfl rfl)
theorem dJ16_getChars_88 : decode cJ16_getChars 88 = .ok (.if_icmp .ge 16, 3) := dk_162 0 16 (dk_at dksJ16_getChars_3 19 rfl rfl)
theorem dJ16_getChars_91 : decode cJ16_getChars 91 = .ok (.aload_n 2, 1) := dk_44 (dk_at dksJ16_getChars_3 22 rfl rfl)
theorem dJ16_getChars_92 : decode cJ16_getChars 92 = .ok (.iinc 5 (-1), 3) := dk_132 5 255 (dk_at dksJ16_getChars_4 0 rfl rfl)
theorem dJ16_getChars_95 : decode cJ16_getChars 95 = .ok (.iload 5, 2) := dk_21 5 (dk_at dksJ16_getChars_4 3 rfl rfl)
theorem dJ16_getChars_97 : decode cJ16_getChars 97 = .ok (.getstatic 87, 3) := dk_178 0 87 (dk_at dksJ16_getChars_4 5 rfl rfl)
theorem dJ16_getChars_100 : decode cJ16_getChars 100 = .ok (.iload_n 0, 1) := dk_26 (dk_at dksJ16_getChars_4 8 rfl rfl)
theorem dJ16_getChars_101 : decode cJ16_getChars 101 = .ok (.ineg, 1) := dk_116 (dk_at dksJ16_getChars_4 9 rfl rfl)
theorem dJ16_getChars_102 : decode cJ16_getChars 102 = .ok (.baload, 1) := dk_51 (dk_at dksJ16_getChars_4 10 rfl rfl)
theorem dJ16_getChars_103 : decode cJ16_getChars 103 = .ok (.bastore, 1) := dk_84 (dk_at dksJ16_getChars_4 11 rfl rfl)
theorem dJ16_getChars_104 : decode cJ16_getChars 104 = .ok (.iload 6, 2) := dk_21 6 (dk_at dksJ16_getChars_4 12 rfl rfl)
theorem dJ16_getChars_106 : decode cJ16_getChars 106 = .ok (.ifCond .eq 12, 3) := dk_153 0 12 (dk_at dksJ16_getChars_4 14 rfl rfl)
theorem dJ16_getChars_109 : decode cJ16_getChars 109 = .ok (.aload_n 2, 1) := dk_44 (dk_at dksJ16_getChars_4 17 rfl rfl)
theorem dJ16_getChars_110 : decode cJ16_getChars 110 = .ok (.iinc 5 (-1), 3) := dk_132 5 255 (dk_at dksJ16_getChars_4 18 rfl rfl)
theorem dJ16_getChars_113 : decode cJ16_getChars 113 = .ok (.iload 5, 2) := dk_21 5 (dk_at dksJ16_getChars_4 21 rfl rfl)
theorem dJ16_getChars_115 : decode cJ16_getChars 115 = .ok (.bipush 45, 2) := dk_16 45 (dk_at dksJ16_getChars_5 0 rfl rfl)
theorem dJ16_getChars_117 : decode cJ16_getChars 117 = .ok (.bastore, 1) := dk_84 (dk_at dksJ16_getChars_5 2 rfl rfl)
theorem dJ16_getChars_118 : decode cJ16_getChars 118 = .ok (.iload 5, 2) := dk_21 5 (dk_at dksJ16_getChars_5 3 rfl rfl)
theorem dJ16_getChars_120 : decode cJ16_getChars 120 = .ok (.ireturn, 1) := dk_172 (dk_at dksJ16_getChars_5 5 rfl rfl)
abbrev cJ16_bitCount : ByteArray := prog_31_method_49_code
def yJ16_bitCount : MethodName := ⟨RJ16, "bitCount", "(I)I"⟩
def dkwJ16_bitCount_2 : List UInt8 := [26, 16, 63, 126, 172]
abbrev dktJ16_bitCount_2 : List UInt8 := dkwJ16_bitCount_2 ++ []
def dkwJ16_bitCount_1 : List UInt8 := [26, 26, 7, 124, 96, 19, 1, 11, 126, 59, 26, 26, 16, 8, 124, 96, 59, 26, 26, 16, 16, 124, 96, 59]
abbrev dktJ16_bitCount_1 : List UInt8 := dkwJ16_bitCount_1 ++ dktJ16_bitCount_2
def dkwJ16_bitCount_0 : List UInt8 := [26, 26, 4, 124, 19, 1, 9, 126, 100, 59, 26, 19, 1, 10, 126, 26, 5, 124, 19, 1, 10, 126, 96, 59]
abbrev dktJ16_bitCount_0 : List UInt8 := dkwJ16_bitCount_0 ++ dktJ16_bitCount_1
theorem dksJ16_bitCount_0 : cJ16_bitCount.data.toList.drop 0 = dktJ16_bitCount_0 := by decide +kernel
theorem dksJ16_bitCount_1 : cJ16_bitCount.data.toList.drop 24 = dktJ16_bitCount_1 := dk_seg dksJ16_bitCount_0 24 rfl rfl
theorem dksJ16_bitCount_2 : cJ16_bitCount.data.toList.drop 48 = dktJ16_bitCount_2 := dk_seg dksJ16_bitCount_1 24 rfl rfl
theorem dJ16_bitCount_0 : decode cJ16_bitCount 0 = .ok (.iload_n 0, 1) := dk_26 (dk_at dksJ16_bitCount_0 0 rfl rfl)
theorem dJ16_bitCount_1 : decode cJ16_bitCount 1 = .ok (.iload_n 0, 1) := dk_26 (dk_at dksJ16_bitCount_0 1 rfl rfl)
theorem dJ16_bitCount_2 : decode cJ16_bitCount 2 = .ok (.iconst 1, 1) := dk_4 (dk_at dksJ16_bitCount_0 2 rfl rfl)
theorem dJ16_bitCount_3 : decode cJ16_bitCount 3 = .ok (.iushr, 1) := dk_124 (dk_at dksJ16_bitCount_0 3 rfl rfl)
theorem dJ16_bitCount_4 : decode cJ16_bitCount 4 = .ok (.ldc_w 265, 3) := dk_19 1 9 (dk_at dksJ16_bitCount_0 4 rfl rfl)
theorem dJ16_bitCount_7 : decode cJ16_bitCount 7 = .ok (.iand, 1) := dk_126 (dk_at dksJ16_bitCount_0 7 rfl rfl)
theorem dJ16_bitCount_8 : decode cJ16_bitCount 8 = .ok (.isub, 1) := dk_100 (dk_at dksJ16_bitCount_0 8 rfl rfl)
theorem dJ16_bitCount_9 : decode cJ16_bitCount 9 = .ok (.istore_n 0, 1) := dk_59 (dk_at dksJ16_bitCount_0 9 rfl rfl)
theorem dJ16_bitCount_10 : decode cJ16_bitCount 10 = .ok (.iload_n 0, 1) := dk_26 (dk_at dksJ16_bitCount_0 10 rfl rfl)
theorem dJ16_bitCount_11 : decode cJ16_bitCount 11 = .ok (.ldc_w 266, 3) := dk_19 1 10 (dk_at dksJ16_bitCount_0 11 rfl rfl)
theorem dJ16_bitCount_14 : decode cJ16_bitCount 14 = .ok (.iand, 1) := dk_126 (dk_at dksJ16_bitCount_0 14 rfl rfl)
theorem dJ16_bitCount_15 : decode cJ16_bitCount 15 = .ok (.iload_n 0, 1) := dk_26 (dk_at dksJ16_bitCount_0 15 rfl rfl)
theorem dJ16_bitCount_16 : decode cJ16_bitCount 16 = .ok (.iconst 2, 1) := dk_5 (dk_at dksJ16_bitCount_0 16 rfl rfl)
theorem dJ16_bitCount_17 : decode cJ16_bitCount 17 = .ok (.iushr, 1) := dk_124 (dk_at dksJ16_bitCount_0 17 rfl rfl)
theorem dJ16_bitCount_18 : decode cJ16_bitCount 18 = .ok (.ldc_w 266, 3) := dk_19 1 10 (dk_at dksJ16_bitCount_0 18 rfl rfl)
theorem dJ16_bitCount_21 : decode cJ16_bitCount 21 = .ok (.iand, 1) := dk_126 (dk_at dksJ16_bitCount_0 21 rfl rfl)
theorem dJ16_bitCount_22 : decode cJ16_bitCount 22 = .ok (.iadd, 1) := dk_96 (dk_at dksJ16_bitCount_0 22 rfl rfl)
theorem dJ16_bitCount_23 : decode cJ16_bitCount 23 = .ok (.istore_n 0, 1) := dk_59 (dk_at dksJ16_bitCount_0 23 rfl rfl)
theorem dJ16_bitCount_24 : decode cJ16_bitCount 24 = .ok (.iload_n 0, 1) := dk_26 (dk_at dksJ16_bitCount_1 0 rfl rfl)
theorem dJ16_bitCount_25 : decode cJ16_bitCount 25 = .ok (.iload_n 0, 1) := dk_26 (dk_at dksJ16_bitCount_1 1 rfl rfl)
theorem dJ16_bitCount_26 : decode cJ16_bitCount 26 = .ok (.iconst 4, 1) := dk_7 (dk_at dksJ16_bitCount_1 2 rfl rfl)
theorem dJ16_bitCount_27 : decode cJ16_bitCount 27 = .ok (.iushr, 1) := dk_124 (dk_at dksJ16_bitCount_1 3 rfl rfl)
theorem dJ16_bitCount_28 : decode cJ16_bitCount 28 = .ok (.iadd, 1) := dk_96 (dk_at dksJ16_bitCount_1 4 rfl rfl)
theorem dJ16_bitCount_29 : decode cJ16_bitCount 29 = .ok (.ldc_w 267, 3) := dk_19 1 11 (dk_at dksJ16_bitCount_1 5 rfl rfl)
theorem dJ16_bitCount_32 : decode cJ16_bitCount 32 = .ok (.iand, 1) := dk_126 (dk_at dksJ16_bitCount_1 8 rfl rfl)
theorem dJ16_bitCount_33 : decode cJ16_bitCount 33 = .ok (.istore_n 0, 1) := dk_59 (dk_at dksJ16_bitCount_1 9 rfl rfl)
theorem dJ16_bitCount_34 : decode cJ16_bitCount 34 = .ok (.iload_n 0, 1) := dk_26 (dk_at dksJ16_bitCount_1 10 rfl rfl)
theorem dJ16_bitCount_35 : decode cJ16_bitCount 35 = .ok (.iload_n 0, 1) := dk_26 (dk_at dksJ16_bitCount_1 11 rfl rfl)
theorem dJ16_bitCount_36 : decode cJ16_bitCount 36 = .ok (.bipush 8, 2) := dk_16 8 (dk_at dksJ16_bitCount_1 12 rfl rfl)
theorem dJ16_bitCount_38 : decode cJ16_bitCount 38 = .ok (.iushr, 1) := dk_124 (dk_at dksJ16_bitCount_1 14 rfl rfl)
theorem dJ16_bitCount_39 : decode cJ16_bitCount 39 = .ok (.iadd, 1) := dk_96 (dk_at dksJ16_bitCount_1 15 rfl rfl)
theorem dJ16_bitCount_40 : decode cJ16_bitCount 40 = .ok (.istore_n 0, 1) := dk_59 (dk_at dksJ16_bitCount_1 16 rfl rfl)
theorem dJ16_bitCount_41 : decode cJ16_bitCount 41 = .ok (.iload_n 0, 1) := dk_26 (dk_at dksJ16_bitCount_1 17 rfl rfl)
theorem dJ16_bitCount_42 : decode cJ16_bitCount 42 = .ok (.iload_n 0, 1) := dk_26 (dk_at dksJ16_bitCount_1 18 rfl rfl)
theorem dJ16_bitCount_43 : decode cJ16_bitCount 43 = .ok (.bipush 16, 2) := dk_16 16 (dk_at dksJ16_bitCount_1 19 rfl rfl)
theorem dJ16_bitCount_45 : decode cJ16_bitCount 45 = .ok (.iushr, 1) := dk_124 (dk_at dksJ16_bitCount_1 21 rfl rfl)
theorem dJ16_bitCount_46 : decode cJ16_bitCount 46 = .ok (.iadd, 1) := dk_96 (dk_at dksJ16_bitCount_1 22 rfl rfl)
theorem dJ16_bitCount_47 : decode cJ16_bitCount 47 = .ok (.istore_n 0, 1) := dk_59 (dk_at dksJ16_bitCount_1 23 rfl rfl)
theorem dJ16_bitCount_48 : decode cJ16_bitCount 48 = .ok (.iload_n 0, 1) := dk_26 (dk_at dksJ16_bitCount_2 0 rfl rfl)
theorem dJ16_bitCount_49 : decode cJ16_bitCount 49 = .ok (.bipush 63, 2) := dk_16 63 (dk_at dksJ16_bitCount_2 1 rfl rfl)
theorem dJ16_bitCount_51 : decode cJ16_bitCount 51 = .ok (.iand, 1) := dk_126 (dk_at dksJ16_bitCount_2 3 rfl rfl)
theorem dJ16_bitCount_52 : decode cJ16_bitCount 52 = .ok (.ireturn, 1) := dk_172 (dk_at dksJ16_bitCount_2 4 rfl rfl)
/-! java/lang/Enum: codes (from claim/names) -/
abbrev cJ17_ordinal : ByteArray := prog_28_method_2_code
def yJ17_ordinal : MethodName := ⟨RJ17, "ordinal", "()I"⟩
theorem dJ17_ordinal_0 : decode cJ17_ordinal 0 = .ok (.aload_n 0, 1) := by decide +kernel
theorem dJ17_ordinal_1 : decode cJ17_ordinal 1 = .ok (.getfield 7, 3) := by decide +kernel
theorem dJ17_ordinal_4 : decode cJ17_ordinal 4 = .ok (.ireturn, 1) := by decide +kernel
/-! java/util/Objects: codes (from claim/names) -/
abbrev cJ18_checkIndex : ByteArray := prog_51_method_17_code
def yJ18_checkIndex : MethodName := ⟨RJ18, "checkIndex", "(II)I"⟩
def dkwJ18_checkIndex_0 : List UInt8 := [26, 27, 1, 184, 0, 105, 172]
abbrev dktJ18_checkIndex_0 : List UInt8 := dkwJ18_checkIndex_0 ++ []
theorem dksJ18_checkIndex_0 : cJ18_checkIndex.data.toList.drop 0 = dktJ18_checkIndex_0 := by decide +kernel
theorem dJ18_checkIndex_0 : decode cJ18_checkIndex 0 = .ok (.iload_n 0, 1) := dk_26 (dk_at dksJ18_checkIndex_0 0 rfl rfl)
theorem dJ18_checkIndex_1 : decode cJ18_checkIndex 1 = .ok (.iload_n 1, 1) := dk_27 (dk_at dksJ18_checkIndex_0 1 rfl rfl)
theorem dJ18_checkIndex_2 : decode cJ18_checkIndex 2 = .ok (.aconst_null, 1) := dk_1 (dk_at dksJ18_checkIndex_0 2 rfl rfl)
theorem dJ18_checkIndex_3 : decode cJ18_checkIndex 3 = .ok (.invokestatic 105, 3) := dk_184 0 105 (dk_at dksJ18_checkIndex_0 3 rfl rfl)
theorem dJ18_checkIndex_6 : decode cJ18_checkIndex 6 = .ok (.ireturn, 1) := dk_172 (dk_at dksJ18_checkIndex_0 6 rfl rfl)
/-! java/util/NoSuchElementException: codes (from claim/names) -/
abbrev cJ19_init : ByteArray := prog_50_method_1_code
def yJ19_init : MethodName := ⟨RJ19, "<init>", "()V"⟩
theorem dJ19_init_0 : decode cJ19_init 0 = .ok (.aload_n 0, 1) := by decide +kernel
theorem dJ19_init_1 : decode cJ19_init 1 = .ok (.invokespecial 1, 3) := by decide +kernel
theorem dJ19_init_4 : decode cJ19_init 4 = .ok (.return_, 1) := by decide +kernel
/-! java/util/ArrayList: codes (from claim/names) -/
abbrev cJ2_init : ByteArray := prog_46_method_1_code
def yJ2_init : MethodName := ⟨RJ2, "<init>", "(I)V"⟩
def dkwJ2_init_2 : List UInt8 := [182, 0, 25, 27, 182, 0, 29, 182, 0, 32, 183, 0, 36, 191, 177]
abbrev dktJ2_init_2 : List UInt8 := dkwJ2_init_2 ++ []
def dkwJ2_init_1 : List UInt8 := [178, 0, 15, 181, 0, 9, 167, 0, 30, 187, 0, 18, 89, 187, 0, 20, 89, 183, 0, 22, 18, 23]
abbrev dktJ2_init_1 : List UInt8 := dkwJ2_init_1 ++ dktJ2_init_2
def dkwJ2_init_0 : List UInt8 := [42, 183, 0, 1, 27, 158, 0, 14, 42, 27, 189, 0, 7, 181, 0, 9, 167, 0, 44, 27, 154, 0, 13, 42]
abbrev dktJ2_init_0 : List UInt8 := dkwJ2_init_0 ++ dktJ2_init_1
theorem dksJ2_init_0 : cJ2_init.data.toList.drop 0 = dktJ2_init_0 := by decide +kernel
theorem dksJ2_init_1 : cJ2_init.data.toList.drop 24 = dktJ2_init_1 := dk_seg dksJ2_init_0 24 rfl rfl
theorem dksJ2_init_2 : cJ2_init.data.toList.drop 46 = dktJ2_init_2 := dk_seg dksJ2_init_1 22 rfl rfl
theorem dJ2_init_0 : decode cJ2_init 0 = .ok (.aload_n 0, 1) := dk_42 (dk_at dksJ2_init_0 0 rfl rfl)
theorem dJ2_init_1 : decode cJ2_init 1 = .ok (.invokespecial 1, 3) := dk_183 0 1 (dk_at dksJ2_init_0 1 rfl rfl)
theorem dJ2_init_4 : decode cJ2_init 4 = .ok (.iload_n 1, 1) := dk_27 (dk_at dksJ2_init_0 4 rfl rfl)
theorem dJ2_init_5 : decode cJ2_init 5 = .ok (.ifCond .le 14, 3) := dk_158 0 14 (dk_at dksJ2_init_0 5 rfl rfl)
theorem dJ2_init_8 : decode cJ2_init 8 = .ok (.aload_n 0, 1) := dk_42 (dk_at dksJ2_init_0 8 rfl rfl)
theorem dJ2_init_9 : decode cJ2_init 9 = .ok (.iload_n 1, 1) := dk_27 (dk_at dksJ2_init_0 9 rfl rfl)
theorem dJ2_init_10 : decode cJ2_init 10 = .ok (.anewarray 7, 3) := dk_189 0 7 (dk_at dksJ2_init_0 10 rfl rfl)
theorem dJ2_init_13 : decode cJ2_init 13 = .ok (.putfield 9, 3) := dk_181 0 9 (dk_at dksJ2_init_0 13 rfl rfl)
theorem dJ2_init_16 : decode cJ2_init 16 = .ok (.goto 44, 3) := dk_167 0 44 (dk_at dksJ2_init_0 16 rfl rfl)
theorem dJ2_init_19 : decode cJ2_init 19 = .ok (.iload_n 1, 1) := dk_27 (dk_at dksJ2_init_0 19 rfl rfl)
theorem dJ2_init_20 : decode cJ2_init 20 = .ok (.ifCond .ne 13, 3) := dk_154 0 13 (dk_at dksJ2_init_0 20 rfl rfl)
theorem dJ2_init_23 : decode cJ2_init 23 = .ok (.aload_n 0, 1) := dk_42 (dk_at dksJ2_init_0 23 rfl rfl)
theorem dJ2_init_24 : decode cJ2_init 24 = .ok (.getstatic 15, 3) := dk_178 0 15 (dk_at dksJ2_init_1 0 rfl rfl)
theorem dJ2_init_27 : decode cJ2_init 27 = .ok (.putfield 9, 3) := dk_181 0 9 (dk_at dksJ2_init_1 3 rfl rfl)
theorem dJ2_init_30 : decode cJ2_init 30 = .ok (.goto 30, 3) := dk_167 0 30 (dk_at dksJ2_init_1 6 rfl rfl)
theorem dJ2_init_33 : decode cJ2_init 33 = .ok (.new 18, 3) := dk_187 0 18 (dk_at dksJ2_init_1 9 rfl rfl)
theorem dJ2_init_36 : decode cJ2_init 36 = .ok (.dup, 1) := dk_89 (dk_at dksJ2_init_1 12 rfl rfl)
theorem dJ2_init_37 : decode cJ2_init 37 = .ok (.new 20, 3) := dk_187 0 20 (dk_at dksJ2_init_1 13 rfl rfl)
theorem dJ2_init_40 : decode cJ2_init 40 = .ok (.dup, 1) := dk_89 (dk_at dksJ2_init_1 16 rfl rfl)
theorem dJ2_init_41 : decode cJ2_init 41 = .ok (.invokespecial 22, 3) := dk_183 0 22 (dk_at dksJ2_init_1 17 rfl rfl)
theorem dJ2_init_44 : decode cJ2_init 44 = .ok (.ldc 23, 2) := dk_18 23 (dk_at dksJ2_init_1 20 rfl rfl)
theorem dJ2_init_46 : decode cJ2_init 46 = .ok (.invokevirtual 25, 3) := dk_182 0 25 (dk_at dksJ2_init_2 0 rfl rfl)
theorem dJ2_init_49 : decode cJ2_init 49 = .ok (.iload_n 1, 1) := dk_27 (dk_at dksJ2_init_2 3 rfl rfl)
theorem dJ2_init_50 : decode cJ2_init 50 = .ok (.invokevirtual 29, 3) := dk_182 0 29 (dk_at dksJ2_init_2 4 rfl rfl)
theorem dJ2_init_53 : decode cJ2_init 53 = .ok (.invokevirtual 32, 3) := dk_182 0 32 (dk_at dksJ2_init_2 7 rfl rfl)
theorem dJ2_init_56 : decode cJ2_init 56 = .ok (.invokespecial 36, 3) := dk_183 0 36 (dk_at dksJ2_init_2 10 rfl rfl)
theorem dJ2_init_59 : decode cJ2_init 59 = .ok (.athrow, 1) := dk_191 (dk_at dksJ2_init_2 13 rfl rfl)
theorem dJ2_init_60 : decode cJ2_init 60 = .ok (.return_, 1) := dk_177 (dk_at dksJ2_init_2 14 rfl rfl)
abbrev cJ2_add : ByteArray := prog_46_method_25_code
def yJ2_add : MethodName := ⟨RJ2, "add", "(Ljava/lang/Object;)Z"⟩
def dkwJ2_add_1 : List UInt8 := [172]
abbrev dktJ2_add_1 : List UInt8 := dkwJ2_add_1 ++ []
def dkwJ2_add_0 : List UInt8 := [42, 89, 180, 0, 63, 4, 96, 181, 0, 63, 42, 43, 42, 180, 0, 9, 42, 180, 0, 48, 182, 0, 131, 4]
abbrev dktJ2_add_0 : List UInt8 := dkwJ2_add_0 ++ dktJ2_add_1
theorem dksJ2_add_0 : cJ2_add.data.toList.drop 0 = dktJ2_add_0 := by decide +kernel
theorem dksJ2_add_1 : cJ2_add.data.toList.drop 24 = dktJ2_add_1 := dk_seg dksJ2_add_0 24 rfl rfl
theorem dJ2_add_0 : decode cJ2_add 0 = .ok (.aload_n 0, 1) := dk_42 (dk_at dksJ2_add_0 0 rfl rfl)
theorem dJ2_add_1 : decode cJ2_add 1 = .ok (.dup, 1) := dk_89 (dk_at dksJ2_add_0 1 rfl rfl)
theorem dJ2_add_2 : decode cJ2_add 2 = .ok (.getfield 63, 3) := dk_180 0 63 (dk_at dksJ2_add_0 2 rfl rfl)
theorem dJ2_add_5 : decode cJ2_add 5 = .ok (.iconst 1, 1) := dk_4 (dk_at dksJ2_add_0 5 rfl rfl)
theorem dJ2_add_6 : decode cJ2_add 6 = .ok (.iadd, 1) := dk_96 (dk_at dksJ2_add_0 6 rfl rfl)
theorem dJ2_add_7 : decode cJ2_add 7 = .ok (.putfield 63, 3) := dk_181 0 63 (dk_at dksJ2_add_0 7 rfl rfl)
theorem dJ2_add_10 : decode cJ2_add 10 = .ok (.aload_n 0, 1) := dk_42 (dk_at dksJ2_add_0 10 rfl rfl)
theorem dJ2_add_11 : decode cJ2_add 11 = .ok (.aload_n 1, 1) := dk_43 (dk_at dksJ2_add_0 11 rfl rfl)
theorem dJ2_add_12 : decode cJ2_add 12 = .ok (.aload_n 0, 1) := dk_42 (dk_at dksJ2_add_0 12 rfl rfl)
theorem dJ2_add_13 : decode cJ2_add 13 = .ok (.getfield 9, 3) := dk_180 0 9 (dk_at dksJ2_add_0 13 rfl rfl)
theorem dJ2_add_16 : decode cJ2_add 16 = .ok (.aload_n 0, 1) := dk_42 (dk_at dksJ2_add_0 16 rfl rfl)
theorem dJ2_add_17 : decode cJ2_add 17 = .ok (.getfield 48, 3) := dk_180 0 48 (dk_at dksJ2_add_0 17 rfl rfl)
theorem dJ2_add_20 : decode cJ2_add 20 = .ok (.invokevirtual 131, 3) := dk_182 0 131 (dk_at dksJ2_add_0 20 rfl rfl)
theorem dJ2_add_23 : decode cJ2_add 23 = .ok (.iconst 1, 1) := dk_4 (dk_at dksJ2_add_0 23 rfl rfl)
theorem dJ2_add_24 : decode cJ2_add 24 = .ok (.ireturn, 1) := dk_172 (dk_at dksJ2_add_1 0 rfl rfl)
abbrev cJ2_add_2 : ByteArray := prog_46_method_24_code
def yJ2_add_2 : MethodName := ⟨RJ2, "add", "(Ljava/lang/Object;[Ljava/lang/Object;I)V"⟩
def dkwJ2_add_2_0 : List UInt8 := [29, 44, 190, 160, 0, 8, 42, 182, 0, 129, 77, 44, 29, 43, 83, 42, 29, 4, 96, 181, 0, 48, 177]
abbrev dktJ2_add_2_0 : List UInt8 := dkwJ2_add_2_0 ++ []
theorem dksJ2_add_2_0 : cJ2_add_2.data.toList.drop 0 = dktJ2_add_2_0 := by decide +kernel
theorem dJ2_add_2_0 : decode cJ2_add_2 0 = .ok (.iload_n 3, 1) := dk_29 (dk_at dksJ2_add_2_0 0 rfl rfl)
theorem dJ2_add_2_1 : decode cJ2_add_2 1 = .ok (.aload_n 2, 1) := dk_44 (dk_at dksJ2_add_2_0 1 rfl rfl)
theorem dJ2_add_2_2 : decode cJ2_add_2 2 = .ok (.arraylength, 1) := dk_190 (dk_at dksJ2_add_2_0 2 rfl rfl)
theorem dJ2_add_2_3 : decode cJ2_add_2 3 = .ok (.if_icmp .ne 8, 3) := dk_160 0 8 (dk_at dksJ2_add_2_0 3 rfl rfl)
theorem dJ2_add_2_6 : decode cJ2_add_2 6 = .ok (.aload_n 0, 1) := dk_42 (dk_at dksJ2_add_2_0 6 rfl rfl)
theorem dJ2_add_2_7 : decode cJ2_add_2 7 = .ok (.invokevirtual 129, 3) := dk_182 0 129 (dk_at dksJ2_add_2_0 7 rfl rfl)
theorem dJ2_add_2_10 : decode cJ2_add_2 10 = .ok (.astore_n 2, 1) := dk_77 (dk_at dksJ2_add_2_0 10 rfl rfl)
theorem dJ2_add_2_11 : decode cJ2_add_2 11 = .ok (.aload_n 2, 1) := dk_44 (dk_at dksJ2_add_2_0 11 rfl rfl)
theorem dJ2_add_2_12 : decode cJ2_add_2 12 = .ok (.iload_n 3, 1) := dk_29 (dk_at dksJ2_add_2_0 12 rfl rfl)
theorem dJ2_add_2_13 : decode cJ2_add_2 13 = .ok (.aload_n 1, 1) := dk_43 (dk_at dksJ2_add_2_0 13 rfl rfl)
theorem dJ2_add_2_14 : decode cJ2_add_2 14 = .ok (.aastore, 1) := dk_83 (dk_at dksJ2_add_2_0 14 rfl rfl)
theorem dJ2_add_2_15 : decode cJ2_add_2 15 = .ok (.aload_n 0, 1) := dk_42 (dk_at dksJ2_add_2_0 15 rfl rfl)
theorem dJ2_add_2_16 : decode cJ2_add_2 16 = .ok (.iload_n 3, 1) := dk_29 (dk_at dksJ2_add_2_0 16 rfl rfl)
theorem dJ2_add_2_17 : decode cJ2_add_2 17 = .ok (.iconst 1, 1) := dk_4 (dk_at dksJ2_add_2_0 17 rfl rfl)
theorem dJ2_add_2_18 : decode cJ2_add_2 18 = .ok (.iadd, 1) := dk_96 (dk_at dksJ2_add_2_0 18 rfl rfl)
theorem dJ2_add_2_19 : decode cJ2_add_2 19 = .ok (.putfield 48, 3) := dk_181 0 48 (dk_at dksJ2_add_2_0 19 rfl rfl)
theorem dJ2_add_2_22 : decode cJ2_add_2 22 = .ok (.return_, 1) := dk_177 (dk_at dksJ2_add_2_0 22 rfl rfl)
abbrev cJ2_grow : ByteArray := prog_46_method_7_code
def yJ2_grow : MethodName := ⟨RJ2, "grow", "()[Ljava/lang/Object;"⟩
def dkwJ2_grow_0 : List UInt8 := [42, 42, 180, 0, 48, 4, 96, 182, 0, 69, 176]
abbrev dktJ2_grow_0 : List UInt8 := dkwJ2_grow_0 ++ []
theorem dksJ2_grow_0 : cJ2_grow.data.toList.drop 0 = dktJ2_grow_0 := by decide +kernel
theorem dJ2_grow_0 : decode cJ2_grow 0 = .ok (.aload_n 0, 1) := dk_42 (dk_at dksJ2_grow_0 0 rfl rfl)
theorem dJ2_grow_1 : decode cJ2_grow 1 = .ok (.aload_n 0, 1) := dk_42 (dk_at dksJ2_grow_0 1 rfl rfl)
theorem dJ2_grow_2 : decode cJ2_grow 2 = .ok (.getfield 48, 3) := dk_180 0 48 (dk_at dksJ2_grow_0 2 rfl rfl)
theorem dJ2_grow_5 : decode cJ2_grow 5 = .ok (.iconst 1, 1) := dk_4 (dk_at dksJ2_grow_0 5 rfl rfl)
theorem dJ2_grow_6 : decode cJ2_grow 6 = .ok (.iadd, 1) := dk_96 (dk_at dksJ2_grow_0 6 rfl rfl)
theorem dJ2_grow_7 : decode cJ2_grow 7 = .ok (.invokevirtual 69, 3) := dk_182 0 69 (dk_at dksJ2_grow_0 7 rfl rfl)
theorem dJ2_grow_10 : decode cJ2_grow 10 = .ok (.areturn, 1) := dk_176 (dk_at dksJ2_grow_0 10 rfl rfl)
abbrev cJ2_grow_2 : ByteArray := prog_46_method_6_code
def yJ2_grow_2 : MethodName := ⟨RJ2, "grow", "(I)[Ljava/lang/Object;"⟩
def dkwJ2_grow_2_2 : List UInt8 := [27, 184, 0, 79, 189, 0, 7, 90, 181, 0, 9, 176]
abbrev dktJ2_grow_2_2 : List UInt8 := dkwJ2_grow_2_2 ++ []
def dkwJ2_grow_2_1 : List UInt8 := [28, 4, 122, 184, 0, 73, 62, 42, 42, 180, 0, 9, 29, 184, 0, 66, 90, 181, 0, 9, 176, 42, 16, 10]
abbrev dktJ2_grow_2_1 : List UInt8 := dkwJ2_grow_2_1 ++ dktJ2_grow_2_2
def dkwJ2_grow_2_0 : List UInt8 := [42, 180, 0, 9, 190, 61, 28, 157, 0, 13, 42, 180, 0, 9, 178, 0, 39, 165, 0, 28, 28, 27, 28, 100]
abbrev dktJ2_grow_2_0 : List UInt8 := dkwJ2_grow_2_0 ++ dktJ2_grow_2_1
theorem dksJ2_grow_2_0 : cJ2_grow_2.data.toList.drop 0 = dktJ2_grow_2_0 := by decide +kernel
theorem dksJ2_grow_2_1 : cJ2_grow_2.data.toList.drop 24 = dktJ2_grow_2_1 := dk_seg dksJ2_grow_2_0 24 rfl rfl
theorem dksJ2_grow_2_2 : cJ2_grow_2.data.toList.drop 48 = dktJ2_grow_2_2 := dk_seg dksJ2_grow_2_1 24 rfl rfl
theorem dJ2_grow_2_0 : decode cJ2_grow_2 0 = .ok (.aload_n 0, 1) := dk_42 (dk_at dksJ2_grow_2_0 0 rfl rfl)
theorem dJ2_grow_2_1 : decode cJ2_grow_2 1 = .ok (.getfield 9, 3) := dk_180 0 9 (dk_at dksJ2_grow_2_0 1 rfl rfl)
theorem dJ2_grow_2_4 : decode cJ2_grow_2 4 = .ok (.arraylength, 1) := dk_190 (dk_at dksJ2_grow_2_0 4 rfl rfl)
theorem dJ2_grow_2_5 : decode cJ2_grow_2 5 = .ok (.istore_n 2, 1) := dk_61 (dk_at dksJ2_grow_2_0 5 rfl rfl)
theorem dJ2_grow_2_6 : decode cJ2_grow_2 6 = .ok (.iload_n 2, 1) := dk_28 (dk_at dksJ2_grow_2_0 6 rfl rfl)
theorem dJ2_grow_2_7 : decode cJ2_grow_2 7 = .ok (.ifCond .gt 13, 3) := dk_157 0 13 (dk_at dksJ2_grow_2_0 7 rfl rfl)
theorem dJ2_grow_2_10 : decode cJ2_grow_2 10 = .ok (.aload_n 0, 1) := dk_42 (dk_at dksJ2_grow_2_0 10 rfl rfl)
theorem dJ2_grow_2_11 : decode cJ2_grow_2 11 = .ok (.getfield 9, 3) := dk_180 0 9 (dk_at dksJ2_grow_2_0 11 rfl rfl)
theorem dJ2_grow_2_14 : decode cJ2_grow_2 14 = .ok (.getstatic 39, 3) := dk_178 0 39 (dk_at dksJ2_grow_2_0 14 rfl rfl)
theorem dJ2_grow_2_17 : decode cJ2_grow_2 17 = .ok (.if_acmp .eq 28, 3) := dk_165 0 28 (dk_at dksJ2_grow_2_0 17 rfl rfl)
theorem dJ2_grow_2_20 : decode cJ2_grow_2 20 = .ok (.iload_n 2, 1) := dk_28 (dk_at dksJ2_grow_2_0 20 rfl rfl)
theorem dJ2_grow_2_21 : decode cJ2_grow_2 21 = .ok (.iload_n 1, 1) := dk_27 (dk_at dksJ2_grow_2_0 21 rfl rfl)
theorem dJ2_grow_2_22 : decode cJ2_grow_2 22 = .ok (.iload_n 2, 1) := dk_28 (dk_at dksJ2_grow_2_0 22 rfl rfl)
theorem dJ2_grow_2_23 : decode cJ2_grow_2 23 = .ok (.isub, 1) := dk_100 (dk_at dksJ2_grow_2_0 23 rfl rfl)
theorem dJ2_grow_2_24 : decode cJ2_grow_2 24 = .ok (.iload_n 2, 1) := dk_28 (dk_at dksJ2_grow_2_1 0 rfl rfl)
theorem dJ2_grow_2_25 : decode cJ2_grow_2 25 = .ok (.iconst 1, 1) := dk_4 (dk_at dksJ2_grow_2_1 1 rfl rfl)
theorem dJ2_grow_2_26 : decode cJ2_grow_2 26 = .ok (.ishr, 1) := dk_122 (dk_at dksJ2_grow_2_1 2 rfl rfl)
theorem dJ2_grow_2_27 : decode cJ2_grow_2 27 = .ok (.invokestatic 73, 3) := dk_184 0 73 (dk_at dksJ2_grow_2_1 3 rfl rfl)
theorem dJ2_grow_2_30 : decode cJ2_grow_2 30 = .ok (.istore_n 3, 1) := dk_62 (dk_at dksJ2_grow_2_1 6 rfl rfl)
theorem dJ2_grow_2_31 : decode cJ2_grow_2 31 = .ok (.aload_n 0, 1) := dk_42 (dk_at dksJ2_grow_2_1 7 rfl rfl)
theorem dJ2_grow_2_32 : decode cJ2_grow_2 32 = .ok (.aload_n 0, 1) := dk_42 (dk_at dksJ2_grow_2_1 8 rfl rfl)
theorem dJ2_grow_2_33 : decode cJ2_grow_2 33 = .ok (.getfield 9, 3) := dk_180 0 9 (dk_at dksJ2_grow_2_1 9 rfl rfl)
theorem dJ2_grow_2_36 : decode cJ2_grow_2 36 = .ok (.iload_n 3, 1) := dk_29 (dk_at dksJ2_grow_2_1 12 rfl rfl)
theorem dJ2_grow_2_37 : decode cJ2_grow_2 37 = .ok (.invokestatic 66, 3) := dk_184 0 66 (dk_at dksJ2_grow_2_1 13 rfl rfl)
theorem dJ2_grow_2_40 : decode cJ2_grow_2 40 = .ok (.dup_x1, 1) := dk_90 (dk_at dksJ2_grow_2_1 16 rfl rfl)
theorem dJ2_grow_2_41 : decode cJ2_grow_2 41 = .ok (.putfield 9, 3) := dk_181 0 9 (dk_at dksJ2_grow_2_1 17 rfl rfl)
theorem dJ2_grow_2_44 : decode cJ2_grow_2 44 = .ok (.areturn, 1) := dk_176 (dk_at dksJ2_grow_2_1 20 rfl rfl)
theorem dJ2_grow_2_45 : decode cJ2_grow_2 45 = .ok (.aload_n 0, 1) := dk_42 (dk_at dksJ2_grow_2_1 21 rfl rfl)
theorem dJ2_grow_2_46 : decode cJ2_grow_2 46 = .ok (.bipush 10, 2) := dk_16 10 (dk_at dksJ2_grow_2_1 22 rfl rfl)
theorem dJ2_grow_2_48 : decode cJ2_grow_2 48 = .ok (.iload_n 1, 1) := dk_27 (dk_at dksJ2_grow_2_2 0 rfl rfl)
theorem dJ2_grow_2_49 : decode cJ2_grow_2 49 = .ok (.invokestatic 79, 3) := dk_184 0 79 (dk_at dksJ2_grow_2_2 1 rfl rfl)
theorem dJ2_grow_2_52 : decode cJ2_grow_2 52 = .ok (.anewarray 7, 3) := dk_189 0 7 (dk_at dksJ2_grow_2_2 4 rfl rfl)
theorem dJ2_grow_2_55 : decode cJ2_grow_2 55 = .ok (.dup_x1, 1) := dk_90 (dk_at dksJ2_grow_2_2 7 rfl rfl)
theorem dJ2_grow_2_56 : decode cJ2_grow_2 56 = .ok (.putfield 9, 3) := dk_181 0 9 (dk_at dksJ2_grow_2_2 8 rfl rfl)
theorem dJ2_grow_2_59 : decode cJ2_grow_2 59 = .ok (.areturn, 1) := dk_176 (dk_at dksJ2_grow_2_2 11 rfl rfl)
abbrev cJ2_size : ByteArray := prog_46_method_8_code
def yJ2_size : MethodName := ⟨RJ2, "size", "()I"⟩
theorem dJ2_size_0 : decode cJ2_size 0 = .ok (.aload_n 0, 1) := by decide +kernel
theorem dJ2_size_1 : decode cJ2_size 1 = .ok (.getfield 48, 3) := by decide +kernel
theorem dJ2_size_4 : decode cJ2_size 4 = .ok (.ireturn, 1) := by decide +kernel
abbrev cJ2_get : ByteArray := prog_46_method_20_code
def yJ2_get : MethodName := ⟨RJ2, "get", "(I)Ljava/lang/Object;"⟩
def dkwJ2_get_0 : List UInt8 := [27, 42, 180, 0, 48, 184, 0, 118, 87, 42, 27, 182, 0, 123, 176]
abbrev dktJ2_get_0 : List UInt8 := dkwJ2_get_0 ++ []
theorem dksJ2_get_0 : cJ2_get.data.toList.drop 0 = dktJ2_get_0 := by decide +kernel
theorem dJ2_get_0 : decode cJ2_get 0 = .ok (.iload_n 1, 1) := dk_27 (dk_at dksJ2_get_0 0 rfl rfl)
theorem dJ2_get_1 : decode cJ2_get 1 = .ok (.aload_n 0, 1) := dk_42 (dk_at dksJ2_get_0 1 rfl rfl)
theorem dJ2_get_2 : decode cJ2_get 2 = .ok (.getfield 48, 3) := dk_180 0 48 (dk_at dksJ2_get_0 2 rfl rfl)
theorem dJ2_get_5 : decode cJ2_get 5 = .ok (.invokestatic 118, 3) := dk_184 0 118 (dk_at dksJ2_get_0 5 rfl rfl)
theorem dJ2_get_8 : decode cJ2_get 8 = .ok (.pop, 1) := dk_87 (dk_at dksJ2_get_0 8 rfl rfl)
theorem dJ2_get_9 : decode cJ2_get 9 = .ok (.aload_n 0, 1) := dk_42 (dk_at dksJ2_get_0 9 rfl rfl)
theorem dJ2_get_10 : decode cJ2_get 10 = .ok (.iload_n 1, 1) := dk_27 (dk_at dksJ2_get_0 10 rfl rfl)
theorem dJ2_get_11 : decode cJ2_get 11 = .ok (.invokevirtual 123, 3) := dk_182 0 123 (dk_at dksJ2_get_0 11 rfl rfl)
theorem dJ2_get_14 : decode cJ2_get 14 = .ok (.areturn, 1) := dk_176 (dk_at dksJ2_get_0 14 rfl rfl)
abbrev cJ2_elementData : ByteArray := prog_46_method_18_code
def yJ2_elementData : MethodName := ⟨RJ2, "elementData", "(I)Ljava/lang/Object;"⟩
def dkwJ2_elementData_0 : List UInt8 := [42, 180, 0, 9, 27, 50, 176]
abbrev dktJ2_elementData_0 : List UInt8 := dkwJ2_elementData_0 ++ []
theorem dksJ2_elementData_0 : cJ2_elementData.data.toList.drop 0 = dktJ2_elementData_0 := by decide +kernel
theorem dJ2_elementData_0 : decode cJ2_elementData 0 = .ok (.aload_n 0, 1) := dk_42 (dk_at dksJ2_elementData_0 0 rfl rfl)
theorem dJ2_elementData_1 : decode cJ2_elementData 1 = .ok (.getfield 9, 3) := dk_180 0 9 (dk_at dksJ2_elementData_0 1 rfl rfl)
theorem dJ2_elementData_4 : decode cJ2_elementData 4 = .ok (.iload_n 1, 1) := dk_27 (dk_at dksJ2_elementData_0 4 rfl rfl)
theorem dJ2_elementData_5 : decode cJ2_elementData 5 = .ok (.aaload, 1) := dk_50 (dk_at dksJ2_elementData_0 5 rfl rfl)
theorem dJ2_elementData_6 : decode cJ2_elementData 6 = .ok (.areturn, 1) := dk_176 (dk_at dksJ2_elementData_0 6 rfl rfl)
abbrev cJ2_remove : ByteArray := prog_46_method_29_code
def yJ2_remove : MethodName := ⟨RJ2, "remove", "(I)Ljava/lang/Object;"⟩
def dkwJ2_remove_1 : List UInt8 := [45, 176]
abbrev dktJ2_remove_1 : List UInt8 := dkwJ2_remove_1 ++ []
def dkwJ2_remove_0 : List UInt8 := [27, 42, 180, 0, 48, 184, 0, 118, 87, 42, 180, 0, 9, 77, 44, 27, 50, 78, 42, 44, 27, 182, 0, 144]
abbrev dktJ2_remove_0 : List UInt8 := dkwJ2_remove_0 ++ dktJ2_remove_1
theorem dksJ2_remove_0 : cJ2_remove.data.toList.drop 0 = dktJ2_remove_0 := by decide +kernel
theorem dksJ2_remove_1 : cJ2_remove.data.toList.drop 24 = dktJ2_remove_1 := dk_seg dksJ2_remove_0 24 rfl rfl
theorem dJ2_remove_0 : decode cJ2_remove 0 = .ok (.iload_n 1, 1) := dk_27 (dk_at dksJ2_remove_0 0 rfl rfl)
theorem dJ2_remove_1 : decode cJ2_remove 1 = .ok (.aload_n 0, 1) := dk_42 (dk_at dksJ2_remove_0 1 rfl rfl)
theorem dJ2_remove_2 : decode cJ2_remove 2 = .ok (.getfield 48, 3) := dk_180 0 48 (dk_at dksJ2_remove_0 2 rfl rfl)
theorem dJ2_remove_5 : decode cJ2_remove 5 = .ok (.invokestatic 118, 3) := dk_184 0 118 (dk_at dksJ2_remove_0 5 rfl rfl)
theorem dJ2_remove_8 : decode cJ2_remove 8 = .ok (.pop, 1) := dk_87 (dk_at dksJ2_remove_0 8 rfl rfl)
theorem dJ2_remove_9 : decode cJ2_remove 9 = .ok (.aload_n 0, 1) := dk_42 (dk_at dksJ2_remove_0 9 rfl rfl)
theorem dJ2_remove_10 : decode cJ2_remove 10 = .ok (.getfield 9, 3) := dk_180 0 9 (dk_at dksJ2_remove_0 10 rfl rfl)
theorem dJ2_remove_13 : decode cJ2_remove 13 = .ok (.astore_n 2, 1) := dk_77 (dk_at dksJ2_remove_0 13 rfl rfl)
theorem dJ2_remove_14 : decode cJ2_remove 14 = .ok (.aload_n 2, 1) := dk_44 (dk_at dksJ2_remove_0 14 rfl rfl)
theorem dJ2_remove_15 : decode cJ2_remove 15 = .ok (.iload_n 1, 1) := dk_27 (dk_at dksJ2_remove_0 15 rfl rfl)
theorem dJ2_remove_16 : decode cJ2_remove 16 = .ok (.aaload, 1) := dk_50 (dk_at dksJ2_remove_0 16 rfl rfl)
theorem dJ2_remove_17 : decode cJ2_remove 17 = .ok (.astore_n 3, 1) := dk_78 (dk_at dksJ2_remove_0 17 rfl rfl)
theorem dJ2_remove_18 : decode cJ2_remove 18 = .ok (.aload_n 0, 1) := dk_42 (dk_at dksJ2_remove_0 18 rfl rfl)
theorem dJ2_remove_19 : decode cJ2_remove 19 = .ok (.aload_n 2, 1) := dk_44 (dk_at dksJ2_remove_0 19 rfl rfl)
theorem dJ2_remove_20 : decode cJ2_remove 20 = .ok (.iload_n 1, 1) := dk_27 (dk_at dksJ2_remove_0 20 rfl rfl)
theorem dJ2_remove_21 : decode cJ2_remove 21 = .ok (.invokevirtual 144, 3) := dk_182 0 144 (dk_at dksJ2_remove_0 21 rfl rfl)
theorem dJ2_remove_24 : decode cJ2_remove 24 = .ok (.aload_n 3, 1) := dk_45 (dk_at dksJ2_remove_1 0 rfl rfl)
theorem dJ2_remove_25 : decode cJ2_remove 25 = .ok (.areturn, 1) := dk_176 (dk_at dksJ2_remove_1 1 rfl rfl)
abbrev cJ2_fastRemove : ByteArray := prog_46_method_39_code
def yJ2_fastRemove : MethodName := ⟨RJ2, "fastRemove", "([Ljava/lang/Object;I)V"⟩
def dkwJ2_fastRemove_1 : List UInt8 := [4, 96, 43, 28, 29, 28, 100, 184, 0, 112, 43, 42, 29, 90, 181, 0, 48, 1, 83, 177]
abbrev dktJ2_fastRemove_1 : List UInt8 := dkwJ2_fastRemove_1 ++ []
def dkwJ2_fastRemove_0 : List UInt8 := [42, 89, 180, 0, 63, 4, 96, 181, 0, 63, 42, 180, 0, 48, 4, 100, 89, 62, 28, 164, 0, 15, 43, 28]
abbrev dktJ2_fastRemove_0 : List UInt8 := dkwJ2_fastRemove_0 ++ dktJ2_fastRemove_1
theorem dksJ2_fastRemove_0 : cJ2_fastRemove.data.toList.drop 0 = dktJ2_fastRemove_0 := by decide +kernel
theorem dksJ2_fastRemove_1 : cJ2_fastRemove.data.toList.drop 24 = dktJ2_fastRemove_1 := dk_seg dksJ2_fastRemove_0 24 rfl rfl
theorem dJ2_fastRemove_0 : decode cJ2_fastRemove 0 = .ok (.aload_n 0, 1) := dk_42 (dk_at dksJ2_fastRemove_0 0 rfl rfl)
theorem dJ2_fastRemove_1 : decode cJ2_fastRemove 1 = .ok (.dup, 1) := dk_89 (dk_at dksJ2_fastRemove_0 1 rfl rfl)
theorem dJ2_fastRemove_2 : decode cJ2_fastRemove 2 = .ok (.getfield 63, 3) := dk_180 0 63 (dk_at dksJ2_fastRemove_0 2 rfl rfl)
theorem dJ2_fastRemove_5 : decode cJ2_fastRemove 5 = .ok (.iconst 1, 1) := dk_4 (dk_at dksJ2_fastRemove_0 5 rfl rfl)
theorem dJ2_fastRemove_6 : decode cJ2_fastRemove 6 = .ok (.iadd, 1) := dk_96 (dk_at dksJ2_fastRemove_0 6 rfl rfl)
theorem dJ2_fastRemove_7 : decode cJ2_fastRemove 7 = .ok (.putfield 63, 3) := dk_181 0 63 (dk_at dksJ2_fastRemove_0 7 rfl rfl)
theorem dJ2_fastRemove_10 : decode cJ2_fastRemove 10 = .ok (.aload_n 0, 1) := dk_42 (dk_at dksJ2_fastRemove_0 10 rfl rfl)
theorem dJ2_fastRemove_11 : decode cJ2_fastRemove 11 = .ok (.getfield 48, 3) := dk_180 0 48 (dk_at dksJ2_fastRemove_0 11 rfl rfl)
theorem dJ2_fastRemove_14 : decode cJ2_fastRemove 14 = .ok (.iconst 1, 1) := dk_4 (dk_at dksJ2_fastRemove_0 14 rfl rfl)
theorem dJ2_fastRemove_15 : decode cJ2_fastRemove 15 = .ok (.isub, 1) := dk_100 (dk_at dksJ2_fastRemove_0 15 rfl rfl)
theorem dJ2_fastRemove_16 : decode cJ2_fastRemove 16 = .ok (.dup, 1) := dk_89 (dk_at dksJ2_fastRemove_0 16 rfl rfl)
theorem dJ2_fastRemove_17 : decode cJ2_fastRemove 17 = .ok (.istore_n 3, 1) := dk_62 (dk_at dksJ2_fastRemove_0 17 rfl rfl)
theorem dJ2_fastRemove_18 : decode cJ2_fastRemove 18 = .ok (.iload_n 2, 1) := dk_28 (dk_at dksJ2_fastRemove_0 18 rfl rfl)
theorem dJ2_fastRemove_19 : decode cJ2_fastRemove 19 = .ok (.if_icmp .le 15, 3) := dk_164 0 15 (dk_at dksJ2_fastRemove_0 19 rfl rfl)
theorem dJ2_fastRemove_22 : decode cJ2_fastRemove 22 = .ok (.aload_n 1, 1) := dk_43 (dk_at dksJ2_fastRemove_0 22 rfl rfl)
theorem dJ2_fastRemove_23 : decode cJ2_fastRemove 23 = .ok (.iload_n 2, 1) := dk_28 (dk_at dksJ2_fastRemove_0 23 rfl rfl)
theorem dJ2_fastRemove_24 : decode cJ2_fastRemove 24 = .ok (.iconst 1, 1) := dk_4 (dk_at dksJ2_fastRemove_1 0 rfl rfl)
theorem dJ2_fastRemove_25 : decode cJ2_fastRemove 25 = .ok (.iadd, 1) := dk_96 (dk_at dksJ2_fastRemove_1 1 rfl rfl)
theorem dJ2_fastRemove_26 : decode cJ2_fastRemove 26 = .ok (.aload_n 1, 1) := dk_43 (dk_at dksJ2_fastRemove_1 2 rfl rfl)
theorem dJ2_fastRemove_27 : decode cJ2_fastRemove 27 = .ok (.iload_n 2, 1) := dk_28 (dk_at dksJ2_fastRemove_1 3 rfl rfl)
theorem dJ2_fastRemove_28 : decode cJ2_fastRemove 28 = .ok (.iload_n 3, 1) := dk_29 (dk_at dksJ2_fastRemove_1 4 rfl rfl)
theorem dJ2_fastRemove_29 : decode cJ2_fastRemove 29 = .ok (.iload_n 2, 1) := dk_28 (dk_at dksJ2_fastRemove_1 5 rfl rfl)
theorem dJ2_fastRemove_30 : decode cJ2_fastRemove 30 = .ok (.isub, 1) := dk_100 (dk_at dksJ2_fastRemove_1 6 rfl rfl)
theorem dJ2_fastRemove_31 : decode cJ2_fastRemove 31 = .ok (.invokestatic 112, 3) := dk_184 0 112 (dk_at dksJ2_fastRemove_1 7 rfl rfl)
theorem dJ2_fastRemove_34 : decode cJ2_fastRemove 34 = .ok (.aload_n 1, 1) := dk_43 (dk_at dksJ2_fastRemove_1 10 rfl rfl)
theorem dJ2_fastRemove_35 : decode cJ2_fastRemove 35 = .ok (.aload_n 0, 1) := dk_42 (dk_at dksJ2_fastRemove_1 11 rfl rfl)
theorem dJ2_fastRemove_36 : decode cJ2_fastRemove 36 = .ok (.iload_n 3, 1) := dk_29 (dk_at dksJ2_fastRemove_1 12 rfl rfl)
theorem dJ2_fastRemove_37 : decode cJ2_fastRemove 37 = .ok (.dup_x1, 1) := dk_90 (dk_at dksJ2_fastRemove_1 13 rfl rfl)
theorem dJ2_fastRemove_38 : decode cJ2_fastRemove 38 = .ok (.putfield 48, 3) := dk_181 0 48 (dk_at dksJ2_fastRemove_1 14 rfl rfl)
theorem dJ2_fastRemove_41 : decode cJ2_fastRemove 41 = .ok (.aconst_null, 1) := dk_1 (dk_at dksJ2_fastRemove_1 17 rfl rfl)
theorem dJ2_fastRemove_42 : decode cJ2_fastRemove 42 = .ok (.aastore, 1) := dk_83 (dk_at dksJ2_fastRemove_1 18 rfl rfl)
theorem dJ2_fastRemove_43 : decode cJ2_fastRemove 43 = .ok (.return_, 1) := dk_177 (dk_at dksJ2_fastRemove_1 19 rfl rfl)
/-! java/lang/Object: codes (from claim/names) -/
abbrev cJ20_init : ByteArray := object_method_1_code
def yJ20_init : MethodName := ⟨RJ20, "<init>", "()V"⟩
theorem dJ20_init_0 : decode cJ20_init 0 = .ok (.return_, 1) := by decide +kernel
/-! java/lang/Throwable: codes (from claim/names) -/
abbrev cJ3_init : ByteArray := prog_41_method_1_code
def yJ3_init : MethodName := ⟨RJ3, "<init>", "()V"⟩
def dkwJ3_init_1 : List UInt8 := [182, 0, 27, 87, 177]
abbrev dktJ3_init_1 : List UInt8 := dkwJ3_init_1 ++ []
def dkwJ3_init_0 : List UInt8 := [42, 183, 0, 1, 42, 42, 181, 0, 7, 42, 178, 0, 13, 181, 0, 17, 42, 178, 0, 20, 181, 0, 24, 42]
abbrev dktJ3_init_0 : List UInt8 := dkwJ3_init_0 ++ dktJ3_init_1
theorem dksJ3_init_0 : cJ3_init.data.toList.drop 0 = dktJ3_init_0 := by decide +kernel
theorem dksJ3_init_1 : cJ3_init.data.toList.drop 24 = dktJ3_init_1 := dk_seg dksJ3_init_0 24 rfl rfl
theorem dJ3_init_0 : decode cJ3_init 0 = .ok (.aload_n 0, 1) := dk_42 (dk_at dksJ3_init_0 0 rfl rfl)
theorem dJ3_init_1 : decode cJ3_init 1 = .ok (.invokespecial 1, 3) := dk_183 0 1 (dk_at dksJ3_init_0 1 rfl rfl)
theorem dJ3_init_4 : decode cJ3_init 4 = .ok (.aload_n 0, 1) := dk_42 (dk_at dksJ3_init_0 4 rfl rfl)
theorem dJ3_init_5 : decode cJ3_init 5 = .ok (.aload_n 0, 1) := dk_42 (dk_at dksJ3_init_0 5 rfl rfl)
theorem dJ3_init_6 : decode cJ3_init 6 = .ok (.putfield 7, 3) := dk_181 0 7 (dk_at dksJ3_init_0 6 rfl rfl)
theorem dJ3_init_9 : decode cJ3_init 9 = .ok (.aload_n 0, 1) := dk_42 (dk_at dksJ3_init_0 9 rfl rfl)
theorem dJ3_init_10 : decode cJ3_init 10 = .ok (.getstatic 13, 3) := dk_178 0 13 (dk_at dksJ3_init_0 10 rfl rfl)
theorem dJ3_init_13 : decode cJ3_init 13 = .ok (.putfield 17, 3) := dk_181 0 17 (dk_at dksJ3_init_0 13 rfl rfl)
theorem dJ3_init_16 : decode cJ3_init 16 = .ok (.aload_n 0, 1) := dk_42 (dk_at dksJ3_init_0 16 rfl rfl)
theorem dJ3_init_17 : decode cJ3_init 17 = .ok (.getstatic 20, 3) := dk_178 0 20 (dk_at dksJ3_init_0 17 rfl rfl)
theorem dJ3_init_20 : decode cJ3_init 20 = .ok (.putfield 24, 3) := dk_181 0 24 (dk_at dksJ3_init_0 20 rfl rfl)
theorem dJ3_init_23 : decode cJ3_init 23 = .ok (.aload_n 0, 1) := dk_42 (dk_at dksJ3_init_0 23 rfl rfl)
theorem dJ3_init_24 : decode cJ3_init 24 = .ok (.invokevirtual 27, 3) := dk_182 0 27 (dk_at dksJ3_init_1 0 rfl rfl)
theorem dJ3_init_27 : decode cJ3_init 27 = .ok (.pop, 1) := dk_87 (dk_at dksJ3_init_1 3 rfl rfl)
theorem dJ3_init_28 : decode cJ3_init 28 = .ok (.return_, 1) := dk_177 (dk_at dksJ3_init_1 4 rfl rfl)
abbrev cJ3_init_2 : ByteArray := prog_41_method_2_code
def yJ3_init_2 : MethodName := ⟨RJ3, "<init>", "(Ljava/lang/String;)V"⟩
def dkwJ3_init_2_1 : List UInt8 := [182, 0, 27, 87, 42, 43, 181, 0, 31, 177]
abbrev dktJ3_init_2_1 : List UInt8 := dkwJ3_init_2_1 ++ []
def dkwJ3_init_2_0 : List UInt8 := [42, 183, 0, 1, 42, 42, 181, 0, 7, 42, 178, 0, 13, 181, 0, 17, 42, 178, 0, 20, 181, 0, 24, 42]
abbrev dktJ3_init_2_0 : List UInt8 := dkwJ3_init_2_0 ++ dktJ3_init_2_1
theorem dksJ3_init_2_0 : cJ3_init_2.data.toList.drop 0 = dktJ3_init_2_0 := by decide +kernel
theorem dksJ3_init_2_1 : cJ3_init_2.data.toList.drop 24 = dktJ3_init_2_1 := dk_seg dksJ3_init_2_0 24 rfl rfl
theorem dJ3_init_2_0 : decode cJ3_init_2 0 = .ok (.aload_n 0, 1) := dk_42 (dk_at dksJ3_init_2_0 0 rfl rfl)
theorem dJ3_init_2_1 : decode cJ3_init_2 1 = .ok (.invokespecial 1, 3) := dk_183 0 1 (dk_at dksJ3_init_2_0 1 rfl rfl)
theorem dJ3_init_2_4 : decode cJ3_init_2 4 = .ok (.aload_n 0, 1) := dk_42 (dk_at dksJ3_init_2_0 4 rfl rfl)
theorem dJ3_init_2_5 : decode cJ3_init_2 5 = .ok (.aload_n 0, 1) := dk_42 (dk_at dksJ3_init_2_0 5 rfl rfl)
theorem dJ3_init_2_6 : decode cJ3_init_2 6 = .ok (.putfield 7, 3) := dk_181 0 7 (dk_at dksJ3_init_2_0 6 rfl rfl)
theorem dJ3_init_2_9 : decode cJ3_init_2 9 = .ok (.aload_n 0, 1) := dk_42 (dk_at dksJ3_init_2_0 9 rfl rfl)
theorem dJ3_init_2_10 : decode cJ3_init_2 10 = .ok (.getstatic 13, 3) := dk_178 0 13 (dk_at dksJ3_init_2_0 10 rfl rfl)
theorem dJ3_init_2_13 : decode cJ3_init_2 13 = .ok (.putfield 17, 3) := dk_181 0 17 (dk_at dksJ3_init_2_0 13 rfl rfl)
theorem dJ3_init_2_16 : decode cJ3_init_2 16 = .ok (.aload_n 0, 1) := dk_42 (dk_at dksJ3_init_2_0 16 rfl rfl)
theorem dJ3_init_2_17 : decode cJ3_init_2 17 = .ok (.getstatic 20, 3) := dk_178 0 20 (dk_at dksJ3_init_2_0 17 rfl rfl)
theorem dJ3_init_2_20 : decode cJ3_init_2 20 = .ok (.putfield 24, 3) := dk_181 0 24 (dk_at dksJ3_init_2_0 20 rfl rfl)
theorem dJ3_init_2_23 : decode cJ3_init_2 23 = .ok (.aload_n 0, 1) := dk_42 (dk_at dksJ3_init_2_0 23 rfl rfl)
theorem dJ3_init_2_24 : decode cJ3_init_2 24 = .ok (.invokevirtual 27, 3) := dk_182 0 27 (dk_at dksJ3_init_2_1 0 rfl rfl)
theorem dJ3_init_2_27 : decode cJ3_init_2 27 = .ok (.pop, 1) := dk_87 (dk_at dksJ3_init_2_1 3 rfl rfl)
theorem dJ3_init_2_28 : decode cJ3_init_2 28 = .ok (.aload_n 0, 1) := dk_42 (dk_at dksJ3_init_2_1 4 rfl rfl)
theorem dJ3_init_2_29 : decode cJ3_init_2 29 = .ok (.aload_n 1, 1) := dk_43 (dk_at dksJ3_init_2_1 5 rfl rfl)
theorem dJ3_init_2_30 : decode cJ3_init_2 30 = .ok (.putfield 31, 3) := dk_181 0 31 (dk_at dksJ3_init_2_1 6 rfl rfl)
theorem dJ3_init_2_33 : decode cJ3_init_2 33 = .ok (.return_, 1) := dk_177 (dk_at dksJ3_init_2_1 9 rfl rfl)
/-! java/lang/Exception: codes (from claim/names) -/
abbrev cJ4_init : ByteArray := prog_29_method_2_code
def yJ4_init : MethodName := ⟨RJ4, "<init>", "(Ljava/lang/String;)V"⟩
def dkwJ4_init_0 : List UInt8 := [42, 43, 183, 0, 7, 177]
abbrev dktJ4_init_0 : List UInt8 := dkwJ4_init_0 ++ []
theorem dksJ4_init_0 : cJ4_init.data.toList.drop 0 = dktJ4_init_0 := by decide +kernel
theorem dJ4_init_0 : decode cJ4_init 0 = .ok (.aload_n 0, 1) := dk_42 (dk_at dksJ4_init_0 0 rfl rfl)
theorem dJ4_init_1 : decode cJ4_init 1 = .ok (.aload_n 1, 1) := dk_43 (dk_at dksJ4_init_0 1 rfl rfl)
theorem dJ4_init_2 : decode cJ4_init 2 = .ok (.invokespecial 7, 3) := dk_183 0 7 (dk_at dksJ4_init_0 2 rfl rfl)
theorem dJ4_init_5 : decode cJ4_init 5 = .ok (.return_, 1) := dk_177 (dk_at dksJ4_init_0 5 rfl rfl)
abbrev cJ4_init_2 : ByteArray := prog_29_method_1_code
def yJ4_init_2 : MethodName := ⟨RJ4, "<init>", "()V"⟩
theorem dJ4_init_2_0 : decode cJ4_init_2 0 = .ok (.aload_n 0, 1) := by decide +kernel
theorem dJ4_init_2_1 : decode cJ4_init_2 1 = .ok (.invokespecial 1, 3) := by decide +kernel
theorem dJ4_init_2_4 : decode cJ4_init_2 4 = .ok (.return_, 1) := by decide +kernel
/-! java/lang/RuntimeException: codes (from claim/names) -/
abbrev cJ5_init : ByteArray := prog_35_method_2_code
def yJ5_init : MethodName := ⟨RJ5, "<init>", "(Ljava/lang/String;)V"⟩
def dkwJ5_init_0 : List UInt8 := [42, 43, 183, 0, 7, 177]
abbrev dktJ5_init_0 : List UInt8 := dkwJ5_init_0 ++ []
theorem dksJ5_init_0 : cJ5_init.data.toList.drop 0 = dktJ5_init_0 := by decide +kernel
theorem dJ5_init_0 : decode cJ5_init 0 = .ok (.aload_n 0, 1) := dk_42 (dk_at dksJ5_init_0 0 rfl rfl)
theorem dJ5_init_1 : decode cJ5_init 1 = .ok (.aload_n 1, 1) := dk_43 (dk_at dksJ5_init_0 1 rfl rfl)
theorem dJ5_init_2 : decode cJ5_init 2 = .ok (.invokespecial 7, 3) := dk_183 0 7 (dk_at dksJ5_init_0 2 rfl rfl)
theorem dJ5_init_5 : decode cJ5_init 5 = .ok (.return_, 1) := dk_177 (dk_at dksJ5_init_0 5 rfl rfl)
abbrev cJ5_init_2 : ByteArray := prog_35_method_1_code
def yJ5_init_2 : MethodName := ⟨RJ5, "<init>", "()V"⟩
theorem dJ5_init_2_0 : decode cJ5_init_2 0 = .ok (.aload_n 0, 1) := by decide +kernel
theorem dJ5_init_2_1 : decode cJ5_init_2 1 = .ok (.invokespecial 1, 3) := by decide +kernel
theorem dJ5_init_2_4 : decode cJ5_init_2 4 = .ok (.return_, 1) := by decide +kernel
/-! java/lang/IllegalArgumentException: codes (from claim/names) -/
abbrev cJ6_init : ByteArray := prog_30_method_2_code
def yJ6_init : MethodName := ⟨RJ6, "<init>", "(Ljava/lang/String;)V"⟩
def dkwJ6_init_0 : List UInt8 := [42, 43, 183, 0, 7, 177]
abbrev dktJ6_init_0 : List UInt8 := dkwJ6_init_0 ++ []
theorem dksJ6_init_0 : cJ6_init.data.toList.drop 0 = dktJ6_init_0 := by decide +kernel
theorem dJ6_init_0 : decode cJ6_init 0 = .ok (.aload_n 0, 1) := dk_42 (dk_at dksJ6_init_0 0 rfl rfl)
theorem dJ6_init_1 : decode cJ6_init 1 = .ok (.aload_n 1, 1) := dk_43 (dk_at dksJ6_init_0 1 rfl rfl)
theorem dJ6_init_2 : decode cJ6_init 2 = .ok (.invokespecial 7, 3) := dk_183 0 7 (dk_at dksJ6_init_0 2 rfl rfl)
theorem dJ6_init_5 : decode cJ6_init 5 = .ok (.return_, 1) := dk_177 (dk_at dksJ6_init_0 5 rfl rfl)
abbrev cJ6_init_2 : ByteArray := prog_30_method_1_code
def yJ6_init_2 : MethodName := ⟨RJ6, "<init>", "()V"⟩
theorem dJ6_init_2_0 : decode cJ6_init_2 0 = .ok (.aload_n 0, 1) := by decide +kernel
theorem dJ6_init_2_1 : decode cJ6_init_2 1 = .ok (.invokespecial 1, 3) := by decide +kernel
theorem dJ6_init_2_4 : decode cJ6_init_2 4 = .ok (.return_, 1) := by decide +kernel
/-! java/lang/AbstractStringBuilder: codes (from claim/names) -/
abbrev cJ7_init : ByteArray := prog_23_method_2_code
def yJ7_init : MethodName := ⟨RJ7, "<init>", "(I)V"⟩
def dkwJ7_init_1 : List UInt8 := [167, 0, 16, 42, 27, 184, 0, 26, 181, 0, 15, 42, 4, 181, 0, 22, 177]
abbrev dktJ7_init_1 : List UInt8 := dkwJ7_init_1 ++ []
def dkwJ7_init_0 : List UInt8 := [42, 183, 0, 3, 178, 0, 18, 153, 0, 18, 42, 27, 188, 8, 181, 0, 15, 42, 3, 181, 0, 22]
abbrev dktJ7_init_0 : List UInt8 := dkwJ7_init_0 ++ dktJ7_init_1
theorem dksJ7_init_0 : cJ7_init.data.toList.drop 0 = dktJ7_init_0 := by decide +kernel
theorem dksJ7_init_1 : cJ7_init.data.toList.drop 22 = dktJ7_init_1 := dk_seg dksJ7_init_0 22 rfl rfl
theorem dJ7_init_0 : decode cJ7_init 0 = .ok (.aload_n 0, 1) := dk_42 (dk_at dksJ7_init_0 0 rfl rfl)
theorem dJ7_init_1 : decode cJ7_init 1 = .ok (.invokespecial 3, 3) := dk_183 0 3 (dk_at dksJ7_init_0 1 rfl rfl)
theorem dJ7_init_4 : decode cJ7_init 4 = .ok (.getstatic 18, 3) := dk_178 0 18 (dk_at dksJ7_init_0 4 rfl rfl)
theorem dJ7_init_7 : decode cJ7_init 7 = .ok (.ifCond .eq 18, 3) := dk_153 0 18 (dk_at dksJ7_init_0 7 rfl rfl)
theorem dJ7_init_10 : decode cJ7_init 10 = .ok (.aload_n 0, 1) := dk_42 (dk_at dksJ7_init_0 10 rfl rfl)
theorem dJ7_init_11 : decode cJ7_init 11 = .ok (.iload_n 1, 1) := dk_27 (dk_at dksJ7_init_0 11 rfl rfl)
theorem dJ7_init_12 : decode cJ7_init 12 = .ok (.newarray .byte, 2) := dk_188_8 (dk_at dksJ7_init_0 12 rfl rfl)
theorem dJ7_init_14 : decode cJ7_init 14 = .ok (.putfield 15, 3) := dk_181 0 15 (dk_at dksJ7_init_0 14 rfl rfl)
theorem dJ7_init_17 : decode cJ7_init 17 = .ok (.aload_n 0, 1) := dk_42 (dk_at dksJ7_init_0 17 rfl rfl)
theorem dJ7_init_18 : decode cJ7_init 18 = .ok (.iconst 0, 1) := dk_3 (dk_at dksJ7_init_0 18 rfl rfl)
theorem dJ7_init_19 : decode cJ7_init 19 = .ok (.putfield 22, 3) := dk_181 0 22 (dk_at dksJ7_init_0 19 rfl rfl)
theorem dJ7_init_22 : decode cJ7_init 22 = .ok (.goto 16, 3) := dk_167 0 16 (dk_at dksJ7_init_1 0 rfl rfl)
theorem dJ7_init_25 : decode cJ7_init 25 = .ok (.aload_n 0, 1) := dk_42 (dk_at dksJ7_init_1 3 rfl rfl)
theorem dJ7_init_26 : decode cJ7_init 26 = .ok (.iload_n 1, 1) := dk_27 (dk_at dksJ7_init_1 4 rfl rfl)
theorem dJ7_init_27 : decode cJ7_init 27 = .ok (.invokestatic 26, 3) := dk_184 0 26 (dk_at dksJ7_init_1 5 rfl rfl)
theorem dJ7_init_30 : decode cJ7_init 30 = .ok (.putfield 15, 3) := dk_181 0 15 (dk_at dksJ7_init_1 8 rfl rfl)
theorem dJ7_init_33 : decode cJ7_init 33 = .ok (.aload_n 0, 1) := dk_42 (dk_at dksJ7_init_1 11 rfl rfl)
theorem dJ7_init_34 : decode cJ7_init 34 = .ok (.iconst 1, 1) := dk_4 (dk_at dksJ7_init_1 12 rfl rfl)
theorem dJ7_init_35 : decode cJ7_init 35 = .ok (.putfield 22, 3) := dk_181 0 22 (dk_at dksJ7_init_1 13 rfl rfl)
theorem dJ7_init_38 : decode cJ7_init 38 = .ok (.return_, 1) := dk_177 (dk_at dksJ7_init_1 16 rfl rfl)
abbrev cJ7_append : ByteArray := prog_23_method_22_code
def yJ7_append : MethodName := ⟨RJ7, "append", "(Ljava/lang/String;)Ljava/lang/AbstractStringBuilder;"⟩
def dkwJ7_append_1 : List UInt8 := [42, 42, 180, 0, 79, 43, 182, 0, 208, 42, 89, 180, 0, 79, 28, 96, 181, 0, 79, 42, 176]
abbrev dktJ7_append_1 : List UInt8 := dkwJ7_append_1 ++ []
def dkwJ7_append_0 : List UInt8 := [43, 199, 0, 8, 42, 182, 0, 204, 176, 43, 182, 0, 32, 61, 42, 42, 180, 0, 79, 28, 96, 182, 0, 100]
abbrev dktJ7_append_0 : List UInt8 := dkwJ7_append_0 ++ dktJ7_append_1
theorem dksJ7_append_0 : cJ7_append.data.toList.drop 0 = dktJ7_append_0 := by decide +kernel
theorem dksJ7_append_1 : cJ7_append.data.toList.drop 24 = dktJ7_append_1 := dk_seg dksJ7_append_0 24 rfl rfl
theorem dJ7_append_0 : decode cJ7_append 0 = .ok (.aload_n 1, 1) := dk_43 (dk_at dksJ7_append_0 0 rfl rfl)
theorem dJ7_append_1 : decode cJ7_append 1 = .ok (.ifnonnull 8, 3) := dk_199 0 8 (dk_at dksJ7_append_0 1 rfl rfl)
theorem dJ7_append_4 : decode cJ7_append 4 = .ok (.aload_n 0, 1) := dk_42 (dk_at dksJ7_append_0 4 rfl rfl)
theorem dJ7_append_5 : decode cJ7_append 5 = .ok (.invokevirtual 204, 3) := dk_182 0 204 (dk_at dksJ7_append_0 5 rfl rfl)
theorem dJ7_append_8 : decode cJ7_append 8 = .ok (.areturn, 1) := dk_176 (dk_at dksJ7_append_0 8 rfl rfl)
theorem dJ7_append_9 : decode cJ7_append 9 = .ok (.aload_n 1, 1) := dk_43 (dk_at dksJ7_append_0 9 rfl rfl)
theorem dJ7_append_10 : decode cJ7_append 10 = .ok (.invokevirtual 32, 3) := dk_182 0 32 (dk_at dksJ7_append_0 10 rfl rfl)
theorem dJ7_append_13 : decode cJ7_append 13 = .ok (.istore_n 2, 1) := dk_61 (dk_at dksJ7_append_0 13 rfl rfl)
theorem dJ7_append_14 : decode cJ7_append 14 = .ok (.aload_n 0, 1) := dk_42 (dk_at dksJ7_append_0 14 rfl rfl)
theorem dJ7_append_15 : decode cJ7_append 15 = .ok (.aload_n 0, 1) := dk_42 (dk_at dksJ7_append_0 15 rfl rfl)
theorem dJ7_append_16 : decode cJ7_append 16 = .ok (.getfield 79, 3) := dk_180 0 79 (dk_at dksJ7_append_0 16 rfl rfl)
theorem dJ7_append_19 : decode cJ7_append 19 = .ok (.iload_n 2, 1) := dk_28 (dk_at dksJ7_append_0 19 rfl rfl)
theorem dJ7_append_20 : decode cJ7_append 20 = .ok (.iadd, 1) := dk_96 (dk_at dksJ7_append_0 20 rfl rfl)
theorem dJ7_append_21 : decode cJ7_append 21 = .ok (.invokevirtual 100, 3) := dk_182 0 100 (dk_at dksJ7_append_0 21 rfl rfl)
theorem dJ7_append_24 : decode cJ7_append 24 = .ok (.aload_n 0, 1) := dk_42 (dk_at dksJ7_append_1 0 rfl rfl)
theorem dJ7_append_25 : decode cJ7_append 25 = .ok (.aload_n 0, 1) := dk_42 (dk_at dksJ7_append_1 1 rfl rfl)
theorem dJ7_append_26 : decode cJ7_append 26 = .ok (.getfield 79, 3) := dk_180 0 79 (dk_at dksJ7_append_1 2 rfl rfl)
theorem dJ7_append_29 : decode cJ7_append 29 = .ok (.aload_n 1, 1) := dk_43 (dk_at dksJ7_append_1 5 rfl rfl)
theorem dJ7_append_30 : decode cJ7_append 30 = .ok (.invokevirtual 208, 3) := dk_182 0 208 (dk_at dksJ7_append_1 6 rfl rfl)
theorem dJ7_append_33 : decode cJ7_append 33 = .ok (.aload_n 0, 1) := dk_42 (dk_at dksJ7_append_1 9 rfl rfl)
theorem dJ7_append_34 : decode cJ7_append 34 = .ok (.dup, 1) := dk_89 (dk_at dksJ7_append_1 10 rfl rfl)
theorem dJ7_append_35 : decode cJ7_append 35 = .ok (.getfield 79, 3) := dk_180 0 79 (dk_at dksJ7_append_1 11 rfl rfl)
theorem dJ7_append_38 : decode cJ7_append 38 = .ok (.iload_n 2, 1) := dk_28 (dk_at dksJ7_append_1 14 rfl rfl)
theorem dJ7_append_39 : decode cJ7_append 39 = .ok (.iadd, 1) := dk_96 (dk_at dksJ7_append_1 15 rfl rfl)
theorem dJ7_append_40 : decode cJ7_append 40 = .ok (.putfield 79, 3) := dk_181 0 79 (dk_at dksJ7_append_1 16 rfl rfl)
theorem dJ7_append_43 : decode cJ7_append 43 = .ok (.aload_n 0, 1) := dk_42 (dk_at dksJ7_append_1 19 rfl rfl)
theorem dJ7_append_44 : decode cJ7_append 44 = .ok (.areturn, 1) := dk_176 (dk_at dksJ7_append_1 20 rfl rfl)
abbrev cJ7_appendNull : ByteArray := prog_23_method_26_code
def yJ7_appendNull : MethodName := ⟨RJ7, "appendNull", "()Ljava/lang/AbstractStringBuilder;"⟩
def dkwJ7_appendNull_3 : List UInt8 := [184, 0, 226, 60, 42, 27, 181, 0, 79, 42, 176]
abbrev dktJ7_appendNull_3 : List UInt8 := dkwJ7_appendNull_3 ++ []
def dkwJ7_appendNull_2 : List UInt8 := [16, 108, 84, 44, 27, 132, 1, 1, 16, 108, 84, 167, 0, 17, 44, 27, 16, 110, 16, 117, 16, 108, 16, 108]
abbrev dktJ7_appendNull_2 : List UInt8 := dkwJ7_appendNull_2 ++ dktJ7_appendNull_3
def dkwJ7_appendNull_1 : List UInt8 := [153, 0, 38, 44, 27, 132, 1, 1, 16, 110, 84, 44, 27, 132, 1, 1, 16, 117, 84, 44, 27, 132, 1, 1]
abbrev dktJ7_appendNull_1 : List UInt8 := dkwJ7_appendNull_1 ++ dktJ7_appendNull_2
def dkwJ7_appendNull_0 : List UInt8 := [42, 42, 180, 0, 79, 7, 96, 182, 0, 100, 42, 180, 0, 79, 60, 42, 180, 0, 15, 77, 42, 182, 0, 83]
abbrev dktJ7_appendNull_0 : List UInt8 := dkwJ7_appendNull_0 ++ dktJ7_appendNull_1
theorem dksJ7_appendNull_0 : cJ7_appendNull.data.toList.drop 0 = dktJ7_appendNull_0 := by decide +kernel
theorem dksJ7_appendNull_1 : cJ7_appendNull.data.toList.drop 24 = dktJ7_appendNull_1 := dk_seg dksJ7_appendNull_0 24 rfl rfl
theorem dksJ7_appendNull_2 : cJ7_appendNull.data.toList.drop 48 = dktJ7_appendNull_2 := dk_seg dksJ7_appendNull_1 24 rfl rfl
theorem dksJ7_appendNull_3 : cJ7_appendNull.data.toList.drop 72 = dktJ7_appendNull_3 := dk_seg dksJ7_appendNull_2 24 rfl rfl
theorem dJ7_appendNull_0 : decode cJ7_appendNull 0 = .ok (.aload_n 0, 1) := dk_42 (dk_at dksJ7_appendNull_0 0 rfl rfl)
theorem dJ7_appendNull_1 : decode cJ7_appendNull 1 = .ok (.aload_n 0, 1) := dk_42 (dk_at dksJ7_appendNull_0 1 rfl rfl)
theorem dJ7_appendNull_2 : decode cJ7_appendNull 2 = .ok (.getfield 79, 3) := dk_180 0 79 (dk_at dksJ7_appendNull_0 2 rfl rfl)
theorem dJ7_appendNull_5 : decode cJ7_appendNull 5 = .ok (.iconst 4, 1) := dk_7 (dk_at dksJ7_appendNull_0 5 rfl rfl)
theorem dJ7_appendNull_6 : decode cJ7_appendNull 6 = .ok (.iadd, 1) := dk_96 (dk_at dksJ7_appendNull_0 6 rfl rfl)
theorem dJ7_appendNull_7 : decode cJ7_appendNull 7 = .ok (.invokevirtual 100, 3) := dk_182 0 100 (dk_at dksJ7_appendNull_0 7 rfl rfl)
theorem dJ7_appendNull_10 : decode cJ7_appendNull 10 = .ok (.aload_n 0, 1) := dk_42 (dk_at dksJ7_appendNull_0 10 rfl rfl)
theorem dJ7_appendNull_11 : decode cJ7_appendNull 11 = .ok (.getfield 79, 3) := dk_180 0 79 (dk_at dksJ7_appendNull_0 11 rfl rfl)
theorem dJ7_appendNull_14 : decode cJ7_appendNull 14 = .ok (.istore_n 1, 1) := dk_60 (dk_at dksJ7_appendNull_0 14 rfl rfl)
theorem dJ7_appendNull_15 : decode cJ7_appendNull 15 = .ok (.aload_n 0, 1) := dk_42 (dk_at dksJ7_appendNull_0 15 rfl rfl)
theorem dJ7_appendNull_16 : decode cJ7_appendNull 16 = .ok (.getfield 15, 3) := dk_180 0 15 (dk_at dksJ7_appendNull_0 16 rfl rfl)
theorem dJ7_appendNull_19 : decode cJ7_appendNull 19 = .ok (.astore_n 2, 1) := dk_77 (dk_at dksJ7_appendNull_0 19 rfl rfl)
theorem dJ7_appendNull_20 : decode cJ7_appendNull 20 = .ok (.aload_n 0, 1) := dk_42 (dk_at dksJ7_appendNull_0 20 rfl rfl)
theorem dJ7_appendNull_21 : decode cJ7_appendNull 21 = .ok (.invokevirtual 83, 3) := dk_182 0 83 (dk_at dksJ7_appendNull_0 21 rfl rfl)
theorem dJ7_appendNull_24 : decode cJ7_appendNull 24 = .ok (.ifCond .eq 38, 3) := dk_153 0 38 (dk_at dksJ7_appendNull_1 0 rfl rfl)
theorem dJ7_appendNull_27 : decode cJ7_appendNull 27 = .ok (.aload_n 2, 1) := dk_44 (dk_at dksJ7_appendNull_1 3 rfl rfl)
theorem dJ7_appendNull_28 : decode cJ7_appendNull 28 = .ok (.iload_n 1, 1) := dk_27 (dk_at dksJ7_appendNull_1 4 rfl rfl)
theorem dJ7_appendNull_29 : decode cJ7_appendNull 29 = .ok (.iinc 1 1, 3) := dk_132 1 1 (dk_at dksJ7_appendNull_1 5 rfl rfl)
theorem dJ7_appendNull_32 : decode cJ7_appendNull 32 = .ok (.bipush 110, 2) := dk_16 110 (dk_at dksJ7_appendNull_1 8 rfl rfl)
theorem dJ7_appendNull_34 : decode cJ7_appendNull 34 = .ok (.bastore, 1) := dk_84 (dk_at dksJ7_appendNull_1 10 rfl rfl)
theorem dJ7_appendNull_35 : decode cJ7_appendNull 35 = .ok (.aload_n 2, 1) := dk_44 (dk_at dksJ7_appendNull_1 11 rfl rfl)
theorem dJ7_appendNull_36 : decode cJ7_appendNull 36 = .ok (.iload_n 1, 1) := dk_27 (dk_at dksJ7_appendNull_1 12 rfl rfl)
theorem dJ7_appendNull_37 : decode cJ7_appendNull 37 = .ok (.iinc 1 1, 3) := dk_132 1 1 (dk_at dksJ7_appendNull_1 13 rfl rfl)
theorem dJ7_appendNull_40 : decode cJ7_appendNull 40 = .ok (.bipush 117, 2) := dk_16 117 (dk_at dksJ7_appendNull_1 16 rfl rfl)
theorem dJ7_appendNull_42 : decode cJ7_appendNull 42 = .ok (.bastore, 1) := dk_84 (dk_at dksJ7_appendNull_1 18 rfl rfl)
theorem dJ7_appendNull_43 : decode cJ7_appendNull 43 = .ok (.aload_n 2, 1) := dk_44 (dk_at dksJ7_appendNull_1 19 rfl rfl)
theorem dJ7_appendNull_44 : decode cJ7_appendNull 44 = .ok (.iload_n 1, 1) := dk_27 (dk_at dksJ7_appendNull_1 20 rfl rfl)
theorem dJ7_appendNull_45 : decode cJ7_appendNull 45 = .ok (.iinc 1 1, 3) := dk_132 1 1 (dk_at dksJ7_appendNull_1 21 rfl rfl)
theorem dJ7_appendNull_48 : decode cJ7_appendNull 48 = .ok (.bipush 108, 2) := dk_16 108 (dk_at dksJ7_appendNull_2 0 rfl rfl)
theorem dJ7_appendNull_50 : decode cJ7_appendNull 50 = .ok (.bastore, 1) := dk_84 (dk_at dksJ7_appendNull_2 2 rfl rfl)
theorem dJ7_appendNull_51 : decode cJ7_appendNull 51 = .ok (.aload_n 2, 1) := dk_44 (dk_at dksJ7_appendNull_2 3 rfl rfl)
theorem dJ7_appendNull_52 : decode cJ7_appendNull 52 = .ok (.iload_n 1, 1) := dk_27 (dk_at dksJ7_appendNull_2 4 rfl rfl)
theorem dJ7_appendNull_53 : decode cJ7_appendNull 53 = .ok (.iinc 1 1, 3) := dk_132 1 1 (dk_at dksJ7_appendNull_2 5 rfl rfl)
theorem dJ7_appendNull_56 : decode cJ7_appendNull 56 = .ok (.bipush 108, 2) := dk_16 108 (dk_at dksJ7_appendNull_2 8 rfl rfl)
theorem dJ7_appendNull_58 : decode cJ7_appendNull 58 = .ok (.bastore, 1) := dk_84 (dk_at dksJ7_appendNull_2 10 rfl rfl)
theorem dJ7_appendNull_59 : decode cJ7_appendNull 59 = .ok (.goto 17, 3) := dk_167 0 17 (dk_at dksJ7_appendNull_2 11 rfl rfl)
theorem dJ7_appendNull_62 : decode cJ7_appendNull 62 = .ok (.aload_n 2, 1) := dk_44 (dk_at dksJ7_appendNull_2 14 rfl rfl)
theorem dJ7_appendNull_63 : decode cJ7_appendNull 63 = .ok (.iload_n 1, 1) := dk_27 (dk_at dksJ7_appendNull_2 15 rfl rfl)
theorem dJ7_appendNull_64 : decode cJ7_appendNull 64 = .ok (.bipush 110, 2) := dk_16 110 (dk_at dksJ7_appendNull_2 16 rfl rfl)
theorem dJ7_appendNull_66 : decode cJ7_appendNull 66 = .ok (.bipush 117, 2) := dk_16 117 (dk_at dksJ7_appendNull_2 18 rfl rfl)
theorem dJ7_appendNull_68 : decode cJ7_appendNull 68 = .ok (.bipush 108, 2) := dk_16 108 (dk_at dksJ7_appendNull_2 20 rfl rfl)
theorem dJ7_appendNull_70 : decode cJ7_appendNull 70 = .ok (.bipush 108, 2) := dk_16 108 (dk_at dksJ7_appendNull_2 22 rfl rfl)
theorem dJ7_appendNull_72 : decode cJ7_appendNull 72 = .ok (.invokestatic 226, 3) := dk_184 0 226 (dk_at dksJ7_appendNull_3 0 rfl rfl)
theorem dJ7_appendNull_75 : decode cJ7_appendNull 75 = .ok (.istore_n 1, 1) := dk_60 (dk_at dksJ7_appendNull_3 3 rfl rfl)
theorem dJ7_appendNull_76 : decode cJ7_appendNull 76 = .ok (.aload_n 0, 1) := dk_42 (dk_at dksJ7_appendNull_3 4 rfl rfl)
theorem dJ7_appendNull_77 : decode cJ7_appendNull 77 = .ok (.iload_n 1, 1) := dk_27 (dk_at dksJ7_appendNull_3 5 rfl rfl)
theorem dJ7_appendNull_78 : decode cJ7_appendNull 78 = .ok (.putfield 79, 3) := dk_181 0 79 (dk_at dksJ7_appendNull_3 6 rfl rfl)
theorem dJ7_appendNull_81 : decode cJ7_appendNull 81 = .ok (.aload_n 0, 1) := dk_42 (dk_at dksJ7_appendNull_3 9 rfl rfl)
theorem dJ7_appendNull_82 : decode cJ7_appendNull 82 = .ok (.areturn, 1) := dk_176 (dk_at dksJ7_appendNull_3 10 rfl rfl)
abbrev cJ7_ensureCapacityInternal : ByteArray := prog_23_method_9_code
def yJ7_ensureCapacityInternal : MethodName := ⟨RJ7, "ensureCapacityInternal", "(I)V"⟩
def dkwJ7_ensureCapacityInternal_1 : List UInt8 := [182, 0, 104, 42, 180, 0, 22, 120, 184, 0, 108, 181, 0, 15, 177]
abbrev dktJ7_ensureCapacityInternal_1 : List UInt8 := dkwJ7_ensureCapacityInternal_1 ++ []
def dkwJ7_ensureCapacityInternal_0 : List UInt8 := [42, 180, 0, 15, 190, 42, 180, 0, 22, 122, 61, 27, 28, 100, 158, 0, 24, 42, 42, 180, 0, 15, 42, 27]
abbrev dktJ7_ensureCapacityInternal_0 : List UInt8 := dkwJ7_ensureCapacityInternal_0 ++ dktJ7_ensureCapacityInternal_1
theorem dksJ7_ensureCapacityInternal_0 : cJ7_ensureCapacityInternal.data.toList.drop 0 = dktJ7_ensureCapacityInternal_0 := by decide +kernel
theorem dksJ7_ensureCapacityInternal_1 : cJ7_ensureCapacityInternal.data.toList.drop 24 = dktJ7_ensureCapacityInternal_1 := dk_seg dksJ7_ensureCapacityInternal_0 24 rfl rfl
theorem dJ7_ensureCapacityInternal_0 : decode cJ7_ensureCapacityInternal 0 = .ok (.aload_n 0, 1) := dk_42 (dk_at dksJ7_ensureCapacityInternal_0 0 rfl rfl)
theorem dJ7_ensureCapacityInternal_1 : decode cJ7_ensureCapacityInternal 1 = .ok (.getfield 15, 3) := dk_180 0 15 (dk_at dksJ7_ensureCapacityInternal_0 1 rfl rfl)
theorem dJ7_ensureCapacityInternal_4 : decode cJ7_ensureCapacityInternal 4 = .ok (.arraylength, 1) := dk_190 (dk_at dksJ7_ensureCapacityInternal_0 4 rfl rfl)
theorem dJ7_ensureCapacityInternal_5 : decode cJ7_ensureCapacityInternal 5 = .ok (.aload_n 0, 1) := dk_42 (dk_at dksJ7_ensureCapacityInternal_0 5 rfl rfl)
theorem dJ7_ensureCapacityInternal_6 : decode cJ7_ensureCapacityInternal 6 = .ok (.getfield 22, 3) := dk_180 0 22 (dk_at dksJ7_ensureCapacityInternal_0 6 rfl rfl)
theorem dJ7_ensureCapacityInternal_9 : decode cJ7_ensureCapacityInternal 9 = .ok (.ishr, 1) := dk_122 (dk_at dksJ7_ensureCapacityInternal_0 9 rfl rfl)
theorem dJ7_ensureCapacityInternal_10 : decode cJ7_ensureCapacityInternal 10 = .ok (.istore_n 2, 1) := dk_61 (dk_at dksJ7_ensureCapacityInternal_0 10 rfl rfl)
theorem dJ7_ensureCapacityInternal_11 : decode cJ7_ensureCapacityInternal 11 = .ok (.iload_n 1, 1) := dk_27 (dk_at dksJ7_ensureCapacityInternal_0 11 rfl rfl)
theorem dJ7_ensureCapacityInternal_12 : decode cJ7_ensureCapacityInternal 12 = .ok (.iload_n 2, 1) := dk_28 (dk_at dksJ7_ensureCapacityInternal_0 12 rfl rfl)
theorem dJ7_ensureCapacityInternal_13 : decode cJ7_ensureCapacityInternal 13 = .ok (.isub, 1) := dk_100 (dk_at dksJ7_ensureCapacityInternal_0 13 rfl rfl)
theorem dJ7_ensureCapacityInternal_14 : decode cJ7_ensureCapacityInternal 14 = .ok (.ifCond .le 24, 3) := dk_158 0 24 (dk_at dksJ7_ensureCapacityInternal_0 14 rfl rfl)
theorem dJ7_ensureCapacityInternal_17 : decode cJ7_ensureCapacityInternal 17 = .ok (.aload_n 0, 1) := dk_42 (dk_at dksJ7_ensureCapacityInternal_0 17 rfl rfl)
theorem dJ7_ensureCapacityInternal_18 : decode cJ7_ensureCapacityInternal 18 = .ok (.aload_n 0, 1) := dk_42 (dk_at dksJ7_ensureCapacityInternal_0 18 rfl rfl)
theorem dJ7_ensureCapacityInternal_19 : decode cJ7_ensureCapacityInternal 19 = .ok (.getfield 15, 3) := dk_180 0 15 (dk_at dksJ7_ensureCapacityInternal_0 19 rfl rfl)
theorem dJ7_ensureCapacityInternal_22 : decode cJ7_ensureCapacityInternal 22 = .ok (.aload_n 0, 1) := dk_42 (dk_at dksJ7_ensureCapacityInternal_0 22 rfl rfl)
theorem dJ7_ensureCapacityInternal_23 : decode cJ7_ensureCapacityInternal 23 = .ok (.iload_n 1, 1) := dk_27 (dk_at dksJ7_ensureCapacityInternal_0 23 rfl rfl)
theorem dJ7_ensureCapacityInternal_24 : decode cJ7_ensureCapacityInternal 24 = .ok (.invokevirtual 104, 3) := dk_182 0 104 (dk_at dksJ7_ensureCapacityInternal_1 0 rfl rfl)
theorem dJ7_ensureCapacityInternal_27 : decode cJ7_ensureCapacityInternal 27 = .ok (.aload_n 0, 1) := dk_42 (dk_at dksJ7_ensureCapacityInternal_1 3 rfl rfl)
theorem dJ7_ensureCapacityInternal_28 : decode cJ7_ensureCapacityInternal 28 = .ok (.getfield 22, 3) := dk_180 0 22 (dk_at dksJ7_ensureCapacityInternal_1 4 rfl rfl)
theorem dJ7_ensureCapacityInternal_31 : decode cJ7_ensureCapacityInternal 31 = .ok (.ishl, 1) := dk_120 (dk_at dksJ7_ensureCapacityInternal_1 7 rfl rfl)
theorem dJ7_ensureCapacityInternal_32 : decode cJ7_ensureCapacityInternal 32 = .ok (.invokestatic 108, 3) := dk_184 0 108 (dk_at dksJ7_ensureCapacityInternal_1 8 rfl rfl)
theorem dJ7_ensureCapacityInternal_35 : decode cJ7_ensureCapacityInternal 35 = .ok (.putfield 15, 3) := dk_181 0 15 (dk_at dksJ7_ensureCapacityInternal_1 11 rfl rfl)
theorem dJ7_ensureCapacityInternal_38 : decode cJ7_ensureCapacityInternal 38 = .ok (.return_, 1) := dk_177 (dk_at dksJ7_ensureCapacityInternal_1 14 rfl rfl)
abbrev cJ7_newCapacity : ByteArray := prog_23_method_10_code
def yJ7_newCapacity : MethodName := ⟨RJ7, "newCapacity", "(I)I"⟩
def dkwJ7_newCapacity_2 : List UInt8 := [183, 0, 124, 191, 21, 5, 42, 180, 0, 22, 122, 172]
abbrev dktJ7_newCapacity_2 : List UInt8 := dkwJ7_newCapacity_2 ++ []
def dkwJ7_newCapacity_1 : List UInt8 := [180, 0, 22, 120, 96, 184, 0, 114, 54, 5, 21, 5, 18, 39, 160, 0, 13, 187, 0, 120, 89, 18, 122]
abbrev dktJ7_newCapacity_1 : List UInt8 := dkwJ7_newCapacity_1 ++ dktJ7_newCapacity_2
def dkwJ7_newCapacity_0 : List UInt8 := [42, 180, 0, 15, 190, 61, 27, 42, 180, 0, 22, 120, 62, 29, 28, 100, 54, 4, 28, 21, 4, 28, 5, 42]
abbrev dktJ7_newCapacity_0 : List UInt8 := dkwJ7_newCapacity_0 ++ dktJ7_newCapacity_1
theorem dksJ7_newCapacity_0 : cJ7_newCapacity.data.toList.drop 0 = dktJ7_newCapacity_0 := by decide +kernel
theorem dksJ7_newCapacity_1 : cJ7_newCapacity.data.toList.drop 24 = dktJ7_newCapacity_1 := dk_seg dksJ7_newCapacity_0 24 rfl rfl
theorem dksJ7_newCapacity_2 : cJ7_newCapacity.data.toList.drop 47 = dktJ7_newCapacity_2 := dk_seg dksJ7_newCapacity_1 23 rfl rfl
theorem dJ7_newCapacity_0 : decode cJ7_newCapacity 0 = .ok (.aload_n 0, 1) := dk_42 (dk_at dksJ7_newCapacity_0 0 rfl rfl)
theorem dJ7_newCapacity_1 : decode cJ7_newCapacity 1 = .ok (.getfield 15, 3) := dk_180 0 15 (dk_at dksJ7_newCapacity_0 1 rfl rfl)
theorem dJ7_newCapacity_4 : decode cJ7_newCapacity 4 = .ok (.arraylength, 1) := dk_190 (dk_at dksJ7_newCapacity_0 4 rfl rfl)
theorem dJ7_newCapacity_5 : decode cJ7_newCapacity 5 = .ok (.istore_n 2, 1) := dk_61 (dk_at dksJ7_newCapacity_0 5 rfl rfl)
theorem dJ7_newCapacity_6 : decode cJ7_newCapacity 6 = .ok (.iload_n 1, 1) := dk_27 (dk_at dksJ7_newCapacity_0 6 rfl rfl)
theorem dJ7_newCapacity_7 : decode cJ7_newCapacity 7 = .ok (.aload_n 0, 1) := dk_42 (dk_at dksJ7_newCapacity_0 7 rfl rfl)
theorem dJ7_newCapacity_8 : decode cJ7_newCapacity 8 = .ok (.getfield 22, 3) := dk_180 0 22 (dk_at dksJ7_newCapacity_0 8 rfl rfl)
theorem dJ7_newCapacity_11 : decode cJ7_newCapacity 11 = .ok (.ishl, 1) := dk_120 (dk_at dksJ7_newCapacity_0 11 rfl rfl)
theorem dJ7_newCapacity_12 : decode cJ7_newCapacity 12 = .ok (.istore_n 3, 1) := dk_62 (dk_at dksJ7_newCapacity_0 12 rfl rfl)
theorem dJ7_newCapacity_13 : decode cJ7_newCapacity 13 = .ok (.iload_n 3, 1) := dk_29 (dk_at dksJ7_newCapacity_0 13 rfl rfl)
theorem dJ7_newCapacity_14 : decode cJ7_newCapacity 14 = .ok (.iload_n 2, 1) := dk_28 (dk_at dksJ7_newCapacity_0 14 rfl rfl)
theorem dJ7_newCapacity_15 : decode cJ7_newCapacity 15 = .ok (.isub, 1) := dk_100 (dk_at dksJ7_newCapacity_0 15 rfl rfl)
theorem dJ7_newCapacity_16 : decode cJ7_newCapacity 16 = .ok (.istore 4, 2) := dk_54 4 (dk_at dksJ7_newCapacity_0 16 rfl rfl)
theorem dJ7_newCapacity_18 : decode cJ7_newCapacity 18 = .ok (.iload_n 2, 1) := dk_28 (dk_at dksJ7_newCapacity_0 18 rfl rfl)
theorem dJ7_newCapacity_19 : decode cJ7_newCapacity 19 = .ok (.iload 4, 2) := dk_21 4 (dk_at dksJ7_newCapacity_0 19 rfl rfl)
theorem dJ7_newCapacity_21 : decode cJ7_newCapacity 21 = .ok (.iload_n 2, 1) := dk_28 (dk_at dksJ7_newCapacity_0 21 rfl rfl)
theorem dJ7_newCapacity_22 : decode cJ7_newCapacity 22 = .ok (.iconst 2, 1) := dk_5 (dk_at dksJ7_newCapacity_0 22 rfl rfl)
theorem dJ7_newCapacity_23 : decode cJ7_newCapacity 23 = .ok (.aload_n 0, 1) := dk_42 (dk_at dksJ7_newCapacity_0 23 rfl rfl)
theorem dJ7_newCapacity_24 : decode cJ7_newCapacity 24 = .ok (.getfield 22, 3) := dk_180 0 22 (dk_at dksJ7_newCapacity_1 0 rfl rfl)
theorem dJ7_newCapacity_27 : decode cJ7_newCapacity 27 = .ok (.ishl, 1) := dk_120 (dk_at dksJ7_newCapacity_1 3 rfl rfl)
theorem dJ7_newCapacity_28 : decode cJ7_newCapacity 28 = .ok (.iadd, 1) := dk_96 (dk_at dksJ7_newCapacity_1 4 rfl rfl)
theorem dJ7_newCapacity_29 : decode cJ7_newCapacity 29 = .ok (.invokestatic 114, 3) := dk_184 0 114 (dk_at dksJ7_newCapacity_1 5 rfl rfl)
theorem dJ7_newCapacity_32 : decode cJ7_newCapacity 32 = .ok (.istore 5, 2) := dk_54 5 (dk_at dksJ7_newCapacity_1 8 rfl rfl)
theorem dJ7_newCapacity_34 : decode cJ7_newCapacity 34 = .ok (.iload 5, 2) := dk_21 5 (dk_at dksJ7_newCapacity_1 10 rfl rfl)
theorem dJ7_newCapacity_36 : decode cJ7_newCapacity 36 = .ok (.ldc 39, 2) := dk_18 39 (dk_at dksJ7_newCapacity_1 12 rfl rfl)
theorem dJ7_newCapacity_38 : decode cJ7_newCapacity 38 = .ok (.if_icmp .ne 13, 3) := dk_160 0 13 (dk_at dksJ7_newCapacity_1 14 rfl rfl)
theorem dJ7_newCapacity_41 : decode cJ7_newCapacity 41 = .ok (.new 120, 3) := dk_187 0 120 (dk_at dksJ7_newCapacity_1 17 rfl rfl)
theorem dJ7_newCapacity_44 : decode cJ7_newCapacity 44 = .ok (.dup, 1) := dk_89 (dk_at dksJ7_newCapacity_1 20 rfl rfl)
theorem dJ7_newCapacity_45 : decode cJ7_newCapacity 45 = .ok (.ldc 122, 2) := dk_18 122 (dk_at dksJ7_newCapacity_1 21 rfl rfl)
theorem dJ7_newCapacity_47 : decode cJ7_newCapacity 47 = .ok (.invokespecial 124, 3) := dk_183 0 124 (dk_at dksJ7_newCapacity_2 0 rfl rfl)
theorem dJ7_newCapacity_50 : decode cJ7_newCapacity 50 = .ok (.athrow, 1) := dk_191 (dk_at dksJ7_newCapacity_2 3 rfl rfl)
theorem dJ7_newCapacity_51 : decode cJ7_newCapacity 51 = .ok (.iload 5, 2) := dk_21 5 (dk_at dksJ7_newCapacity_2 4 rfl rfl)
theorem dJ7_newCapacity_53 : decode cJ7_newCapacity 53 = .ok (.aload_n 0, 1) := dk_42 (dk_at dksJ7_newCapacity_2 6 rfl rfl)
theorem dJ7_newCapacity_54 : decode cJ7_newCapacity 54 = .ok (.getfield 22, 3) := dk_180 0 22 (dk_at dksJ7_newCapacity_2 7 rfl rfl)
theorem dJ7_newCapacity_57 : decode cJ7_newCapacity 57 = .ok (.ishr, 1) := dk_122 (dk_at dksJ7_newCapacity_2 10 rfl rfl)
theorem dJ7_newCapacity_58 : decode cJ7_newCapacity 58 = .ok (.ireturn, 1) := dk_172 (dk_at dksJ7_newCapacity_2 11 rfl rfl)
abbrev cJ7_isLatin1 : ByteArray := prog_23_method_68_code
def yJ7_isLatin1 : MethodName := ⟨RJ7, "isLatin1", "()Z"⟩
def dkwJ7_isLatin1_0 : List UInt8 := [178, 0, 18, 153, 0, 14, 42, 180, 0, 22, 154, 0, 7, 4, 167, 0, 4, 3, 172]
abbrev dktJ7_isLatin1_0 : List UInt8 := dkwJ7_isLatin1_0 ++ []
theorem dksJ7_isLatin1_0 : cJ7_isLatin1.data.toList.drop 0 = dktJ7_isLatin1_0 := by decide +kernel
theorem dJ7_isLatin1_0 : decode cJ7_isLatin1 0 = .ok (.getstatic 18, 3) := dk_178 0 18 (dk_at dksJ7_isLatin1_0 0 rfl rfl)
theorem dJ7_isLatin1_3 : decode cJ7_isLatin1 3 = .ok (.ifCond .eq 14, 3) := dk_153 0 14 (dk_at dksJ7_isLatin1_0 3 rfl rfl)
theorem dJ7_isLatin1_6 : decode cJ7_isLatin1 6 = .ok (.aload_n 0, 1) := dk_42 (dk_at dksJ7_isLatin1_0 6 rfl rfl)
theorem dJ7_isLatin1_7 : decode cJ7_isLatin1 7 = .ok (.getfield 22, 3) := dk_180 0 22 (dk_at dksJ7_isLatin1_0 7 rfl rfl)
theorem dJ7_isLatin1_10 : decode cJ7_isLatin1 10 = .ok (.ifCond .ne 7, 3) := dk_154 0 7 (dk_at dksJ7_isLatin1_0 10 rfl rfl)
theorem dJ7_isLatin1_13 : decode cJ7_isLatin1 13 = .ok (.iconst 1, 1) := dk_4 (dk_at dksJ7_isLatin1_0 13 rfl rfl)
theorem dJ7_isLatin1_14 : decode cJ7_isLatin1 14 = .ok (.goto 4, 3) := dk_167 0 4 (dk_at dksJ7_isLatin1_0 14 rfl rfl)
theorem dJ7_isLatin1_17 : decode cJ7_isLatin1 17 = .ok (.iconst 0, 1) := dk_3 (dk_at dksJ7_isLatin1_0 17 rfl rfl)
theorem dJ7_isLatin1_18 : decode cJ7_isLatin1 18 = .ok (.ireturn, 1) := dk_172 (dk_at dksJ7_isLatin1_0 18 rfl rfl)
abbrev cJ7_putStringAt : ByteArray := prog_23_method_73_code
def yJ7_putStringAt : MethodName := ⟨RJ7, "putStringAt", "(ILjava/lang/String;)V"⟩
def dkwJ7_putStringAt_0 : List UInt8 := [42, 44, 182, 1, 141, 44, 42, 180, 0, 15, 27, 42, 180, 0, 22, 182, 1, 143, 177]
abbrev dktJ7_putStringAt_0 : List UInt8 := dkwJ7_putStringAt_0 ++ []
theorem dksJ7_putStringAt_0 : cJ7_putStringAt.data.toList.drop 0 = dktJ7_putStringAt_0 := by decide +kernel
theorem dJ7_putStringAt_0 : decode cJ7_putStringAt 0 = .ok (.aload_n 0, 1) := dk_42 (dk_at dksJ7_putStringAt_0 0 rfl rfl)
theorem dJ7_putStringAt_1 : decode cJ7_putStringAt 1 = .ok (.aload_n 2, 1) := dk_44 (dk_at dksJ7_putStringAt_0 1 rfl rfl)
theorem dJ7_putStringAt_2 : decode cJ7_putStringAt 2 = .ok (.invokevirtual 397, 3) := dk_182 1 141 (dk_at dksJ7_putStringAt_0 2 rfl rfl)
theorem dJ7_putStringAt_5 : decode cJ7_putStringAt 5 = .ok (.aload_n 2, 1) := dk_44 (dk_at dksJ7_putStringAt_0 5 rfl rfl)
theorem dJ7_putStringAt_6 : decode cJ7_putStringAt 6 = .ok (.aload_n 0, 1) := dk_42 (dk_at dksJ7_putStringAt_0 6 rfl rfl)
theorem dJ7_putStringAt_7 : decode cJ7_putStringAt 7 = .ok (.getfield 15, 3) := dk_180 0 15 (dk_at dksJ7_putStringAt_0 7 rfl rfl)
theorem dJ7_putStringAt_10 : decode cJ7_putStringAt 10 = .ok (.iload_n 1, 1) := dk_27 (dk_at dksJ7_putStringAt_0 10 rfl rfl)
theorem dJ7_putStringAt_11 : decode cJ7_putStringAt 11 = .ok (.aload_n 0, 1) := dk_42 (dk_at dksJ7_putStringAt_0 11 rfl rfl)
theorem dJ7_putStringAt_12 : decode cJ7_putStringAt 12 = .ok (.getfield 22, 3) := dk_180 0 22 (dk_at dksJ7_putStringAt_0 12 rfl rfl)
theorem dJ7_putStringAt_15 : decode cJ7_putStringAt 15 = .ok (.invokevirtual 399, 3) := dk_182 1 143 (dk_at dksJ7_putStringAt_0 15 rfl rfl)
theorem dJ7_putStringAt_18 : decode cJ7_putStringAt 18 = .ok (.return_, 1) := dk_177 (dk_at dksJ7_putStringAt_0 18 rfl rfl)
abbrev cJ7_inflateIfNeededFor : ByteArray := prog_23_method_71_code
def yJ7_inflateIfNeededFor : MethodName := ⟨RJ7, "inflateIfNeededFor", "(Ljava/lang/String;)V"⟩
def dkwJ7_inflateIfNeededFor_0 : List UInt8 := [178, 0, 18, 153, 0, 18, 42, 180, 0, 22, 43, 182, 0, 40, 159, 0, 7, 42, 182, 0, 195, 177]
abbrev dktJ7_inflateIfNeededFor_0 : List UInt8 := dkwJ7_inflateIfNeededFor_0 ++ []
theorem dksJ7_inflateIfNeededFor_0 : cJ7_inflateIfNeededFor.data.toList.drop 0 = dktJ7_inflateIfNeededFor_0 := by decide +kernel
theorem dJ7_inflateIfNeededFor_0 : decode cJ7_inflateIfNeededFor 0 = .ok (.getstatic 18, 3) := dk_178 0 18 (dk_at dksJ7_inflateIfNeededFor_0 0 rfl rfl)
theorem dJ7_inflateIfNeededFor_3 : decode cJ7_inflateIfNeededFor 3 = .ok (.ifCond .eq 18, 3) := dk_153 0 18 (dk_at dksJ7_inflateIfNeededFor_0 3 rfl rfl)
theorem dJ7_inflateIfNeededFor_6 : decode cJ7_inflateIfNeededFor 6 = .ok (.aload_n 0, 1) := dk_42 (dk_at dksJ7_inflateIfNeededFor_0 6 rfl rfl)
theorem dJ7_inflateIfNeededFor_7 : decode cJ7_inflateIfNeededFor 7 = .ok (.getfield 22, 3) := dk_180 0 22 (dk_at dksJ7_inflateIfNeededFor_0 7 rfl rfl)
theorem dJ7_inflateIfNeededFor_10 : decode cJ7_inflateIfNeededFor 10 = .ok (.aload_n 1, 1) := dk_43 (dk_at dksJ7_inflateIfNeededFor_0 10 rfl rfl)
theorem dJ7_inflateIfNeededFor_11 : decode cJ7_inflateIfNeededFor 11 = .ok (.invokevirtual 40, 3) := dk_182 0 40 (dk_at dksJ7_inflateIfNeededFor_0 11 rfl rfl)
theorem dJ7_inflateIfNeededFor_14 : decode cJ7_inflateIfNeededFor 14 = .ok (.if_icmp .eq 7, 3) := dk_159 0 7 (dk_at dksJ7_inflateIfNeededFor_0 14 rfl rfl)
theorem dJ7_inflateIfNeededFor_17 : decode cJ7_inflateIfNeededFor 17 = .ok (.aload_n 0, 1) := dk_42 (dk_at dksJ7_inflateIfNeededFor_0 17 rfl rfl)
theorem dJ7_inflateIfNeededFor_18 : decode cJ7_inflateIfNeededFor 18 = .ok (.invokevirtual 195, 3) := dk_182 0 195 (dk_at dksJ7_inflateIfNeededFor_0 18 rfl rfl)
theorem dJ7_inflateIfNeededFor_21 : decode cJ7_inflateIfNeededFor 21 = .ok (.return_, 1) := dk_177 (dk_at dksJ7_inflateIfNeededFor_0 21 rfl rfl)
abbrev cJ7_inflate : ByteArray := prog_23_method_11_code
def yJ7_inflate : MethodName := ⟨RJ7, "inflate", "()V"⟩
def dkwJ7_inflate_1 : List UInt8 := [42, 180, 0, 79, 184, 0, 125, 42, 43, 181, 0, 15, 42, 4, 181, 0, 22, 177]
abbrev dktJ7_inflate_1 : List UInt8 := dkwJ7_inflate_1 ++ []
def dkwJ7_inflate_0 : List UInt8 := [42, 182, 0, 83, 154, 0, 4, 177, 42, 180, 0, 15, 190, 184, 0, 26, 76, 42, 180, 0, 15, 3, 43, 3]
abbrev dktJ7_inflate_0 : List UInt8 := dkwJ7_inflate_0 ++ dktJ7_inflate_1
theorem dksJ7_inflate_0 : cJ7_inflate.data.toList.drop 0 = dktJ7_inflate_0 := by decide +kernel
theorem dksJ7_inflate_1 : cJ7_inflate.data.toList.drop 24 = dktJ7_inflate_1 := dk_seg dksJ7_inflate_0 24 rfl rfl
theorem dJ7_inflate_0 : decode cJ7_inflate 0 = .ok (.aload_n 0, 1) := dk_42 (dk_at dksJ7_inflate_0 0 rfl rfl)
theorem dJ7_inflate_1 : decode cJ7_inflate 1 = .ok (.invokevirtual 83, 3) := dk_182 0 83 (dk_at dksJ7_inflate_0 1 rfl rfl)
theorem dJ7_inflate_4 : decode cJ7_inflate 4 = .ok (.ifCond .ne 4, 3) := dk_154 0 4 (dk_at dksJ7_inflate_0 4 rfl rfl)
theorem dJ7_inflate_7 : decode cJ7_inflate 7 = .ok (.return_, 1) := dk_177 (dk_at dksJ7_inflate_0 7 rfl rfl)
theorem dJ7_inflate_8 : decode cJ7_inflate 8 = .ok (.aload_n 0, 1) := dk_42 (dk_at dksJ7_inflate_0 8 rfl rfl)
theorem dJ7_inflate_9 : decode cJ7_inflate 9 = .ok (.getfield 15, 3) := dk_180 0 15 (dk_at dksJ7_inflate_0 9 rfl rfl)
theorem dJ7_inflate_12 : decode cJ7_inflate 12 = .ok (.arraylength, 1) := dk_190 (dk_at dksJ7_inflate_0 12 rfl rfl)
theorem dJ7_inflate_13 : decode cJ7_inflate 13 = .ok (.invokestatic 26, 3) := dk_184 0 26 (dk_at dksJ7_inflate_0 13 rfl rfl)
theorem dJ7_inflate_16 : decode cJ7_inflate 16 = .ok (.astore_n 1, 1) := dk_76 (dk_at dksJ7_inflate_0 16 rfl rfl)
theorem dJ7_inflate_17 : decode cJ7_inflate 17 = .ok (.aload_n 0, 1) := dk_42 (dk_at dksJ7_inflate_0 17 rfl rfl)
theorem dJ7_inflate_18 : decode cJ7_inflate 18 = .ok (.getfield 15, 3) := dk_180 0 15 (dk_at dksJ7_inflate_0 18 rfl rfl)
theorem dJ7_inflate_21 : decode cJ7_inflate 21 = .ok (.iconst 0, 1) := dk_3 (dk_at dksJ7_inflate_0 21 rfl rfl)
theorem dJ7_inflate_22 : decode cJ7_inflate 22 = .ok (.aload_n 1, 1) := dk_43 (dk_at dksJ7_inflate_0 22 rfl rfl)
theorem dJ7_inflate_23 : decode cJ7_inflate 23 = .ok (.iconst 0, 1) := dk_3 (dk_at dksJ7_inflate_0 23 rfl rfl)
theorem dJ7_inflate_24 : decode cJ7_inflate 24 = .ok (.aload_n 0, 1) := dk_42 (dk_at dksJ7_inflate_1 0 rfl rfl)
theorem dJ7_inflate_25 : decode cJ7_inflate 25 = .ok (.getfield 79, 3) := dk_180 0 79 (dk_at dksJ7_inflate_1 1 rfl rfl)
theorem dJ7_inflate_28 : decode cJ7_inflate 28 = .ok (.invokestatic 125, 3) := dk_184 0 125 (dk_at dksJ7_inflate_1 4 rfl rfl)
theorem dJ7_inflate_31 : decode cJ7_inflate 31 = .ok (.aload_n 0, 1) := dk_42 (dk_at dksJ7_inflate_1 7 rfl rfl)
theorem dJ7_inflate_32 : decode cJ7_inflate 32 = .ok (.aload_n 1, 1) := dk_43 (dk_at dksJ7_inflate_1 8 rfl rfl)
theorem dJ7_inflate_33 : decode cJ7_inflate 33 = .ok (.putfield 15, 3) := dk_181 0 15 (dk_at dksJ7_inflate_1 9 rfl rfl)
theorem dJ7_inflate_36 : decode cJ7_inflate 36 = .ok (.aload_n 0, 1) := dk_42 (dk_at dksJ7_inflate_1 12 rfl rfl)
theorem dJ7_inflate_37 : decode cJ7_inflate 37 = .ok (.iconst 1, 1) := dk_4 (dk_at dksJ7_inflate_1 13 rfl rfl)
theorem dJ7_inflate_38 : decode cJ7_inflate 38 = .ok (.putfield 22, 3) := dk_181 0 22 (dk_at dksJ7_inflate_1 14 rfl rfl)
theorem dJ7_inflate_41 : decode cJ7_inflate 41 = .ok (.return_, 1) := dk_177 (dk_at dksJ7_inflate_1 17 rfl rfl)
abbrev cJ7_append_2 : ByteArray := prog_23_method_32_code
def yJ7_append_2 : MethodName := ⟨RJ7, "append", "(I)Ljava/lang/AbstractStringBuilder;"⟩
def dkwJ7_append_2_2 : List UInt8 := [42, 29, 181, 0, 79, 42, 176]
abbrev dktJ7_append_2_2 : List UInt8 := dkwJ7_append_2_2 ++ []
def dkwJ7_append_2_1 : List UInt8 := [27, 29, 42, 180, 0, 15, 184, 0, 248, 87, 167, 0, 14, 27, 28, 29, 42, 180, 0, 15, 184, 0, 251, 87]
abbrev dktJ7_append_2_1 : List UInt8 := dkwJ7_append_2_1 ++ dktJ7_append_2_2
def dkwJ7_append_2_0 : List UInt8 := [42, 180, 0, 79, 61, 28, 27, 184, 0, 245, 96, 62, 42, 29, 182, 0, 100, 42, 182, 0, 83, 153, 0, 16]
abbrev dktJ7_append_2_0 : List UInt8 := dkwJ7_append_2_0 ++ dktJ7_append_2_1
theorem dksJ7_append_2_0 : cJ7_append_2.data.toList.drop 0 = dktJ7_append_2_0 := by decide +kernel
theorem dksJ7_append_2_1 : cJ7_append_2.data.toList.drop 24 = dktJ7_append_2_1 := dk_seg dksJ7_append_2_0 24 rfl rfl
theorem dksJ7_append_2_2 : cJ7_append_2.data.toList.drop 48 = dktJ7_append_2_2 := dk_seg dksJ7_append_2_1 24 rfl rfl
theorem dJ7_append_2_0 : decode cJ7_append_2 0 = .ok (.aload_n 0, 1) := dk_42 (dk_at dksJ7_append_2_0 0 rfl rfl)
theorem dJ7_append_2_1 : decode cJ7_append_2 1 = .ok (.getfield 79, 3) := dk_180 0 79 (dk_at dksJ7_append_2_0 1 rfl rfl)
theorem dJ7_append_2_4 : decode cJ7_append_2 4 = .ok (.istore_n 2, 1) := dk_61 (dk_at dksJ7_append_2_0 4 rfl rfl)
theorem dJ7_append_2_5 : decode cJ7_append_2 5 = .ok (.iload_n 2, 1) := dk_28 (dk_at dksJ7_append_2_0 5 rfl rfl)
theorem dJ7_append_2_6 : decode cJ7_append_2 6 = .ok (.iload_n 1, 1) := dk_27 (dk_at dksJ7_append_2_0 6 rfl rfl)
theorem dJ7_append_2_7 : decode cJ7_append_2 7 = .ok (.invokestatic 245, 3) := dk_184 0 245 (dk_at dksJ7_append_2_0 7 rfl rfl)
theorem dJ7_append_2_10 : decode cJ7_append_2 10 = .ok (.iadd, 1) := dk_96 (dk_at dksJ7_append_2_0 10 rfl rfl)
theorem dJ7_append_2_11 : decode cJ7_append_2 11 = .ok (.istore_n 3, 1) := dk_62 (dk_at dksJ7_append_2_0 11 rfl rfl)
theorem dJ7_append_2_12 : decode cJ7_append_2 12 = .ok (.aload_n 0, 1) := dk_42 (dk_at dksJ7_append_2_0 12 rfl rfl)
theorem dJ7_append_2_13 : decode cJ7_append_2 13 = .ok (.iload_n 3, 1) := dk_29 (dk_at dksJ7_append_2_0 13 rfl rfl)
theorem dJ7_append_2_14 : decode cJ7_append_2 14 = .ok (.invokevirtual 100, 3) := dk_182 0 100 (dk_at dksJ7_append_2_0 14 rfl rfl)
theorem dJ7_append_2_17 : decode cJ7_append_2 17 = .ok (.aload_n 0, 1) := dk_42 (dk_at dksJ7_append_2_0 17 rfl rfl)
theorem dJ7_append_2_18 : decode cJ7_append_2 18 = .ok (.invokevirtual 83, 3) := dk_182 0 83 (dk_at dksJ7_append_2_0 18 rfl rfl)
theorem dJ7_append_2_21 : decode cJ7_append_2 21 = .ok (.ifCond .eq 16, 3) := dk_153 0 16 (dk_at dksJ7_append_2_0 21 rfl rfl)
theorem dJ7_append_2_24 : decode cJ7_append_2 24 = .ok (.iload_n 1, 1) := dk_27 (dk_at dksJ7_append_2_1 0 rfl rfl)
theorem dJ7_append_2_25 : decode cJ7_append_2 25 = .ok (.iload_n 3, 1) := dk_29 (dk_at dksJ7_append_2_1 1 rfl rfl)
theorem dJ7_append_2_26 : decode cJ7_append_2 26 = .ok (.aload_n 0, 1) := dk_42 (dk_at dksJ7_append_2_1 2 rfl rfl)
theorem dJ7_append_2_27 : decode cJ7_append_2 27 = .ok (.getfield 15, 3) := dk_180 0 15 (dk_at dksJ7_append_2_1 3 rfl rfl)
theorem dJ7_append_2_30 : decode cJ7_append_2 30 = .ok (.invokestatic 248, 3) := dk_184 0 248 (dk_at dksJ7_append_2_1 6 rfl rfl)
theorem dJ7_append_2_33 : decode cJ7_append_2 33 = .ok (.pop, 1) := dk_87 (dk_at dksJ7_append_2_1 9 rfl rfl)
theorem dJ7_append_2_34 : decode cJ7_append_2 34 = .ok (.goto 14, 3) := dk_167 0 14 (dk_at dksJ7_append_2_1 10 rfl rfl)
theorem dJ7_append_2_37 : decode cJ7_append_2 37 = .ok (.iload_n 1, 1) := dk_27 (dk_at dksJ7_append_2_1 13 rfl rfl)
theorem dJ7_append_2_38 : decode cJ7_append_2 38 = .ok (.iload_n 2, 1) := dk_28 (dk_at dksJ7_append_2_1 14 rfl rfl)
theorem dJ7_append_2_39 : decode cJ7_append_2 39 = .ok (.iload_n 3, 1) := dk_29 (dk_at dksJ7_append_2_1 15 rfl rfl)
theorem dJ7_append_2_40 : decode cJ7_append_2 40 = .ok (.aload_n 0, 1) := dk_42 (dk_at dksJ7_append_2_1 16 rfl rfl)
theorem dJ7_append_2_41 : decode cJ7_append_2 41 = .ok (.getfield 15, 3) := dk_180 0 15 (dk_at dksJ7_append_2_1 17 rfl rfl)
theorem dJ7_append_2_44 : decode cJ7_append_2 44 = .ok (.invokestatic 251, 3) := dk_184 0 251 (dk_at dksJ7_append_2_1 20 rfl rfl)
theorem dJ7_append_2_47 : decode cJ7_append_2 47 = .ok (.pop, 1) := dk_87 (dk_at dksJ7_append_2_1 23 rfl rfl)
theorem dJ7_append_2_48 : decode cJ7_append_2 48 = .ok (.aload_n 0, 1) := dk_42 (dk_at dksJ7_append_2_2 0 rfl rfl)
theorem dJ7_append_2_49 : decode cJ7_append_2 49 = .ok (.iload_n 3, 1) := dk_29 (dk_at dksJ7_append_2_2 1 rfl rfl)
theorem dJ7_append_2_50 : decode cJ7_append_2 50 = .ok (.putfield 79, 3) := dk_181 0 79 (dk_at dksJ7_append_2_2 2 rfl rfl)
theorem dJ7_append_2_53 : decode cJ7_append_2 53 = .ok (.aload_n 0, 1) := dk_42 (dk_at dksJ7_append_2_2 5 rfl rfl)
theorem dJ7_append_2_54 : decode cJ7_append_2 54 = .ok (.areturn, 1) := dk_176 (dk_at dksJ7_append_2_2 6 rfl rfl)
abbrev cJ7_getValue : ByteArray := prog_23_method_64_code
def yJ7_getValue : MethodName := ⟨RJ7, "getValue", "()[B"⟩
theorem dJ7_getValue_0 : decode cJ7_getValue 0 = .ok (.aload_n 0, 1) := by decide +kernel
theorem dJ7_getValue_1 : decode cJ7_getValue 1 = .ok (.getfield 15, 3) := by decide +kernel
theorem dJ7_getValue_4 : decode cJ7_getValue 4 = .ok (.areturn, 1) := by decide +kernel
abbrev cJ7_length : ByteArray := prog_23_method_6_code
def yJ7_length : MethodName := ⟨RJ7, "length", "()I"⟩
theorem dJ7_length_0 : decode cJ7_length 0 = .ok (.aload_n 0, 1) := by decide +kernel
theorem dJ7_length_1 : decode cJ7_length 1 = .ok (.getfield 79, 3) := by decide +kernel
theorem dJ7_length_4 : decode cJ7_length 4 = .ok (.ireturn, 1) := by decide +kernel
abbrev cJ7_append_3 : ByteArray := prog_23_method_31_code
def yJ7_append_3 : MethodName := ⟨RJ7, "append", "(C)Ljava/lang/AbstractStringBuilder;"⟩
def dkwJ7_append_3_3 : List UInt8 := [181, 0, 79, 27, 184, 0, 197, 42, 176]
abbrev dktJ7_append_3_3 : List UInt8 := dkwJ7_append_3_3 ++ []
def dkwJ7_append_3_2 : List UInt8 := [182, 0, 83, 153, 0, 7, 42, 182, 0, 195, 42, 180, 0, 15, 42, 89, 180, 0, 79, 90, 4, 96]
abbrev dktJ7_append_3_2 : List UInt8 := dkwJ7_append_3_2 ++ dktJ7_append_3_3
def dkwJ7_append_3_1 : List UInt8 := [42, 180, 0, 15, 42, 89, 180, 0, 79, 90, 4, 96, 181, 0, 79, 27, 145, 84, 167, 0, 33, 42]
abbrev dktJ7_append_3_1 : List UInt8 := dkwJ7_append_3_1 ++ dktJ7_append_3_2
def dkwJ7_append_3_0 : List UInt8 := [42, 42, 180, 0, 79, 4, 96, 182, 0, 100, 42, 182, 0, 83, 153, 0, 31, 27, 184, 0, 191, 153, 0, 24]
abbrev dktJ7_append_3_0 : List UInt8 := dkwJ7_append_3_0 ++ dktJ7_append_3_1
theorem dksJ7_append_3_0 : cJ7_append_3.data.toList.drop 0 = dktJ7_append_3_0 := by decide +kernel
theorem dksJ7_append_3_1 : cJ7_append_3.data.toList.drop 24 = dktJ7_append_3_1 := dk_seg dksJ7_append_3_0 24 rfl rfl
theorem dksJ7_append_3_2 : cJ7_append_3.data.toList.drop 46 = dktJ7_append_3_2 := dk_seg dksJ7_append_3_1 22 rfl rfl
theorem dksJ7_append_3_3 : cJ7_append_3.data.toList.drop 68 = dktJ7_append_3_3 := dk_seg dksJ7_append_3_2 22 rfl rfl
theorem dJ7_append_3_0 : decode cJ7_append_3 0 = .ok (.aload_n 0, 1) := dk_42 (dk_at dksJ7_append_3_0 0 rfl rfl)
theorem dJ7_append_3_1 : decode cJ7_append_3 1 = .ok (.aload_n 0, 1) := dk_42 (dk_at dksJ7_append_3_0 1 rfl rfl)
theorem dJ7_append_3_2 : decode cJ7_append_3 2 = .ok (.getfield 79, 3) := dk_180 0 79 (dk_at dksJ7_append_3_0 2 rfl rfl)
theorem dJ7_append_3_5 : decode cJ7_append_3 5 = .ok (.iconst 1, 1) := dk_4 (dk_at dksJ7_append_3_0 5 rfl rfl)
theorem dJ7_append_3_6 : decode cJ7_append_3 6 = .ok (.iadd, 1) := dk_96 (dk_at dksJ7_append_3_0 6 rfl rfl)
theorem dJ7_append_3_7 : decode cJ7_append_3 7 = .ok (.invokevirtual 100, 3) := dk_182 0 100 (dk_at dksJ7_append_3_0 7 rfl rfl)
theorem dJ7_append_3_10 : decode cJ7_append_3 10 = .ok (.aload_n 0, 1) := dk_42 (dk_at dksJ7_append_3_0 10 rfl rfl)
theorem dJ7_append_3_11 : decode cJ7_append_3 11 = .ok (.invokevirtual 83, 3) := dk_182 0 83 (dk_at dksJ7_append_3_0 11 rfl rfl)
theorem dJ7_append_3_14 : decode cJ7_append_3 14 = .ok (.ifCond .eq 31, 3) := dk_153 0 31 (dk_at dksJ7_append_3_0 14 rfl rfl)
theorem dJ7_append_3_17 : decode cJ7_append_3 17 = .ok (.iload_n 1, 1) := dk_27 (dk_at dksJ7_append_3_0 17 rfl rfl)
theorem dJ7_append_3_18 : decode cJ7_append_3 18 = .ok (.invokestatic 191, 3) := dk_184 0 191 (dk_at dksJ7_append_3_0 18 rfl rfl)
theorem dJ7_append_3_21 : decode cJ7_append_3 21 = .ok (.ifCond .eq 24, 3) := dk_153 0 24 (dk_at dksJ7_append_3_0 21 rfl rfl)
theorem dJ7_append_3_24 : decode cJ7_append_3 24 = .ok (.aload_n 0, 1) := dk_42 (dk_at dksJ7_append_3_1 0 rfl rfl)
theorem dJ7_append_3_25 : decode cJ7_append_3 25 = .ok (.getfield 15, 3) := dk_180 0 15 (dk_at dksJ7_append_3_1 1 rfl rfl)
theorem dJ7_append_3_28 : decode cJ7_append_3 28 = .ok (.aload_n 0, 1) := dk_42 (dk_at dksJ7_append_3_1 4 rfl rfl)
theorem dJ7_append_3_29 : decode cJ7_append_3 29 = .ok (.dup, 1) := dk_89 (dk_at dksJ7_append_3_1 5 rfl rfl)
theorem dJ7_append_3_30 : decode cJ7_append_3 30 = .ok (.getfield 79, 3) := dk_180 0 79 (dk_at dksJ7_append_3_1 6 rfl rfl)
theorem dJ7_append_3_33 : decode cJ7_append_3 33 = .ok (.dup_x1, 1) := dk_90 (dk_at dksJ7_append_3_1 9 rfl rfl)
theorem dJ7_append_3_34 : decode cJ7_append_3 34 = .ok (.iconst 1, 1) := dk_4 (dk_at dksJ7_append_3_1 10 rfl rfl)
theorem dJ7_append_3_35 : decode cJ7_append_3 35 = .ok (.iadd, 1) := dk_96 (dk_at dksJ7_append_3_1 11 rfl rfl)
theorem dJ7_append_3_36 : decode cJ7_append_3 36 = .ok (.putfield 79, 3) := dk_181 0 79 (dk_at dksJ7_append_3_1 12 rfl rfl)
theorem dJ7_append_3_39 : decode cJ7_append_3 39 = .ok (.iload_n 1, 1) := dk_27 (dk_at dksJ7_append_3_1 15 rfl rfl)
theorem dJ7_append_3_40 : decode cJ7_append_3 40 = .ok (.i2b, 1) := dk_145 (dk_at dksJ7_append_3_1 16 rfl rfl)
theorem dJ7_append_3_41 : decode cJ7_append_3 41 = .ok (.bastore, 1) := dk_84 (dk_at dksJ7_append_3_1 17 rfl rfl)
theorem dJ7_append_3_42 : decode cJ7_append_3 42 = .ok (.goto 33, 3) := dk_167 0 33 (dk_at dksJ7_append_3_1 18 rfl rfl)
theorem dJ7_append_3_45 : decode cJ7_append_3 45 = .ok (.aload_n 0, 1) := dk_42 (dk_at dksJ7_append_3_1 21 rfl rfl)
theorem dJ7_append_3_46 : decode cJ7_append_3 46 = .ok (.invokevirtual 83, 3) := dk_182 0 83 (dk_at dksJ7_append_3_2 0 rfl rfl)
theorem dJ7_append_3_49 : decode cJ7_append_3 49 = .ok (.ifCond .eq 7, 3) := dk_153 0 7 (dk_at dksJ7_append_3_2 3 rfl rfl)
theorem dJ7_append_3_52 : decode cJ7_append_3 52 = .ok (.aload_n 0, 1) := dk_42 (dk_at dksJ7_append_3_2 6 rfl rfl)
theorem dJ7_append_3_53 : decode cJ7_append_3 53 = .ok (.invokevirtual 195, 3) := dk_182 0 195 (dk_at dksJ7_append_3_2 7 rfl rfl)
theorem dJ7_append_3_56 : decode cJ7_append_3 56 = .ok (.aload_n 0, 1) := dk_42 (dk_at dksJ7_append_3_2 10 rfl rfl)
theorem dJ7_append_3_57 : decode cJ7_append_3 57 = .ok (.getfield 15, 3) := dk_180 0 15 (dk_at dksJ7_append_3_2 11 rfl rfl)
theorem dJ7_append_3_60 : decode cJ7_append_3 60 = .ok (.aload_n 0, 1) := dk_42 (dk_at dksJ7_append_3_2 14 rfl rfl)
theorem dJ7_append_3_61 : decode cJ7_append_3 61 = .ok (.dup, 1) := dk_89 (dk_at dksJ7_append_3_2 15 rfl rfl)
theorem dJ7_append_3_62 : decode cJ7_append_3 62 = .ok (.getfield 79, 3) := dk_180 0 79 (dk_at dksJ7_append_3_2 16 rfl rfl)
theorem dJ7_append_3_65 : decode cJ7_append_3 65 = .ok (.dup_x1, 1) := dk_90 (dk_at dksJ7_append_3_2 19 rfl rfl)
theorem dJ7_append_3_66 : decode cJ7_append_3 66 = .ok (.iconst 1, 1) := dk_4 (dk_at dksJ7_append_3_2 20 rfl rfl)
theorem dJ7_append_3_67 : decode cJ7_append_3 67 = .ok (.iadd, 1) := dk_96 (dk_at dksJ7_append_3_2 21 rfl rfl)
theorem dJ7_append_3_68 : decode cJ7_append_3 68 = .ok (.putfield 79, 3) := dk_181 0 79 (dk_at dksJ7_append_3_3 0 rfl rfl)
theorem dJ7_append_3_71 : decode cJ7_append_3 71 = .ok (.iload_n 1, 1) := dk_27 (dk_at dksJ7_append_3_3 3 rfl rfl)
theorem dJ7_append_3_72 : decode cJ7_append_3 72 = .ok (.invokestatic 197, 3) := dk_184 0 197 (dk_at dksJ7_append_3_3 4 rfl rfl)
theorem dJ7_append_3_75 : decode cJ7_append_3 75 = .ok (.aload_n 0, 1) := dk_42 (dk_at dksJ7_append_3_3 7 rfl rfl)
theorem dJ7_append_3_76 : decode cJ7_append_3 76 = .ok (.areturn, 1) := dk_176 (dk_at dksJ7_append_3_3 8 rfl rfl)
/-! java/lang/StringBuilder: codes (from claim/names) -/
abbrev cJ8_init : ByteArray := prog_37_method_1_code
def yJ8_init : MethodName := ⟨RJ8, "<init>", "()V"⟩
def dkwJ8_init_0 : List UInt8 := [42, 16, 16, 183, 0, 1, 177]
abbrev dktJ8_init_0 : List UInt8 := dkwJ8_init_0 ++ []
theorem dksJ8_init_0 : cJ8_init.data.toList.drop 0 = dktJ8_init_0 := by decide +kernel
theorem dJ8_init_0 : decode cJ8_init 0 = .ok (.aload_n 0, 1) := dk_42 (dk_at dksJ8_init_0 0 rfl rfl)
theorem dJ8_init_1 : decode cJ8_init 1 = .ok (.bipush 16, 2) := dk_16 16 (dk_at dksJ8_init_0 1 rfl rfl)
theorem dJ8_init_3 : decode cJ8_init 3 = .ok (.invokespecial 1, 3) := dk_183 0 1 (dk_at dksJ8_init_0 3 rfl rfl)
theorem dJ8_init_6 : decode cJ8_init 6 = .ok (.return_, 1) := dk_177 (dk_at dksJ8_init_0 6 rfl rfl)
abbrev cJ8_append : ByteArray := prog_37_method_7_code
def yJ8_append : MethodName := ⟨RJ8, "append", "(Ljava/lang/String;)Ljava/lang/StringBuilder;"⟩
def dkwJ8_append_0 : List UInt8 := [42, 43, 183, 0, 29, 87, 42, 176]
abbrev dktJ8_append_0 : List UInt8 := dkwJ8_append_0 ++ []
theorem dksJ8_append_0 : cJ8_append.data.toList.drop 0 = dktJ8_append_0 := by decide +kernel
theorem dJ8_append_0 : decode cJ8_append 0 = .ok (.aload_n 0, 1) := dk_42 (dk_at dksJ8_append_0 0 rfl rfl)
theorem dJ8_append_1 : decode cJ8_append 1 = .ok (.aload_n 1, 1) := dk_43 (dk_at dksJ8_append_0 1 rfl rfl)
theorem dJ8_append_2 : decode cJ8_append 2 = .ok (.invokespecial 29, 3) := dk_183 0 29 (dk_at dksJ8_append_0 2 rfl rfl)
theorem dJ8_append_5 : decode cJ8_append 5 = .ok (.pop, 1) := dk_87 (dk_at dksJ8_append_0 5 rfl rfl)
theorem dJ8_append_6 : decode cJ8_append 6 = .ok (.aload_n 0, 1) := dk_42 (dk_at dksJ8_append_0 6 rfl rfl)
theorem dJ8_append_7 : decode cJ8_append 7 = .ok (.areturn, 1) := dk_176 (dk_at dksJ8_append_0 7 rfl rfl)
abbrev cJ8_append_2 : ByteArray := prog_37_method_15_code
def yJ8_append_2 : MethodName := ⟨RJ8, "append", "(I)Ljava/lang/StringBuilder;"⟩
def dkwJ8_append_2_0 : List UInt8 := [42, 27, 183, 0, 53, 87, 42, 176]
abbrev dktJ8_append_2_0 : List UInt8 := dkwJ8_append_2_0 ++ []
theorem dksJ8_append_2_0 : cJ8_append_2.data.toList.drop 0 = dktJ8_append_2_0 := by decide +kernel
theorem dJ8_append_2_0 : decode cJ8_append_2 0 = .ok (.aload_n 0, 1) := dk_42 (dk_at dksJ8_append_2_0 0 rfl rfl)
theorem dJ8_append_2_1 : decode cJ8_append_2 1 = .ok (.iload_n 1, 1) := dk_27 (dk_at dksJ8_append_2_0 1 rfl rfl)
theorem dJ8_append_2_2 : decode cJ8_append_2 2 = .ok (.invokespecial 53, 3) := dk_183 0 53 (dk_at dksJ8_append_2_0 2 rfl rfl)
theorem dJ8_append_2_5 : decode cJ8_append_2 5 = .ok (.pop, 1) := dk_87 (dk_at dksJ8_append_2_0 5 rfl rfl)
theorem dJ8_append_2_6 : decode cJ8_append_2 6 = .ok (.aload_n 0, 1) := dk_42 (dk_at dksJ8_append_2_0 6 rfl rfl)
theorem dJ8_append_2_7 : decode cJ8_append_2 7 = .ok (.areturn, 1) := dk_176 (dk_at dksJ8_append_2_0 7 rfl rfl)
abbrev cJ8_toString : ByteArray := prog_37_method_42_code
def yJ8_toString : MethodName := ⟨RJ8, "toString", "()Ljava/lang/String;"⟩
def dkwJ8_toString_0 : List UInt8 := [187, 0, 18, 89, 42, 183, 0, 137, 176]
abbrev dktJ8_toString_0 : List UInt8 := dkwJ8_toString_0 ++ []
theorem dksJ8_toString_0 : cJ8_toString.data.toList.drop 0 = dktJ8_toString_0 := by decide +kernel
theorem dJ8_toString_0 : decode cJ8_toString 0 = .ok (.new 18, 3) := dk_187 0 18 (dk_at dksJ8_toString_0 0 rfl rfl)
theorem dJ8_toString_3 : decode cJ8_toString 3 = .ok (.dup, 1) := dk_89 (dk_at dksJ8_toString_0 3 rfl rfl)
theorem dJ8_toString_4 : decode cJ8_toString 4 = .ok (.aload_n 0, 1) := dk_42 (dk_at dksJ8_toString_0 4 rfl rfl)
theorem dJ8_toString_5 : decode cJ8_toString 5 = .ok (.invokespecial 137, 3) := dk_183 0 137 (dk_at dksJ8_toString_0 5 rfl rfl)
theorem dJ8_toString_8 : decode cJ8_toString 8 = .ok (.areturn, 1) := dk_176 (dk_at dksJ8_toString_0 8 rfl rfl)
abbrev cJ8_length : ByteArray := prog_37_method_93_code
def yJ8_length : MethodName := ⟨RJ8, "length", "()I"⟩
theorem dJ8_length_0 : decode cJ8_length 0 = .ok (.aload_n 0, 1) := by decide +kernel
theorem dJ8_length_1 : decode cJ8_length 1 = .ok (.invokespecial 343, 3) := by decide +kernel
theorem dJ8_length_4 : decode cJ8_length 4 = .ok (.ireturn, 1) := by decide +kernel
abbrev cJ8_init_2 : ByteArray := prog_37_method_2_code
def yJ8_init_2 : MethodName := ⟨RJ8, "<init>", "(I)V"⟩
def dkwJ8_init_2_0 : List UInt8 := [42, 27, 183, 0, 1, 177]
abbrev dktJ8_init_2_0 : List UInt8 := dkwJ8_init_2_0 ++ []
theorem dksJ8_init_2_0 : cJ8_init_2.data.toList.drop 0 = dktJ8_init_2_0 := by decide +kernel
theorem dJ8_init_2_0 : decode cJ8_init_2 0 = .ok (.aload_n 0, 1) := dk_42 (dk_at dksJ8_init_2_0 0 rfl rfl)
theorem dJ8_init_2_1 : decode cJ8_init_2 1 = .ok (.iload_n 1, 1) := dk_27 (dk_at dksJ8_init_2_0 1 rfl rfl)
theorem dJ8_init_2_2 : decode cJ8_init_2 2 = .ok (.invokespecial 1, 3) := dk_183 0 1 (dk_at dksJ8_init_2_0 2 rfl rfl)
theorem dJ8_init_2_5 : decode cJ8_init_2 5 = .ok (.return_, 1) := dk_177 (dk_at dksJ8_init_2_0 5 rfl rfl)
abbrev cJ8_append_3 : ByteArray := prog_37_method_14_code
def yJ8_append_3 : MethodName := ⟨RJ8, "append", "(C)Ljava/lang/StringBuilder;"⟩
def dkwJ8_append_3_0 : List UInt8 := [42, 27, 183, 0, 50, 87, 42, 176]
abbrev dktJ8_append_3_0 : List UInt8 := dkwJ8_append_3_0 ++ []
theorem dksJ8_append_3_0 : cJ8_append_3.data.toList.drop 0 = dktJ8_append_3_0 := by decide +kernel
theorem dJ8_append_3_0 : decode cJ8_append_3 0 = .ok (.aload_n 0, 1) := dk_42 (dk_at dksJ8_append_3_0 0 rfl rfl)
theorem dJ8_append_3_1 : decode cJ8_append_3 1 = .ok (.iload_n 1, 1) := dk_27 (dk_at dksJ8_append_3_0 1 rfl rfl)
theorem dJ8_append_3_2 : decode cJ8_append_3 2 = .ok (.invokespecial 50, 3) := dk_183 0 50 (dk_at dksJ8_append_3_0 2 rfl rfl)
theorem dJ8_append_3_5 : decode cJ8_append_3 5 = .ok (.pop, 1) := dk_87 (dk_at dksJ8_append_3_0 5 rfl rfl)
theorem dJ8_append_3_6 : decode cJ8_append_3 6 = .ok (.aload_n 0, 1) := dk_42 (dk_at dksJ8_append_3_0 6 rfl rfl)
theorem dJ8_append_3_7 : decode cJ8_append_3 7 = .ok (.areturn, 1) := dk_176 (dk_at dksJ8_append_3_0 7 rfl rfl)
/-! java/lang/String: codes (from claim/names) -/
abbrev cJ9_checkBoundsBeginEnd : ByteArray := prog_36_method_158_code
def yJ9_checkBoundsBeginEnd : MethodName := ⟨RJ9, "checkBoundsBeginEnd", "(III)V"⟩
def dkwJ9_checkBoundsBeginEnd_0 : List UInt8 := [26, 27, 28, 178, 4, 29, 184, 4, 38, 87, 177]
abbrev dktJ9_checkBoundsBeginEnd_0 : List UInt8 := dkwJ9_checkBoundsBeginEnd_0 ++ []
theorem dksJ9_checkBoundsBeginEnd_0 : cJ9_checkBoundsBeginEnd.data.toList.drop 0 = dktJ9_checkBoundsBeginEnd_0 := by decide +kernel
theorem dJ9_checkBoundsBeginEnd_0 : decode cJ9_checkBoundsBeginEnd 0 = .ok (.iload_n 0, 1) := dk_26 (dk_at dksJ9_checkBoundsBeginEnd_0 0 rfl rfl)
theorem dJ9_checkBoundsBeginEnd_1 : decode cJ9_checkBoundsBeginEnd 1 = .ok (.iload_n 1, 1) := dk_27 (dk_at dksJ9_checkBoundsBeginEnd_0 1 rfl rfl)
theorem dJ9_checkBoundsBeginEnd_2 : decode cJ9_checkBoundsBeginEnd 2 = .ok (.iload_n 2, 1) := dk_28 (dk_at dksJ9_checkBoundsBeginEnd_0 2 rfl rfl)
theorem dJ9_checkBoundsBeginEnd_3 : decode cJ9_checkBoundsBeginEnd 3 = .ok (.getstatic 1053, 3) := dk_178 4 29 (dk_at dksJ9_checkBoundsBeginEnd_0 3 rfl rfl)
theorem dJ9_checkBoundsBeginEnd_6 : decode cJ9_checkBoundsBeginEnd 6 = .ok (.invokestatic 1062, 3) := dk_184 4 38 (dk_at dksJ9_checkBoundsBeginEnd_0 6 rfl rfl)
theorem dJ9_checkBoundsBeginEnd_9 : decode cJ9_checkBoundsBeginEnd 9 = .ok (.pop, 1) := dk_87 (dk_at dksJ9_checkBoundsBeginEnd_0 9 rfl rfl)
theorem dJ9_checkBoundsBeginEnd_10 : decode cJ9_checkBoundsBeginEnd 10 = .ok (.return_, 1) := dk_177 (dk_at dksJ9_checkBoundsBeginEnd_0 10 rfl rfl)
abbrev cJ9_length : ByteArray := prog_36_method_54_code
def yJ9_length : MethodName := ⟨RJ9, "length", "()I"⟩
def dkwJ9_length_0 : List UInt8 := [42, 180, 0, 9, 190, 42, 182, 1, 79, 122, 172]
abbrev dktJ9_length_0 : List UInt8 := dkwJ9_length_0 ++ []
theorem dksJ9_length_0 : cJ9_length.data.toList.drop 0 = dktJ9_length_0 := by decide +kernel
theorem dJ9_length_0 : decode cJ9_length 0 = .ok (.aload_n 0, 1) := dk_42 (dk_at dksJ9_length_0 0 rfl rfl)
theorem dJ9_length_1 : decode cJ9_length 1 = .ok (.getfield 9, 3) := dk_180 0 9 (dk_at dksJ9_length_0 1 rfl rfl)
theorem dJ9_length_4 : decode cJ9_length 4 = .ok (.arraylength, 1) := dk_190 (dk_at dksJ9_length_0 4 rfl rfl)
theorem dJ9_length_5 : decode cJ9_length 5 = .ok (.aload_n 0, 1) := dk_42 (dk_at dksJ9_length_0 5 rfl rfl)
theorem dJ9_length_6 : decode cJ9_length 6 = .ok (.invokevirtual 335, 3) := dk_182 1 79 (dk_at dksJ9_length_0 6 rfl rfl)
theorem dJ9_length_9 : decode cJ9_length 9 = .ok (.ishr, 1) := dk_122 (dk_at dksJ9_length_0 9 rfl rfl)
theorem dJ9_length_10 : decode cJ9_length 10 = .ok (.ireturn, 1) := dk_172 (dk_at dksJ9_length_0 10 rfl rfl)
abbrev cJ9_coder : ByteArray := prog_36_method_152_code
def yJ9_coder : MethodName := ⟨RJ9, "coder", "()B"⟩
def dkwJ9_coder_0 : List UInt8 := [178, 0, 38, 153, 0, 10, 42, 180, 0, 15, 167, 0, 4, 4, 172]
abbrev dktJ9_coder_0 : List UInt8 := dkwJ9_coder_0 ++ []
theorem dksJ9_coder_0 : cJ9_coder.data.toList.drop 0 = dktJ9_coder_0 := by decide +kernel
theorem dJ9_coder_0 : decode cJ9_coder 0 = .ok (.getstatic 38, 3) := dk_178 0 38 (dk_at dksJ9_coder_0 0 rfl rfl)
theorem dJ9_coder_3 : decode cJ9_coder 3 = .ok (.ifCond .eq 10, 3) := dk_153 0 10 (dk_at dksJ9_coder_0 3 rfl rfl)
theorem dJ9_coder_6 : decode cJ9_coder 6 = .ok (.aload_n 0, 1) := dk_42 (dk_at dksJ9_coder_0 6 rfl rfl)
theorem dJ9_coder_7 : decode cJ9_coder 7 = .ok (.getfield 15, 3) := dk_180 0 15 (dk_at dksJ9_coder_0 7 rfl rfl)
theorem dJ9_coder_10 : decode cJ9_coder 10 = .ok (.goto 4, 3) := dk_167 0 4 (dk_at dksJ9_coder_0 10 rfl rfl)
theorem dJ9_coder_13 : decode cJ9_coder 13 = .ok (.iconst 1, 1) := dk_4 (dk_at dksJ9_coder_0 13 rfl rfl)
theorem dJ9_coder_14 : decode cJ9_coder 14 = .ok (.ireturn, 1) := dk_172 (dk_at dksJ9_coder_0 14 rfl rfl)
abbrev cJ9_checkBoundsOffCount : ByteArray := prog_36_method_157_code
def yJ9_checkBoundsOffCount : MethodName := ⟨RJ9, "checkBoundsOffCount", "(III)I"⟩
def dkwJ9_checkBoundsOffCount_0 : List UInt8 := [26, 27, 28, 178, 4, 29, 184, 4, 41, 172]
abbrev dktJ9_checkBoundsOffCount_0 : List UInt8 := dkwJ9_checkBoundsOffCount_0 ++ []
theorem dksJ9_checkBoundsOffCount_0 : cJ9_checkBoundsOffCount.data.toList.drop 0 = dktJ9_checkBoundsOffCount_0 := by decide +kernel
theorem dJ9_checkBoundsOffCount_0 : decode cJ9_checkBoundsOffCount 0 = .ok (.iload_n 0, 1) := dk_26 (dk_at dksJ9_checkBoundsOffCount_0 0 rfl rfl)
theorem dJ9_checkBoundsOffCount_1 : decode cJ9_checkBoundsOffCount 1 = .ok (.iload_n 1, 1) := dk_27 (dk_at dksJ9_checkBoundsOffCount_0 1 rfl rfl)
theorem dJ9_checkBoundsOffCount_2 : decode cJ9_checkBoundsOffCount 2 = .ok (.iload_n 2, 1) := dk_28 (dk_at dksJ9_checkBoundsOffCount_0 2 rfl rfl)
theorem dJ9_checkBoundsOffCount_3 : decode cJ9_checkBoundsOffCount 3 = .ok (.getstatic 1053, 3) := dk_178 4 29 (dk_at dksJ9_checkBoundsOffCount_0 3 rfl rfl)
theorem dJ9_checkBoundsOffCount_6 : decode cJ9_checkBoundsOffCount 6 = .ok (.invokestatic 1065, 3) := dk_184 4 41 (dk_at dksJ9_checkBoundsOffCount_0 6 rfl rfl)
theorem dJ9_checkBoundsOffCount_9 : decode cJ9_checkBoundsOffCount 9 = .ok (.ireturn, 1) := dk_172 (dk_at dksJ9_checkBoundsOffCount_0 9 rfl rfl)
abbrev cJ9_getBytes : ByteArray := prog_36_method_147_code
def yJ9_getBytes : MethodName := ⟨RJ9, "getBytes", "([BIB)V"⟩
def dkwJ9_getBytes_1 : List UInt8 := [184, 0, 212, 167, 0, 18, 42, 180, 0, 9, 3, 43, 28, 42, 180, 0, 9, 190, 184, 0, 106, 177]
abbrev dktJ9_getBytes_1 : List UInt8 := dkwJ9_getBytes_1 ++ []
def dkwJ9_getBytes_0 : List UInt8 := [42, 182, 1, 79, 29, 160, 0, 23, 42, 180, 0, 9, 3, 43, 28, 29, 120, 42, 180, 0, 9, 190]
abbrev dktJ9_getBytes_0 : List UInt8 := dkwJ9_getBytes_0 ++ dktJ9_getBytes_1
theorem dksJ9_getBytes_0 : cJ9_getBytes.data.toList.drop 0 = dktJ9_getBytes_0 := by decide +kernel
theorem dksJ9_getBytes_1 : cJ9_getBytes.data.toList.drop 22 = dktJ9_getBytes_1 := dk_seg dksJ9_getBytes_0 22 rfl rfl
theorem dJ9_getBytes_0 : decode cJ9_getBytes 0 = .ok (.aload_n 0, 1) := dk_42 (dk_at dksJ9_getBytes_0 0 rfl rfl)
theorem dJ9_getBytes_1 : decode cJ9_getBytes 1 = .ok (.invokevirtual 335, 3) := dk_182 1 79 (dk_at dksJ9_getBytes_0 1 rfl rfl)
theorem dJ9_getBytes_4 : decode cJ9_getBytes 4 = .ok (.iload_n 3, 1) := dk_29 (dk_at dksJ9_getBytes_0 4 rfl rfl)
theorem dJ9_getBytes_5 : decode cJ9_getBytes 5 = .ok (.if_icmp .ne 23, 3) := dk_160 0 23 (dk_at dksJ9_getBytes_0 5 rfl rfl)
theorem dJ9_getBytes_8 : decode cJ9_getBytes 8 = .ok (.aload_n 0, 1) := dk_42 (dk_at dksJ9_getBytes_0 8 rfl rfl)
theorem dJ9_getBytes_9 : decode cJ9_getBytes 9 = .ok (.getfield 9, 3) := dk_180 0 9 (dk_at dksJ9_getBytes_0 9 rfl rfl)
theorem dJ9_getBytes_12 : decode cJ9_getBytes 12 = .ok (.iconst 0, 1) := dk_3 (dk_at dksJ9_getBytes_0 12 rfl rfl)
theorem dJ9_getBytes_13 : decode cJ9_getBytes 13 = .ok (.aload_n 1, 1) := dk_43 (dk_at dksJ9_getBytes_0 13 rfl rfl)
theorem dJ9_getBytes_14 : decode cJ9_getBytes 14 = .ok (.iload_n 2, 1) := dk_28 (dk_at dksJ9_getBytes_0 14 rfl rfl)
theorem dJ9_getBytes_15 : decode cJ9_getBytes 15 = .ok (.iload_n 3, 1) := dk_29 (dk_at dksJ9_getBytes_0 15 rfl rfl)
theorem dJ9_getBytes_16 : decode cJ9_getBytes 16 = .ok (.ishl, 1) := dk_120 (dk_at dksJ9_getBytes_0 16 rfl rfl)
theorem dJ9_getBytes_17 : decode cJ9_getBytes 17 = .ok (.aload_n 0, 1) := dk_42 (dk_at dksJ9_getBytes_0 17 rfl rfl)
theorem dJ9_getBytes_18 : decode cJ9_getBytes 18 = .ok (.getfield 9, 3) := dk_180 0 9 (dk_at dksJ9_getBytes_0 18 rfl rfl)
theorem dJ9_getBytes_21 : decode cJ9_getBytes 21 = .ok (.arraylength, 1) := dk_190 (dk_at dksJ9_getBytes_0 21 rfl rfl)
theorem dJ9_getBytes_22 : decode cJ9_getBytes 22 = .ok (.invokestatic 212, 3) := dk_184 0 212 (dk_at dksJ9_getBytes_1 0 rfl rfl)
theorem dJ9_getBytes_25 : decode cJ9_getBytes 25 = .ok (.goto 18, 3) := dk_167 0 18 (dk_at dksJ9_getBytes_1 3 rfl rfl)
theorem dJ9_getBytes_28 : decode cJ9_getBytes 28 = .ok (.aload_n 0, 1) := dk_42 (dk_at dksJ9_getBytes_1 6 rfl rfl)
theorem dJ9_getBytes_29 : decode cJ9_getBytes 29 = .ok (.getfield 9, 3) := dk_180 0 9 (dk_at dksJ9_getBytes_1 7 rfl rfl)
theorem dJ9_getBytes_32 : decode cJ9_getBytes 32 = .ok (.iconst 0, 1) := dk_3 (dk_at dksJ9_getBytes_1 10 rfl rfl)
theorem dJ9_getBytes_33 : decode cJ9_getBytes 33 = .ok (.aload_n 1, 1) := dk_43 (dk_at dksJ9_getBytes_1 11 rfl rfl)
theorem dJ9_getBytes_34 : decode cJ9_getBytes 34 = .ok (.iload_n 2, 1) := dk_28 (dk_at dksJ9_getBytes_1 12 rfl rfl)
theorem dJ9_getBytes_35 : decode cJ9_getBytes 35 = .ok (.aload_n 0, 1) := dk_42 (dk_at dksJ9_getBytes_1 13 rfl rfl)
theorem dJ9_getBytes_36 : decode cJ9_getBytes 36 = .ok (.getfield 9, 3) := dk_180 0 9 (dk_at dksJ9_getBytes_1 14 rfl rfl)
theorem dJ9_getBytes_39 : decode cJ9_getBytes 39 = .ok (.arraylength, 1) := dk_190 (dk_at dksJ9_getBytes_1 17 rfl rfl)
theorem dJ9_getBytes_40 : decode cJ9_getBytes 40 = .ok (.invokestatic 106, 3) := dk_184 0 106 (dk_at dksJ9_getBytes_1 18 rfl rfl)
theorem dJ9_getBytes_43 : decode cJ9_getBytes 43 = .ok (.return_, 1) := dk_177 (dk_at dksJ9_getBytes_1 21 rfl rfl)
abbrev cJ9_init : ByteArray := prog_36_method_53_code
def yJ9_init : MethodName := ⟨RJ9, "<init>", "(Ljava/lang/StringBuilder;)V"⟩
def dkwJ9_init_0 : List UInt8 := [42, 43, 1, 183, 1, 233, 177]
abbrev dktJ9_init_0 : List UInt8 := dkwJ9_init_0 ++ []
theorem dksJ9_init_0 : cJ9_init.data.toList.drop 0 = dktJ9_init_0 := by decide +kernel
theorem dJ9_init_0 : decode cJ9_init 0 = .ok (.aload_n 0, 1) := dk_42 (dk_at dksJ9_init_0 0 rfl rfl)
theorem dJ9_init_1 : decode cJ9_init 1 = .ok (.aload_n 1, 1) := dk_43 (dk_at dksJ9_init_0 1 rfl rfl)
theorem dJ9_init_2 : decode cJ9_init 2 = .ok (.aconst_null, 1) := dk_1 (dk_at dksJ9_init_0 2 rfl rfl)
theorem dJ9_init_3 : decode cJ9_init 3 = .ok (.invokespecial 489, 3) := dk_183 1 233 (dk_at dksJ9_init_0 3 rfl rfl)
theorem dJ9_init_6 : decode cJ9_init 6 = .ok (.return_, 1) := dk_177 (dk_at dksJ9_init_0 6 rfl rfl)
abbrev cJ9_init_2 : ByteArray := prog_36_method_150_code
def yJ9_init_2 : MethodName := ⟨RJ9, "<init>", "(Ljava/lang/AbstractStringBuilder;Ljava/lang/Void;)V"⟩
def dkwJ9_init_2_4 : List UInt8 := [181, 0, 9, 177]
abbrev dktJ9_init_2_4 : List UInt8 := dkwJ9_init_2_4 ++ []
def dkwJ9_init_2_3 : List UInt8 := [184, 0, 47, 181, 0, 15, 177, 42, 4, 181, 0, 15, 42, 45, 3, 21, 4, 4, 120, 184, 0, 54]
abbrev dktJ9_init_2_3 : List UInt8 := dkwJ9_init_2_3 ++ dktJ9_init_2_4
def dkwJ9_init_2_2 : List UInt8 := [180, 4, 24, 153, 0, 28, 42, 45, 3, 21, 4, 184, 4, 27, 181, 0, 9, 42, 42, 180, 0, 9, 21, 4]
abbrev dktJ9_init_2_2 : List UInt8 := dkwJ9_init_2_2 ++ dktJ9_init_2_3
def dkwJ9_init_2_1 : List UInt8 := [181, 0, 15, 42, 45, 3, 21, 4, 184, 0, 54, 181, 0, 9, 167, 0, 59, 178, 0, 38, 153, 0, 35, 43]
abbrev dktJ9_init_2_1 : List UInt8 := dkwJ9_init_2_1 ++ dktJ9_init_2_2
def dkwJ9_init_2_0 : List UInt8 := [42, 183, 0, 1, 43, 182, 2, 40, 78, 43, 182, 2, 37, 54, 4, 43, 182, 4, 23, 153, 0, 22, 42, 3]
abbrev dktJ9_init_2_0 : List UInt8 := dkwJ9_init_2_0 ++ dktJ9_init_2_1
theorem dksJ9_init_2_0 : cJ9_init_2.data.toList.drop 0 = dktJ9_init_2_0 := by decide +kernel
theorem dksJ9_init_2_1 : cJ9_init_2.data.toList.drop 24 = dktJ9_init_2_1 := dk_seg dksJ9_init_2_0 24 rfl rfl
theorem dksJ9_init_2_2 : cJ9_init_2.data.toList.drop 48 = dktJ9_init_2_2 := dk_seg dksJ9_init_2_1 24 rfl rfl
theorem dksJ9_init_2_3 : cJ9_init_2.data.toList.drop 72 = dktJ9_init_2_3 := dk_seg dksJ9_init_2_2 24 rfl rfl
theorem dksJ9_init_2_4 : cJ9_init_2.data.toList.drop 94 = dktJ9_init_2_4 := dk_seg dksJ9_init_2_3 22 rfl rfl
theorem dJ9_init_2_0 : decode cJ9_init_2 0 = .ok (.aload_n 0, 1) := dk_42 (dk_at dksJ9_init_2_0 0 rfl rfl)
theorem dJ9_init_2_1 : decode cJ9_init_2 1 = .ok (.invokespecial 1, 3) := dk_183 0 1 (dk_at dksJ9_init_2_0 1 rfl rfl)
theorem dJ9_init_2_4 : decode cJ9_init_2 4 = .ok (.aload_n 1, 1) := dk_43 (dk_at dksJ9_init_2_0 4 rfl rfl)
theorem dJ9_init_2_5 : decode cJ9_init_2 5 = .ok (.invokevirtual 552, 3) := dk_182 2 40 (dk_at dksJ9_init_2_0 5 rfl rfl)
theorem dJ9_init_2_8 : decode cJ9_init_2 8 = .ok (.astore_n 3, 1) := dk_78 (dk_at dksJ9_init_2_0 8 rfl rfl)
theorem dJ9_init_2_9 : decode cJ9_init_2 9 = .ok (.aload_n 1, 1) := dk_43 (dk_at dksJ9_init_2_0 9 rfl rfl)
theorem dJ9_init_2_10 : decode cJ9_init_2 10 = .ok (.invokevirtual 549, 3) := dk_182 2 37 (dk_at dksJ9_init_2_0 10 rfl rfl)
theorem dJ9_init_2_13 : decode cJ9_init_2 13 = .ok (.istore 4, 2) := dk_54 4 (dk_at dksJ9_init_2_0 13 rfl rfl)
theorem dJ9_init_2_15 : decode cJ9_init_2 15 = .ok (.aload_n 1, 1) := dk_43 (dk_at dksJ9_init_2_0 15 rfl rfl)
theorem dJ9_init_2_16 : decode cJ9_init_2 16 = .ok (.invokevirtual 1047, 3) := dk_182 4 23 (dk_at dksJ9_init_2_0 16 rfl rfl)
theorem dJ9_init_2_19 : decode cJ9_init_2 19 = .ok (.ifCond .eq 22, 3) := dk_153 0 22 (dk_at dksJ9_init_2_0 19 rfl rfl)
theorem dJ9_init_2_22 : decode cJ9_init_2 22 = .ok (.aload_n 0, 1) := dk_42 (dk_at dksJ9_init_2_0 22 rfl rfl)
theorem dJ9_init_2_23 : decode cJ9_init_2 23 = .ok (.iconst 0, 1) := dk_3 (dk_at dksJ9_init_2_0 23 rfl rfl)
theorem dJ9_init_2_24 : decode cJ9_init_2 24 = .ok (.putfield 15, 3) := dk_181 0 15 (dk_at dksJ9_init_2_1 0 rfl rfl)
theorem dJ9_init_2_27 : decode cJ9_init_2 27 = .ok (.aload_n 0, 1) := dk_42 (dk_at dksJ9_init_2_1 3 rfl rfl)
theorem dJ9_init_2_28 : decode cJ9_init_2 28 = .ok (.aload_n 3, 1) := dk_45 (dk_at dksJ9_init_2_1 4 rfl rfl)
theorem dJ9_init_2_29 : decode cJ9_init_2 29 = .ok (.iconst 0, 1) := dk_3 (dk_at dksJ9_init_2_1 5 rfl rfl)
theorem dJ9_init_2_30 : decode cJ9_init_2 30 = .ok (.iload 4, 2) := dk_21 4 (dk_at dksJ9_init_2_1 6 rfl rfl)
theorem dJ9_init_2_32 : decode cJ9_init_2 32 = .ok (.invokestatic 54, 3) := dk_184 0 54 (dk_at dksJ9_init_2_1 8 rfl rfl)
theorem dJ9_init_2_35 : decode cJ9_init_2 35 = .ok (.putfield 9, 3) := dk_181 0 9 (dk_at dksJ9_init_2_1 11 rfl rfl)
theorem dJ9_init_2_38 : decode cJ9_init_2 38 = .ok (.goto 59, 3) := dk_167 0 59 (dk_at dksJ9_init_2_1 14 rfl rfl)
theorem dJ9_init_2_41 : decode cJ9_init_2 41 = .ok (.getstatic 38, 3) := dk_178 0 38 (dk_at dksJ9_init_2_1 17 rfl rfl)
theorem dJ9_init_2_44 : decode cJ9_init_2 44 = .ok (.ifCond .eq 35, 3) := dk_153 0 35 (dk_at dksJ9_init_2_1 20 rfl rfl)
theorem dJ9_init_2_47 : decode cJ9_init_2 47 = .ok (.aload_n 1, 1) := dk_43 (dk_at dksJ9_init_2_1 23 rfl rfl)
theorem dJ9_init_2_48 : decode cJ9_init_2 48 = .ok (.getfield 1048, 3) := dk_180 4 24 (dk_at dksJ9_init_2_2 0 rfl rfl)
theorem dJ9_init_2_51 : decode cJ9_init_2 51 = .ok (.ifCond .eq 28, 3) := dk_153 0 28 (dk_at dksJ9_init_2_2 3 rfl rfl)
theorem dJ9_init_2_54 : decode cJ9_init_2 54 = .ok (.aload_n 0, 1) := dk_42 (dk_at dksJ9_init_2_2 6 rfl rfl)
theorem dJ9_init_2_55 : decode cJ9_init_2 55 = .ok (.aload_n 3, 1) := dk_45 (dk_at dksJ9_init_2_2 7 rfl rfl)
theorem dJ9_init_2_56 : decode cJ9_init_2 56 = .ok (.iconst 0, 1) := dk_3 (dk_at dksJ9_init_2_2 8 rfl rfl)
theorem dJ9_init_2_57 : decode cJ9_init_2 57 = .ok (.iload 4, 2) := dk_21 4 (dk_at dksJ9_init_2_2 9 rfl rfl)
theorem dJ9_init_2_59 : decode cJ9_init_2 59 = .ok (.invokestatic 1051, 3) := dk_184 4 27 (dk_at dksJ9_init_2_2 11 rfl rfl)
theorem dJ9_init_2_62 : decode cJ9_init_2 62 = .ok (.putfield 9, 3) := dk_181 0 9 (dk_at dksJ9_init_2_2 14 rfl rfl)
theorem dJ9_init_2_65 : decode cJ9_init_2 65 = .ok (.aload_n 0, 1) := dk_42 (dk_at dksJ9_init_2_2 17 rfl rfl)
theorem dJ9_init_2_66 : decode cJ9_init_2 66 = .ok (.aload_n 0, 1) := dk_42 (dk_at dksJ9_init_2_2 18 rfl rfl)
theorem dJ9_init_2_67 : decode cJ9_init_2 67 = .ok (.getfield 9, 3) := dk_180 0 9 (dk_at dksJ9_init_2_2 19 rfl rfl)
theorem dJ9_init_2_70 : decode cJ9_init_2 70 = .ok (.iload 4, 2) := dk_21 4 (dk_at dksJ9_init_2_2 22 rfl rfl)
theorem dJ9_init_2_72 : decode cJ9_init_2 72 = .ok (.invokestatic 47, 3) := dk_184 0 47 (dk_at dksJ9_init_2_3 0 rfl rfl)
theorem dJ9_init_2_75 : decode cJ9_init_2 75 = .ok (.putfield 15, 3) := dk_181 0 15 (dk_at dksJ9_init_2_3 3 rfl rfl)
theorem dJ9_init_2_78 : decode cJ9_init_2 78 = .ok (.return_, 1) := dk_177 (dk_at dksJ9_init_2_3 6 rfl rfl)
theorem dJ9_init_2_79 : decode cJ9_init_2 79 = .ok (.aload_n 0, 1) := dk_42 (dk_at dksJ9_init_2_3 7 rfl rfl)
theorem dJ9_init_2_80 : decode cJ9_init_2 80 = .ok (.iconst 1, 1) := dk_4 (dk_at dksJ9_init_2_3 8 rfl rfl)
theorem dJ9_init_2_81 : decode cJ9_init_2 81 = .ok (.putfield 15, 3) := dk_181 0 15 (dk_at dksJ9_init_2_3 9 rfl rfl)
theorem dJ9_init_2_84 : decode cJ9_init_2 84 = .ok (.aload_n 0, 1) := dk_42 (dk_at dksJ9_init_2_3 12 rfl rfl)
theorem dJ9_init_2_85 : decode cJ9_init_2 85 = .ok (.aload_n 3, 1) := dk_45 (dk_at dksJ9_init_2_3 13 rfl rfl)
theorem dJ9_init_2_86 : decode cJ9_init_2 86 = .ok (.iconst 0, 1) := dk_3 (dk_at dksJ9_init_2_3 14 rfl rfl)
theorem dJ9_init_2_87 : decode cJ9_init_2 87 = .ok (.iload 4, 2) := dk_21 4 (dk_at dksJ9_init_2_3 15 rfl rfl)
theorem dJ9_init_2_89 : decode cJ9_init_2 89 = .ok (.iconst 1, 1) := dk_4 (dk_at dksJ9_init_2_3 17 rfl rfl)
theorem dJ9_init_2_90 : decode cJ9_init_2 90 = .ok (.ishl, 1) := dk_120 (dk_at dksJ9_init_2_3 18 rfl rfl)
theorem dJ9_init_2_91 : decode cJ9_init_2 91 = .ok (.invokestatic 54, 3) := dk_184 0 54 (dk_at dksJ9_init_2_3 19 rfl rfl)
theorem dJ9_init_2_94 : decode cJ9_init_2 94 = .ok (.putfield 9, 3) := dk_181 0 9 (dk_at dksJ9_init_2_4 0 rfl rfl)
theorem dJ9_init_2_97 : decode cJ9_init_2 97 = .ok (.return_, 1) := dk_177 (dk_at dksJ9_init_2_4 3 rfl rfl)
abbrev cJ9_checkIndex : ByteArray := prog_36_method_155_code
def yJ9_checkIndex : MethodName := ⟨RJ9, "checkIndex", "(II)V"⟩
def dkwJ9_checkIndex_0 : List UInt8 := [26, 27, 178, 4, 29, 184, 4, 35, 87, 177]
abbrev dktJ9_checkIndex_0 : List UInt8 := dkwJ9_checkIndex_0 ++ []
theorem dksJ9_checkIndex_0 : cJ9_checkIndex.data.toList.drop 0 = dktJ9_checkIndex_0 := by decide +kernel
theorem dJ9_checkIndex_0 : decode cJ9_checkIndex 0 = .ok (.iload_n 0, 1) := dk_26 (dk_at dksJ9_checkIndex_0 0 rfl rfl)
theorem dJ9_checkIndex_1 : decode cJ9_checkIndex 1 = .ok (.iload_n 1, 1) := dk_27 (dk_at dksJ9_checkIndex_0 1 rfl rfl)
theorem dJ9_checkIndex_2 : decode cJ9_checkIndex 2 = .ok (.getstatic 1053, 3) := dk_178 4 29 (dk_at dksJ9_checkIndex_0 2 rfl rfl)
theorem dJ9_checkIndex_5 : decode cJ9_checkIndex 5 = .ok (.invokestatic 1059, 3) := dk_184 4 35 (dk_at dksJ9_checkIndex_0 5 rfl rfl)
theorem dJ9_checkIndex_8 : decode cJ9_checkIndex 8 = .ok (.pop, 1) := dk_87 (dk_at dksJ9_checkIndex_0 8 rfl rfl)
theorem dJ9_checkIndex_9 : decode cJ9_checkIndex 9 = .ok (.return_, 1) := dk_177 (dk_at dksJ9_checkIndex_0 9 rfl rfl)
abbrev cJ9_valueOf : ByteArray := prog_36_method_139_code
def yJ9_valueOf : MethodName := ⟨RJ9, "valueOf", "(C)Ljava/lang/String;"⟩
def dkwJ9_valueOf_1 : List UInt8 := [183, 0, 209, 176, 187, 0, 10, 89, 26, 184, 3, 253, 4, 183, 0, 209, 176]
abbrev dktJ9_valueOf_1 : List UInt8 := dkwJ9_valueOf_1 ++ []
def dkwJ9_valueOf_0 : List UInt8 := [178, 0, 38, 153, 0, 23, 26, 184, 3, 247, 153, 0, 16, 187, 0, 10, 89, 26, 184, 3, 250, 3]
abbrev dktJ9_valueOf_0 : List UInt8 := dkwJ9_valueOf_0 ++ dktJ9_valueOf_1
theorem dksJ9_valueOf_0 : cJ9_valueOf.data.toList.drop 0 = dktJ9_valueOf_0 := by decide +kernel
theorem dksJ9_valueOf_1 : cJ9_valueOf.data.toList.drop 22 = dktJ9_valueOf_1 := dk_seg dksJ9_valueOf_0 22 rfl rfl
theorem dJ9_valueOf_0 : decode cJ9_valueOf 0 = .ok (.getstatic 38, 3) := dk_178 0 38 (dk_at dksJ9_valueOf_0 0 rfl rfl)
theorem dJ9_valueOf_3 : decode cJ9_valueOf 3 = .ok (.ifCond .eq 23, 3) := dk_153 0 23 (dk_at dksJ9_valueOf_0 3 rfl rfl)
theorem dJ9_valueOf_6 : decode cJ9_valueOf 6 = .ok (.iload_n 0, 1) := dk_26 (dk_at dksJ9_valueOf_0 6 rfl rfl)
theorem dJ9_valueOf_7 : decode cJ9_valueOf 7 = .ok (.invokestatic 1015, 3) := dk_184 3 247 (dk_at dksJ9_valueOf_0 7 rfl rfl)
theorem dJ9_valueOf_10 : decode cJ9_valueOf 10 = .ok (.ifCond .eq 16, 3) := dk_153 0 16 (dk_at dksJ9_valueOf_0 10 rfl rfl)
theorem dJ9_valueOf_13 : decode cJ9_valueOf 13 = .ok (.new 10, 3) := dk_187 0 10 (dk_at dksJ9_valueOf_0 13 rfl rfl)
theorem dJ9_valueOf_16 : decode cJ9_valueOf 16 = .ok (.dup, 1) := dk_89 (dk_at dksJ9_valueOf_0 16 rfl rfl)
theorem dJ9_valueOf_17 : decode cJ9_valueOf 17 = .ok (.iload_n 0, 1) := dk_26 (dk_at dksJ9_valueOf_0 17 rfl rfl)
theorem dJ9_valueOf_18 : decode cJ9_valueOf 18 = .ok (.invokestatic 1018, 3) := dk_184 3 250 (dk_at dksJ9_valueOf_0 18 rfl rfl)
theorem dJ9_valueOf_21 : decode cJ9_valueOf 21 = .ok (.iconst 0, 1) := dk_3 (dk_at dksJ9_valueOf_0 21 rfl rfl)
theorem dJ9_valueOf_22 : decode cJ9_valueOf 22 = .ok (.invokespecial 209, 3) := dk_183 0 209 (dk_at dksJ9_valueOf_1 0 rfl rfl)
theorem dJ9_valueOf_25 : decode cJ9_valueOf 25 = .ok (.areturn, 1) := dk_176 (dk_at dksJ9_valueOf_1 3 rfl rfl)
theorem dJ9_valueOf_26 : decode cJ9_valueOf 26 = .ok (.new 10, 3) := dk_187 0 10 (dk_at dksJ9_valueOf_1 4 rfl rfl)
theorem dJ9_valueOf_29 : decode cJ9_valueOf 29 = .ok (.dup, 1) := dk_89 (dk_at dksJ9_valueOf_1 7 rfl rfl)
theorem dJ9_valueOf_30 : decode cJ9_valueOf 30 = .ok (.iload_n 0, 1) := dk_26 (dk_at dksJ9_valueOf_1 8 rfl rfl)
theorem dJ9_valueOf_31 : decode cJ9_valueOf 31 = .ok (.invokestatic 1021, 3) := dk_184 3 253 (dk_at dksJ9_valueOf_1 9 rfl rfl)
theorem dJ9_valueOf_34 : decode cJ9_valueOf 34 = .ok (.iconst 1, 1) := dk_4 (dk_at dksJ9_valueOf_1 12 rfl rfl)
theorem dJ9_valueOf_35 : decode cJ9_valueOf 35 = .ok (.invokespecial 209, 3) := dk_183 0 209 (dk_at dksJ9_valueOf_1 13 rfl rfl)
theorem dJ9_valueOf_38 : decode cJ9_valueOf 38 = .ok (.areturn, 1) := dk_176 (dk_at dksJ9_valueOf_1 16 rfl rfl)
abbrev cJ9_init_3 : ByteArray := prog_36_method_151_code
def yJ9_init_3 : MethodName := ⟨RJ9, "<init>", "([BB)V"⟩
def dkwJ9_init_3_0 : List UInt8 := [42, 183, 0, 1, 42, 43, 181, 0, 9, 42, 28, 181, 0, 15, 177]
abbrev dktJ9_init_3_0 : List UInt8 := dkwJ9_init_3_0 ++ []
theorem dksJ9_init_3_0 : cJ9_init_3.data.toList.drop 0 = dktJ9_init_3_0 := by decide +kernel
theorem dJ9_init_3_0 : decode cJ9_init_3 0 = .ok (.aload_n 0, 1) := dk_42 (dk_at dksJ9_init_3_0 0 rfl rfl)
theorem dJ9_init_3_1 : decode cJ9_init_3 1 = .ok (.invokespecial 1, 3) := dk_183 0 1 (dk_at dksJ9_init_3_0 1 rfl rfl)
theorem dJ9_init_3_4 : decode cJ9_init_3 4 = .ok (.aload_n 0, 1) := dk_42 (dk_at dksJ9_init_3_0 4 rfl rfl)
theorem dJ9_init_3_5 : decode cJ9_init_3 5 = .ok (.aload_n 1, 1) := dk_43 (dk_at dksJ9_init_3_0 5 rfl rfl)
theorem dJ9_init_3_6 : decode cJ9_init_3 6 = .ok (.putfield 9, 3) := dk_181 0 9 (dk_at dksJ9_init_3_0 6 rfl rfl)
theorem dJ9_init_3_9 : decode cJ9_init_3 9 = .ok (.aload_n 0, 1) := dk_42 (dk_at dksJ9_init_3_0 9 rfl rfl)
theorem dJ9_init_3_10 : decode cJ9_init_3 10 = .ok (.iload_n 2, 1) := dk_28 (dk_at dksJ9_init_3_0 10 rfl rfl)
theorem dJ9_init_3_11 : decode cJ9_init_3 11 = .ok (.putfield 15, 3) := dk_181 0 15 (dk_at dksJ9_init_3_0 11 rfl rfl)
theorem dJ9_init_3_14 : decode cJ9_init_3 14 = .ok (.return_, 1) := dk_177 (dk_at dksJ9_init_3_0 14 rfl rfl)
abbrev cJ9_equals : ByteArray := prog_36_method_66_code
def yJ9_equals : MethodName := ⟨RJ9, "equals", "(Ljava/lang/Object;)Z"⟩
def dkwJ9_equals_2 : List UInt8 := [184, 2, 29, 153, 0, 7, 4, 167, 0, 4, 3, 172]
abbrev dktJ9_equals_2 : List UInt8 := dkwJ9_equals_2 ++ []
def dkwJ9_equals_1 : List UInt8 := [153, 0, 14, 42, 180, 0, 15, 44, 180, 0, 15, 160, 0, 21, 42, 180, 0, 9, 44, 180, 0, 9]
abbrev dktJ9_equals_1 : List UInt8 := dkwJ9_equals_1 ++ dktJ9_equals_2
def dkwJ9_equals_0 : List UInt8 := [42, 43, 166, 0, 5, 4, 172, 43, 193, 0, 10, 153, 0, 43, 43, 192, 0, 10, 77, 178, 0, 38]
abbrev dktJ9_equals_0 : List UInt8 := dkwJ9_equals_0 ++ dktJ9_equals_1
theorem dksJ9_equals_0 : cJ9_equals.data.toList.drop 0 = dktJ9_equals_0 := by decide +kernel
theorem dksJ9_equals_1 : cJ9_equals.data.toList.drop 22 = dktJ9_equals_1 := dk_seg dksJ9_equals_0 22 rfl rfl
theorem dksJ9_equals_2 : cJ9_equals.data.toList.drop 44 = dktJ9_equals_2 := dk_seg dksJ9_equals_1 22 rfl rfl
theorem dJ9_equals_0 : decode cJ9_equals 0 = .ok (.aload_n 0, 1) := dk_42 (dk_at dksJ9_equals_0 0 rfl rfl)
theorem dJ9_equals_1 : decode cJ9_equals 1 = .ok (.aload_n 1, 1) := dk_43 (dk_at dksJ9_equals_0 1 rfl rfl)
theorem dJ9_equals_2 : decode cJ9_equals 2 = .ok (.if_acmp .ne 5, 3) := dk_166 0 5 (dk_at dksJ9_equals_0 2 rfl rfl)
theorem dJ9_equals_5 : decode cJ9_equals 5 = .ok (.iconst 1, 1) := dk_4 (dk_at dksJ9_equals_0 5 rfl rfl)
theorem dJ9_equals_6 : decode cJ9_equals 6 = .ok (.ireturn, 1) := dk_172 (dk_at dksJ9_equals_0 6 rfl rfl)
theorem dJ9_equals_7 : decode cJ9_equals 7 = .ok (.aload_n 1, 1) := dk_43 (dk_at dksJ9_equals_0 7 rfl rfl)
theorem dJ9_equals_8 : decode cJ9_equals 8 = .ok (.instanceof 10, 3) := dk_193 0 10 (dk_at dksJ9_equals_0 8 rfl rfl)
theorem dJ9_equals_11 : decode cJ9_equals 11 = .ok (.ifCond .eq 43, 3) := dk_153 0 43 (dk_at dksJ9_equals_0 11 rfl rfl)
theorem dJ9_equals_14 : decode cJ9_equals 14 = .ok (.aload_n 1, 1) := dk_43 (dk_at dksJ9_equals_0 14 rfl rfl)
theorem dJ9_equals_15 : decode cJ9_equals 15 = .ok (.checkcast 10, 3) := dk_192 0 10 (dk_at dksJ9_equals_0 15 rfl rfl)
theorem dJ9_equals_18 : decode cJ9_equals 18 = .ok (.astore_n 2, 1) := dk_77 (dk_at dksJ9_equals_0 18 rfl rfl)
theorem dJ9_equals_19 : decode cJ9_equals 19 = .ok (.getstatic 38, 3) := dk_178 0 38 (dk_at dksJ9_equals_0 19 rfl rfl)
theorem dJ9_equals_22 : decode cJ9_equals 22 = .ok (.ifCond .eq 14, 3) := dk_153 0 14 (dk_at dksJ9_equals_1 0 rfl rfl)
theorem dJ9_equals_25 : decode cJ9_equals 25 = .ok (.aload_n 0, 1) := dk_42 (dk_at dksJ9_equals_1 3 rfl rfl)
theorem dJ9_equals_26 : decode cJ9_equals 26 = .ok (.getfield 15, 3) := dk_180 0 15 (dk_at dksJ9_equals_1 4 rfl rfl)
theorem dJ9_equals_29 : decode cJ9_equals 29 = .ok (.aload_n 2, 1) := dk_44 (dk_at dksJ9_equals_1 7 rfl rfl)
theorem dJ9_equals_30 : decode cJ9_equals 30 = .ok (.getfield 15, 3) := dk_180 0 15 (dk_at dksJ9_equals_1 8 rfl rfl)
theorem dJ9_equals_33 : decode cJ9_equals 33 = .ok (.if_icmp .ne 21, 3) := dk_160 0 21 (dk_at dksJ9_equals_1 11 rfl rfl)
theorem dJ9_equals_36 : decode cJ9_equals 36 = .ok (.aload_n 0, 1) := dk_42 (dk_at dksJ9_equals_1 14 rfl rfl)
theorem dJ9_equals_37 : decode cJ9_equals 37 = .ok (.getfield 9, 3) := dk_180 0 9 (dk_at dksJ9_equals_1 15 rfl rfl)
theorem dJ9_equals_40 : decode cJ9_equals 40 = .ok (.aload_n 2, 1) := dk_44 (dk_at dksJ9_equals_1 18 rfl rfl)
theorem dJ9_equals_41 : decode cJ9_equals 41 = .ok (.getfield 9, 3) := dk_180 0 9 (dk_at dksJ9_equals_1 19 rfl rfl)
theorem dJ9_equals_44 : decode cJ9_equals 44 = .ok (.invokestatic 541, 3) := dk_184 2 29 (dk_at dksJ9_equals_2 0 rfl rfl)
theorem dJ9_equals_47 : decode cJ9_equals 47 = .ok (.ifCond .eq 7, 3) := dk_153 0 7 (dk_at dksJ9_equals_2 3 rfl rfl)
theorem dJ9_equals_50 : decode cJ9_equals 50 = .ok (.iconst 1, 1) := dk_4 (dk_at dksJ9_equals_2 6 rfl rfl)
theorem dJ9_equals_51 : decode cJ9_equals 51 = .ok (.goto 4, 3) := dk_167 0 4 (dk_at dksJ9_equals_2 7 rfl rfl)
theorem dJ9_equals_54 : decode cJ9_equals 54 = .ok (.iconst 0, 1) := dk_3 (dk_at dksJ9_equals_2 10 rfl rfl)
theorem dJ9_equals_55 : decode cJ9_equals 55 = .ok (.ireturn, 1) := dk_172 (dk_at dksJ9_equals_2 11 rfl rfl)
abbrev cJ9_charAt : ByteArray := prog_36_method_56_code
def yJ9_charAt : MethodName := ⟨RJ9, "charAt", "(I)C"⟩
def dkwJ9_charAt_1 : List UInt8 := [172]
abbrev dktJ9_charAt_1 : List UInt8 := dkwJ9_charAt_1 ++ []
def dkwJ9_charAt_0 : List UInt8 := [42, 182, 1, 236, 153, 0, 12, 42, 180, 0, 9, 27, 184, 1, 239, 172, 42, 180, 0, 9, 27, 184, 1, 242]
abbrev dktJ9_charAt_0 : List UInt8 := dkwJ9_charAt_0 ++ dktJ9_charAt_1
theorem dksJ9_charAt_0 : cJ9_charAt.data.toList.drop 0 = dktJ9_charAt_0 := by decide +kernel
theorem dksJ9_charAt_1 : cJ9_charAt.data.toList.drop 24 = dktJ9_charAt_1 := dk_seg dksJ9_charAt_0 24 rfl rfl
theorem dJ9_charAt_0 : decode cJ9_charAt 0 = .ok (.aload_n 0, 1) := dk_42 (dk_at dksJ9_charAt_0 0 rfl rfl)
theorem dJ9_charAt_1 : decode cJ9_charAt 1 = .ok (.invokevirtual 492, 3) := dk_182 1 236 (dk_at dksJ9_charAt_0 1 rfl rfl)
theorem dJ9_charAt_4 : decode cJ9_charAt 4 = .ok (.ifCond .eq 12, 3) := dk_153 0 12 (dk_at dksJ9_charAt_0 4 rfl rfl)
theorem dJ9_charAt_7 : decode cJ9_charAt 7 = .ok (.aload_n 0, 1) := dk_42 (dk_at dksJ9_charAt_0 7 rfl rfl)
theorem dJ9_charAt_8 : decode cJ9_charAt 8 = .ok (.getfield 9, 3) := dk_180 0 9 (dk_at dksJ9_charAt_0 8 rfl rfl)
theorem dJ9_charAt_11 : decode cJ9_charAt 11 = .ok (.iload_n 1, 1) := dk_27 (dk_at dksJ9_charAt_0 11 rfl rfl)
theorem dJ9_charAt_12 : decode cJ9_charAt 12 = .ok (.invokestatic 495, 3) := dk_184 1 239 (dk_at dksJ9_charAt_0 12 rfl rfl)
theorem dJ9_charAt_15 : decode cJ9_charAt 15 = .ok (.ireturn, 1) := dk_172 (dk_at dksJ9_charAt_0 15 rfl rfl)
theorem dJ9_charAt_16 : decode cJ9_charAt 16 = .ok (.aload_n 0, 1) := dk_42 (dk_at dksJ9_charAt_0 16 rfl rfl)
theorem dJ9_charAt_17 : decode cJ9_charAt 17 = .ok (.getfield 9, 3) := dk_180 0 9 (dk_at dksJ9_charAt_0 17 rfl rfl)
theorem dJ9_charAt_20 : decode cJ9_charAt 20 = .ok (.iload_n 1, 1) := dk_27 (dk_at dksJ9_charAt_0 20 rfl rfl)
theorem dJ9_charAt_21 : decode cJ9_charAt 21 = .ok (.invokestatic 498, 3) := dk_184 1 242 (dk_at dksJ9_charAt_0 21 rfl rfl)
theorem dJ9_charAt_24 : decode cJ9_charAt 24 = .ok (.ireturn, 1) := dk_172 (dk_at dksJ9_charAt_1 0 rfl rfl)
abbrev cJ9_isLatin1 : ByteArray := prog_36_method_154_code
def yJ9_isLatin1 : MethodName := ⟨RJ9, "isLatin1", "()Z"⟩
def dkwJ9_isLatin1_0 : List UInt8 := [178, 0, 38, 153, 0, 14, 42, 180, 0, 15, 154, 0, 7, 4, 167, 0, 4, 3, 172]
abbrev dktJ9_isLatin1_0 : List UInt8 := dkwJ9_isLatin1_0 ++ []
theorem dksJ9_isLatin1_0 : cJ9_isLatin1.data.toList.drop 0 = dktJ9_isLatin1_0 := by decide +kernel
theorem dJ9_isLatin1_0 : decode cJ9_isLatin1 0 = .ok (.getstatic 38, 3) := dk_178 0 38 (dk_at dksJ9_isLatin1_0 0 rfl rfl)
theorem dJ9_isLatin1_3 : decode cJ9_isLatin1 3 = .ok (.ifCond .eq 14, 3) := dk_153 0 14 (dk_at dksJ9_isLatin1_0 3 rfl rfl)
theorem dJ9_isLatin1_6 : decode cJ9_isLatin1 6 = .ok (.aload_n 0, 1) := dk_42 (dk_at dksJ9_isLatin1_0 6 rfl rfl)
theorem dJ9_isLatin1_7 : decode cJ9_isLatin1 7 = .ok (.getfield 15, 3) := dk_180 0 15 (dk_at dksJ9_isLatin1_0 7 rfl rfl)
theorem dJ9_isLatin1_10 : decode cJ9_isLatin1 10 = .ok (.ifCond .ne 7, 3) := dk_154 0 7 (dk_at dksJ9_isLatin1_0 10 rfl rfl)
theorem dJ9_isLatin1_13 : decode cJ9_isLatin1 13 = .ok (.iconst 1, 1) := dk_4 (dk_at dksJ9_isLatin1_0 13 rfl rfl)
theorem dJ9_isLatin1_14 : decode cJ9_isLatin1 14 = .ok (.goto 4, 3) := dk_167 0 4 (dk_at dksJ9_isLatin1_0 14 rfl rfl)
theorem dJ9_isLatin1_17 : decode cJ9_isLatin1 17 = .ok (.iconst 0, 1) := dk_3 (dk_at dksJ9_isLatin1_0 17 rfl rfl)
theorem dJ9_isLatin1_18 : decode cJ9_isLatin1 18 = .ok (.ireturn, 1) := dk_172 (dk_at dksJ9_isLatin1_0 18 rfl rfl)
/-! SpoonRow$Fault: codes (from claim/names) -/
abbrev cX10_init : ByteArray := prog_8_method_1_code
def yX10_init : MethodName := ⟨RX10, "<init>", "(II)V"⟩
def dkwX10_init_0 : List UInt8 := [42, 183, 0, 1, 42, 27, 181, 0, 7, 42, 28, 181, 0, 13, 177]
abbrev dktX10_init_0 : List UInt8 := dkwX10_init_0 ++ []
theorem dksX10_init_0 : cX10_init.data.toList.drop 0 = dktX10_init_0 := by decide +kernel
theorem dX10_init_0 : decode cX10_init 0 = .ok (.aload_n 0, 1) := dk_42 (dk_at dksX10_init_0 0 rfl rfl)
theorem dX10_init_1 : decode cX10_init 1 = .ok (.invokespecial 1, 3) := dk_183 0 1 (dk_at dksX10_init_0 1 rfl rfl)
theorem dX10_init_4 : decode cX10_init 4 = .ok (.aload_n 0, 1) := dk_42 (dk_at dksX10_init_0 4 rfl rfl)
theorem dX10_init_5 : decode cX10_init 5 = .ok (.iload_n 1, 1) := dk_27 (dk_at dksX10_init_0 5 rfl rfl)
theorem dX10_init_6 : decode cX10_init 6 = .ok (.putfield 7, 3) := dk_181 0 7 (dk_at dksX10_init_0 6 rfl rfl)
theorem dX10_init_9 : decode cX10_init 9 = .ok (.aload_n 0, 1) := dk_42 (dk_at dksX10_init_0 9 rfl rfl)
theorem dX10_init_10 : decode cX10_init 10 = .ok (.iload_n 2, 1) := dk_28 (dk_at dksX10_init_0 10 rfl rfl)
theorem dX10_init_11 : decode cX10_init 11 = .ok (.putfield 13, 3) := dk_181 0 13 (dk_at dksX10_init_0 11 rfl rfl)
theorem dX10_init_14 : decode cX10_init 14 = .ok (.return_, 1) := dk_177 (dk_at dksX10_init_0 14 rfl rfl)
/-! SpoonRow$Expr: codes (from claim/names) -/
abbrev cX11_init : ByteArray := prog_7_method_1_code
def yX11_init : MethodName := ⟨RX11, "<init>", "()V"⟩
theorem dX11_init_0 : decode cX11_init 0 = .ok (.aload_n 0, 1) := by decide +kernel
theorem dX11_init_1 : decode cX11_init 1 = .ok (.invokespecial 1, 3) := by decide +kernel
theorem dX11_init_4 : decode cX11_init 4 = .ok (.return_, 1) := by decide +kernel
/-! SpoonRow$Told: codes (from claim/names) -/
abbrev cX12_by : ByteArray := prog_17_method_2_code
def yX12_by : MethodName := ⟨RX12, "by", "(LSpoonRow$View;)I"⟩
theorem dX12_by_0 : decode cX12_by 0 = .ok (.aload_n 0, 1) := by decide +kernel
theorem dX12_by_1 : decode cX12_by 1 = .ok (.getfield 7, 3) := by decide +kernel
theorem dX12_by_4 : decode cX12_by 4 = .ok (.ireturn, 1) := by decide +kernel
abbrev cX12_init : ByteArray := prog_17_method_1_code
def yX12_init : MethodName := ⟨RX12, "<init>", "(I)V"⟩
def dkwX12_init_0 : List UInt8 := [42, 183, 0, 1, 42, 27, 181, 0, 7, 177]
abbrev dktX12_init_0 : List UInt8 := dkwX12_init_0 ++ []
theorem dksX12_init_0 : cX12_init.data.toList.drop 0 = dktX12_init_0 := by decide +kernel
theorem dX12_init_0 : decode cX12_init 0 = .ok (.aload_n 0, 1) := dk_42 (dk_at dksX12_init_0 0 rfl rfl)
theorem dX12_init_1 : decode cX12_init 1 = .ok (.invokespecial 1, 3) := dk_183 0 1 (dk_at dksX12_init_0 1 rfl rfl)
theorem dX12_init_4 : decode cX12_init 4 = .ok (.aload_n 0, 1) := dk_42 (dk_at dksX12_init_0 4 rfl rfl)
theorem dX12_init_5 : decode cX12_init 5 = .ok (.iload_n 1, 1) := dk_27 (dk_at dksX12_init_0 5 rfl rfl)
theorem dX12_init_6 : decode cX12_init 6 = .ok (.putfield 7, 3) := dk_181 0 7 (dk_at dksX12_init_0 6 rfl rfl)
theorem dX12_init_9 : decode cX12_init 9 = .ok (.return_, 1) := dk_177 (dk_at dksX12_init_0 9 rfl rfl)
/-! SpoonRow$Seen: codes (from claim/names) -/
abbrev cX13_by : ByteArray := prog_13_method_2_code
def yX13_by : MethodName := ⟨RX13, "by", "(LSpoonRow$View;)I"⟩
def dkwX13_by_0 : List UInt8 := [43, 180, 0, 13, 42, 180, 0, 7, 182, 0, 19, 46, 172]
abbrev dktX13_by_0 : List UInt8 := dkwX13_by_0 ++ []
theorem dksX13_by_0 : cX13_by.data.toList.drop 0 = dktX13_by_0 := by decide +kernel
theorem dX13_by_0 : decode cX13_by 0 = .ok (.aload_n 1, 1) := dk_43 (dk_at dksX13_by_0 0 rfl rfl)
theorem dX13_by_1 : decode cX13_by 1 = .ok (.getfield 13, 3) := dk_180 0 13 (dk_at dksX13_by_0 1 rfl rfl)
theorem dX13_by_4 : decode cX13_by 4 = .ok (.aload_n 0, 1) := dk_42 (dk_at dksX13_by_0 4 rfl rfl)
theorem dX13_by_5 : decode cX13_by 5 = .ok (.getfield 7, 3) := dk_180 0 7 (dk_at dksX13_by_0 5 rfl rfl)
theorem dX13_by_8 : decode cX13_by 8 = .ok (.invokevirtual 19, 3) := dk_182 0 19 (dk_at dksX13_by_0 8 rfl rfl)
theorem dX13_by_11 : decode cX13_by 11 = .ok (.iaload, 1) := dk_46 (dk_at dksX13_by_0 11 rfl rfl)
theorem dX13_by_12 : decode cX13_by 12 = .ok (.ireturn, 1) := dk_172 (dk_at dksX13_by_0 12 rfl rfl)
abbrev cX13_init : ByteArray := prog_13_method_1_code
def yX13_init : MethodName := ⟨RX13, "<init>", "(LSpoonRow$Value;)V"⟩
def dkwX13_init_0 : List UInt8 := [42, 183, 0, 1, 42, 43, 181, 0, 7, 177]
abbrev dktX13_init_0 : List UInt8 := dkwX13_init_0 ++ []
theorem dksX13_init_0 : cX13_init.data.toList.drop 0 = dktX13_init_0 := by decide +kernel
theorem dX13_init_0 : decode cX13_init 0 = .ok (.aload_n 0, 1) := dk_42 (dk_at dksX13_init_0 0 rfl rfl)
theorem dX13_init_1 : decode cX13_init 1 = .ok (.invokespecial 1, 3) := dk_183 0 1 (dk_at dksX13_init_0 1 rfl rfl)
theorem dX13_init_4 : decode cX13_init 4 = .ok (.aload_n 0, 1) := dk_42 (dk_at dksX13_init_0 4 rfl rfl)
theorem dX13_init_5 : decode cX13_init 5 = .ok (.aload_n 1, 1) := dk_43 (dk_at dksX13_init_0 5 rfl rfl)
theorem dX13_init_6 : decode cX13_init 6 = .ok (.putfield 7, 3) := dk_181 0 7 (dk_at dksX13_init_0 6 rfl rfl)
theorem dX13_init_9 : decode cX13_init 9 = .ok (.return_, 1) := dk_177 (dk_at dksX13_init_0 9 rfl rfl)
/-! SpoonRow$Both: codes (from claim/names) -/
abbrev cX14_by : ByteArray := prog_4_method_2_code
def yX14_by : MethodName := ⟨RX14, "by", "(LSpoonRow$View;)I"⟩
def dkwX14_by_5 : List UInt8 := [167, 0, 4, 3, 172]
abbrev dktX14_by_5 : List UInt8 := dkwX14_by_5 ++ []
def dkwX14_by_4 : List UInt8 := [153, 0, 11, 29, 153, 0, 7, 4, 167, 0, 4, 3, 172, 28, 154, 0, 7, 29, 153, 0, 7, 4]
abbrev dktX14_by_4 : List UInt8 := dkwX14_by_4 ++ dktX14_by_5
def dkwX14_by_3 : List UInt8 := [28, 29, 162, 0, 7, 4, 167, 0, 4, 3, 172, 28, 29, 160, 0, 7, 4, 167, 0, 4, 3, 172, 28]
abbrev dktX14_by_3 : List UInt8 := dkwX14_by_3 ++ dktX14_by_4
def dkwX14_by_2 : List UInt8 := [28, 29, 96, 172, 28, 29, 100, 172, 28, 29, 104, 172, 29, 154, 0, 7, 3, 167, 0, 6, 28, 29, 108, 172]
abbrev dktX14_by_2 : List UInt8 := dkwX14_by_2 ++ dktX14_by_3
def dkwX14_by_1 : List UInt8 := [170, 0, 0, 0, 0, 170, 0, 0, 0, 38, 0, 0, 0, 61, 0, 0, 0, 156, 0, 0, 0, 170, 0, 0, 0, 170, 0, 0, 0, 170, 0, 0, 0, 118, 0, 0, 0, 110, 0, 0, 0, 170, 0, 0, 0, 114, 0, 0, 0, 170, 0, 0, 0, 122, 0, 0, 0, 170, 0, 0, 0, 170, 0, 0, 0, 170, 0, 0, 0, 170, 0, 0, 0, 170, 0, 0, 0, 170, 0, 0, 0, 170, 0, 0, 0, 170, 0, 0, 0, 170, 0, 0, 0, 170, 0, 0, 0, 170, 0, 0, 0, 170, 0, 0, 0, 134, 0, 0, 0, 145]
abbrev dktX14_by_1 : List UInt8 := dkwX14_by_1 ++ dktX14_by_2
def dkwX14_by_0 : List UInt8 := [42, 180, 0, 13, 43, 182, 0, 20, 61, 42, 180, 0, 17, 43, 182, 0, 20, 62, 42, 180, 0, 7]
abbrev dktX14_by_0 : List UInt8 := dkwX14_by_0 ++ dktX14_by_1
theorem dksX14_by_0 : cX14_by.data.toList.drop 0 = dktX14_by_0 := by decide +kernel
theorem dksX14_by_1 : cX14_by.data.toList.drop 22 = dktX14_by_1 := dk_seg dksX14_by_0 22 rfl rfl
theorem dksX14_by_2 : cX14_by.data.toList.drop 132 = dktX14_by_2 := dk_seg dksX14_by_1 110 rfl rfl
theorem dksX14_by_3 : cX14_by.data.toList.drop 156 = dktX14_by_3 := dk_seg dksX14_by_2 24 rfl rfl
theorem dksX14_by_4 : cX14_by.data.toList.drop 179 = dktX14_by_4 := dk_seg dksX14_by_3 23 rfl rfl
theorem dksX14_by_5 : cX14_by.data.toList.drop 201 = dktX14_by_5 := dk_seg dksX14_by_4 22 rfl rfl
theorem dX14_by_0 : decode cX14_by 0 = .ok (.aload_n 0, 1) := dk_42 (dk_at dksX14_by_0 0 rfl rfl)
theorem dX14_by_1 : decode cX14_by 1 = .ok (.getfield 13, 3) := dk_180 0 13 (dk_at dksX14_by_0 1 rfl rfl)
theorem dX14_by_4 : decode cX14_by 4 = .ok (.aload_n 1, 1) := dk_43 (dk_at dksX14_by_0 4 rfl rfl)
theorem dX14_by_5 : decode cX14_by 5 = .ok (.invokevirtual 20, 3) := dk_182 0 20 (dk_at dksX14_by_0 5 rfl rfl)
theorem dX14_by_8 : decode cX14_by 8 = .ok (.istore_n 2, 1) := dk_61 (dk_at dksX14_by_0 8 rfl rfl)
theorem dX14_by_9 : decode cX14_by 9 = .ok (.aload_n 0, 1) := dk_42 (dk_at dksX14_by_0 9 rfl rfl)
theorem dX14_by_10 : decode cX14_by 10 = .ok (.getfield 17, 3) := dk_180 0 17 (dk_at dksX14_by_0 10 rfl rfl)
theorem dX14_by_13 : decode cX14_by 13 = .ok (.aload_n 1, 1) := dk_43 (dk_at dksX14_by_0 13 rfl rfl)
theorem dX14_by_14 : decode cX14_by 14 = .ok (.invokevirtual 20, 3) := dk_182 0 20 (dk_at dksX14_by_0 14 rfl rfl)
theorem dX14_by_17 : decode cX14_by 17 = .ok (.istore_n 3, 1) := dk_62 (dk_at dksX14_by_0 17 rfl rfl)
theorem dX14_by_18 : decode cX14_by 18 = .ok (.aload_n 0, 1) := dk_42 (dk_at dksX14_by_0 18 rfl rfl)
theorem dX14_by_19 : decode cX14_by 19 = .ok (.getfield 7, 3) := dk_180 0 7 (dk_at dksX14_by_0 19 rfl rfl)
theorem dX14_by_22 : decode cX14_by 22 = .ok (.tableswitch 170 38 61 #[156, 170, 170, 170, 118, 110, 170, 114, 170, 122, 170, 170, 170, 170, 170, 170, 170, 170, 170, 170, 170, 170, 134, 145], 110) := by decide +kernel
theorem dX14_by_132 : decode cX14_by 132 = .ok (.iload_n 2, 1) := dk_28 (dk_at dksX14_by_2 0 rfl rfl)
theorem dX14_by_133 : decode cX14_by 133 = .ok (.iload_n 3, 1) := dk_29 (dk_at dksX14_by_2 1 rfl rfl)
theorem dX14_by_134 : decode cX14_by 134 = .ok (.iadd, 1) := dk_96 (dk_at dksX14_by_2 2 rfl rfl)
theorem dX14_by_135 : decode cX14_by 135 = .ok (.ireturn, 1) := dk_172 (dk_at dksX14_by_2 3 rfl rfl)
theorem dX14_by_136 : decode cX14_by 136 = .ok (.iload_n 2, 1) := dk_28 (dk_at dksX14_by_2 4 rfl rfl)
theorem dX14_by_137 : decode cX14_by 137 = .ok (.iload_n 3, 1) := dk_29 (dk_at dksX14_by_2 5 rfl rfl)
theorem dX14_by_138 : decode cX14_by 138 = .ok (.isub, 1) := dk_100 (dk_at dksX14_by_2 6 rfl rfl)
theorem dX14_by_139 : decode cX14_by 139 = .ok (.ireturn, 1) := dk_172 (dk_at dksX14_by_2 7 rfl rfl)
theorem dX14_by_140 : decode cX14_by 140 = .ok (.iload_n 2, 1) := dk_28 (dk_at dksX14_by_2 8 rfl rfl)
theorem dX14_by_141 : decode cX14_by 141 = .ok (.iload_n 3, 1) := dk_29 (dk_at dksX14_by_2 9 rfl rfl)
theorem dX14_by_142 : decode cX14_by 142 = .ok (.imul, 1) := dk_104 (dk_at dksX14_by_2 10 rfl rfl)
theorem dX14_by_143 : decode cX14_by 143 = .ok (.ireturn, 1) := dk_172 (dk_at dksX14_by_2 11 rfl rfl)
theorem dX14_by_144 : decode cX14_by 144 = .ok (.iload_n 3, 1) := dk_29 (dk_at dksX14_by_2 12 rfl rfl)
theorem dX14_by_145 : decode cX14_by 145 = .ok (.ifCond .ne 7, 3) := dk_154 0 7 (dk_at dksX14_by_2 13 rfl rfl)
theorem dX14_by_148 : decode cX14_by 148 = .ok (.iconst 0, 1) := dk_3 (dk_at dksX14_by_2 16 rfl rfl)
theorem dX14_by_149 : decode cX14_by 149 = .ok (.goto 6, 3) := dk_167 0 6 (dk_at dksX14_by_2 17 rfl rfl)
theorem dX14_by_152 : decode cX14_by 152 = .ok (.iload_n 2, 1) := dk_28 (dk_at dksX14_by_2 20 rfl rfl)
theorem dX14_by_153 : decode cX14_by 153 = .ok (.iload_n 3, 1) := dk_29 (dk_at dksX14_by_2 21 rfl rfl)
theorem dX14_by_154 : decode cX14_by 154 = .ok (.idiv, 1) := dk_108 (dk_at dksX14_by_2 22 rfl rfl)
theorem dX14_by_155 : decode cX14_by 155 = .ok (.ireturn, 1) := dk_172 (dk_at dksX14_by_2 23 rfl rfl)
theorem dX14_by_156 : decode cX14_by 156 = .ok (.iload_n 2, 1) := dk_28 (dk_at dksX14_by_3 0 rfl rfl)
theorem dX14_by_157 : decode cX14_by 157 = .ok (.iload_n 3, 1) := dk_29 (dk_at dksX14_by_3 1 rfl rfl)
theorem dX14_by_158 : decode cX14_by 158 = .ok (.if_icmp .ge 7, 3) := dk_162 0 7 (dk_at dksX14_by_3 2 rfl rfl)
theorem dX14_by_161 : decode cX14_by 161 = .ok (.iconst 1, 1) := dk_4 (dk_at dksX14_by_3 5 rfl rfl)
theorem dX14_by_162 : decode cX14_by 162 = .ok (.goto 4, 3) := dk_167 0 4 (dk_at dksX14_by_3 6 rfl rfl)
theorem dX14_by_165 : decode cX14_by 165 = .ok (.iconst 0, 1) := dk_3 (dk_at dksX14_by_3 9 rfl rfl)
theorem dX14_by_166 : decode cX14_by 166 = .ok (.ireturn, 1) := dk_172 (dk_at dksX14_by_3 10 rfl rfl)
theorem dX14_by_167 : decode cX14_by 167 = .ok (.iload_n 2, 1) := dk_28 (dk_at dksX14_by_3 11 rfl rfl)
theorem dX14_by_168 : decode cX14_by 168 = .ok (.iload_n 3, 1) := dk_29 (dk_at dksX14_by_3 12 rfl rfl)
theorem dX14_by_169 : decode cX14_by 169 = .ok (.if_icmp .ne 7, 3) := dk_160 0 7 (dk_at dksX14_by_3 13 rfl rfl)
theorem dX14_by_172 : decode cX14_by 172 = .ok (.iconst 1, 1) := dk_4 (dk_at dksX14_by_3 16 rfl rfl)
theorem dX14_by_173 : decode cX14_by 173 = .ok (.goto 4, 3) := dk_167 0 4 (dk_at dksX14_by_3 17 rfl rfl)
theorem dX14_by_176 : decode cX14_by 176 = .ok (.iconst 0, 1) := dk_3 (dk_at dksX14_by_3 20 rfl rfl)
theorem dX14_by_177 : decode cX14_by 177 = .ok (.ireturn, 1) := dk_172 (dk_at dksX14_by_3 21 rfl rfl)
theorem dX14_by_178 : decode cX14_by 178 = .ok (.iload_n 2, 1) := dk_28 (dk_at dksX14_by_3 22 rfl rfl)
theorem dX14_by_179 : decode cX14_by 179 = .ok (.ifCond .eq 11, 3) := dk_153 0 11 (dk_at dksX14_by_4 0 rfl rfl)
theorem dX14_by_182 : decode cX14_by 182 = .ok (.iload_n 3, 1) := dk_29 (dk_at dksX14_by_4 3 rfl rfl)
theorem dX14_by_183 : decode cX14_by 183 = .ok (.ifCond .eq 7, 3) := dk_153 0 7 (dk_at dksX14_by_4 4 rfl rfl)
theorem dX14_by_186 : decode cX14_by 186 = .ok (.iconst 1, 1) := dk_4 (dk_at dksX14_by_4 7 rfl rfl)
theorem dX14_by_187 : decode cX14_by 187 = .ok (.goto 4, 3) := dk_167 0 4 (dk_at dksX14_by_4 8 rfl rfl)
theorem dX14_by_190 : decode cX14_by 190 = .ok (.iconst 0, 1) := dk_3 (dk_at dksX14_by_4 11 rfl rfl)
theorem dX14_by_191 : decode cX14_by 191 = .ok (.ireturn, 1) := dk_172 (dk_at dksX14_by_4 12 rfl rfl)
theorem dX14_by_192 : decode cX14_by 192 = .ok (.iload_n 2, 1) := dk_28 (dk_at dksX14_by_4 13 rfl rfl)
theorem dX14_by_193 : decode cX14_by 193 = .ok (.ifCond .ne 7, 3) := dk_154 0 7 (dk_at dksX14_by_4 14 rfl rfl)
theorem dX14_by_196 : decode cX14_by 196 = .ok (.iload_n 3, 1) := dk_29 (dk_at dksX14_by_4 17 rfl rfl)
theorem dX14_by_197 : decode cX14_by 197 = .ok (.ifCond .eq 7, 3) := dk_153 0 7 (dk_at dksX14_by_4 18 rfl rfl)
theorem dX14_by_200 : decode cX14_by 200 = .ok (.iconst 1, 1) := dk_4 (dk_at dksX14_by_4 21 rfl rfl)
theorem dX14_by_201 : decode cX14_by 201 = .ok (.goto 4, 3) := dk_167 0 4 (dk_at dksX14_by_5 0 rfl rfl)
theorem dX14_by_204 : decode cX14_by 204 = .ok (.iconst 0, 1) := dk_3 (dk_at dksX14_by_5 3 rfl rfl)
theorem dX14_by_205 : decode cX14_by 205 = .ok (.ireturn, 1) := dk_172 (dk_at dksX14_by_5 4 rfl rfl)
abbrev cX14_init : ByteArray := prog_4_method_1_code
def yX14_init : MethodName := ⟨RX14, "<init>", "(CLSpoonRow$Expr;LSpoonRow$Expr;)V"⟩
def dkwX14_init_0 : List UInt8 := [42, 183, 0, 1, 42, 27, 181, 0, 7, 42, 44, 181, 0, 13, 42, 45, 181, 0, 17, 177]
abbrev dktX14_init_0 : List UInt8 := dkwX14_init_0 ++ []
theorem dksX14_init_0 : cX14_init.data.toList.drop 0 = dktX14_init_0 := by decide +kernel
theorem dX14_init_0 : decode cX14_init 0 = .ok (.aload_n 0, 1) := dk_42 (dk_at dksX14_init_0 0 rfl rfl)
theorem dX14_init_1 : decode cX14_init 1 = .ok (.invokespecial 1, 3) := dk_183 0 1 (dk_at dksX14_init_0 1 rfl rfl)
theorem dX14_init_4 : decode cX14_init 4 = .ok (.aload_n 0, 1) := dk_42 (dk_at dksX14_init_0 4 rfl rfl)
theorem dX14_init_5 : decode cX14_init 5 = .ok (.iload_n 1, 1) := dk_27 (dk_at dksX14_init_0 5 rfl rfl)
theorem dX14_init_6 : decode cX14_init 6 = .ok (.putfield 7, 3) := dk_181 0 7 (dk_at dksX14_init_0 6 rfl rfl)
theorem dX14_init_9 : decode cX14_init 9 = .ok (.aload_n 0, 1) := dk_42 (dk_at dksX14_init_0 9 rfl rfl)
theorem dX14_init_10 : decode cX14_init 10 = .ok (.aload_n 2, 1) := dk_44 (dk_at dksX14_init_0 10 rfl rfl)
theorem dX14_init_11 : decode cX14_init 11 = .ok (.putfield 13, 3) := dk_181 0 13 (dk_at dksX14_init_0 11 rfl rfl)
theorem dX14_init_14 : decode cX14_init 14 = .ok (.aload_n 0, 1) := dk_42 (dk_at dksX14_init_0 14 rfl rfl)
theorem dX14_init_15 : decode cX14_init 15 = .ok (.aload_n 3, 1) := dk_45 (dk_at dksX14_init_0 15 rfl rfl)
theorem dX14_init_16 : decode cX14_init 16 = .ok (.putfield 17, 3) := dk_181 0 17 (dk_at dksX14_init_0 16 rfl rfl)
theorem dX14_init_19 : decode cX14_init 19 = .ok (.return_, 1) := dk_177 (dk_at dksX14_init_0 19 rfl rfl)
/-! SpoonRow$Not: codes (from claim/names) -/
abbrev cX15_by : ByteArray := prog_11_method_2_code
def yX15_by : MethodName := ⟨RX15, "by", "(LSpoonRow$View;)I"⟩
def dkwX15_by_0 : List UInt8 := [42, 180, 0, 7, 43, 182, 0, 13, 154, 0, 7, 4, 167, 0, 4, 3, 172]
abbrev dktX15_by_0 : List UInt8 := dkwX15_by_0 ++ []
theorem dksX15_by_0 : cX15_by.data.toList.drop 0 = dktX15_by_0 := by decide +kernel
theorem dX15_by_0 : decode cX15_by 0 = .ok (.aload_n 0, 1) := dk_42 (dk_at dksX15_by_0 0 rfl rfl)
theorem dX15_by_1 : decode cX15_by 1 = .ok (.getfield 7, 3) := dk_180 0 7 (dk_at dksX15_by_0 1 rfl rfl)
theorem dX15_by_4 : decode cX15_by 4 = .ok (.aload_n 1, 1) := dk_43 (dk_at dksX15_by_0 4 rfl rfl)
theorem dX15_by_5 : decode cX15_by 5 = .ok (.invokevirtual 13, 3) := dk_182 0 13 (dk_at dksX15_by_0 5 rfl rfl)
theorem dX15_by_8 : decode cX15_by 8 = .ok (.ifCond .ne 7, 3) := dk_154 0 7 (dk_at dksX15_by_0 8 rfl rfl)
theorem dX15_by_11 : decode cX15_by 11 = .ok (.iconst 1, 1) := dk_4 (dk_at dksX15_by_0 11 rfl rfl)
theorem dX15_by_12 : decode cX15_by 12 = .ok (.goto 4, 3) := dk_167 0 4 (dk_at dksX15_by_0 12 rfl rfl)
theorem dX15_by_15 : decode cX15_by 15 = .ok (.iconst 0, 1) := dk_3 (dk_at dksX15_by_0 15 rfl rfl)
theorem dX15_by_16 : decode cX15_by 16 = .ok (.ireturn, 1) := dk_172 (dk_at dksX15_by_0 16 rfl rfl)
abbrev cX15_init : ByteArray := prog_11_method_1_code
def yX15_init : MethodName := ⟨RX15, "<init>", "(LSpoonRow$Expr;)V"⟩
def dkwX15_init_0 : List UInt8 := [42, 183, 0, 1, 42, 43, 181, 0, 7, 177]
abbrev dktX15_init_0 : List UInt8 := dkwX15_init_0 ++ []
theorem dksX15_init_0 : cX15_init.data.toList.drop 0 = dktX15_init_0 := by decide +kernel
theorem dX15_init_0 : decode cX15_init 0 = .ok (.aload_n 0, 1) := dk_42 (dk_at dksX15_init_0 0 rfl rfl)
theorem dX15_init_1 : decode cX15_init 1 = .ok (.invokespecial 1, 3) := dk_183 0 1 (dk_at dksX15_init_0 1 rfl rfl)
theorem dX15_init_4 : decode cX15_init 4 = .ok (.aload_n 0, 1) := dk_42 (dk_at dksX15_init_0 4 rfl rfl)
theorem dX15_init_5 : decode cX15_init 5 = .ok (.aload_n 1, 1) := dk_43 (dk_at dksX15_init_0 5 rfl rfl)
theorem dX15_init_6 : decode cX15_init 6 = .ok (.putfield 7, 3) := dk_181 0 7 (dk_at dksX15_init_0 6 rfl rfl)
theorem dX15_init_9 : decode cX15_init 9 = .ok (.return_, 1) := dk_177 (dk_at dksX15_init_0 9 rfl rfl)
/-! SpoonRow$Sleeper: codes (from claim/names) -/
abbrev cX16_isTurned : ByteArray := prog_14_method_4_code
def yX16_isTurned : MethodName := ⟨RX16, "isTurned", "()Z"⟩
theorem dX16_isTurned_0 : decode cX16_isTurned 0 = .ok (.iconst 1, 1) := by decide +kernel
theorem dX16_isTurned_1 : decode cX16_isTurned 1 = .ok (.ireturn, 1) := by decide +kernel
abbrev cX16_isWoken : ByteArray := prog_14_method_5_code
def yX16_isWoken : MethodName := ⟨RX16, "isWoken", "()Z"⟩
theorem dX16_isWoken_0 : decode cX16_isWoken 0 = .ok (.iconst 1, 1) := by decide +kernel
theorem dX16_isWoken_1 : decode cX16_isWoken 1 = .ok (.ireturn, 1) := by decide +kernel
abbrev cX16_isSnoring : ByteArray := prog_14_method_6_code
def yX16_isSnoring : MethodName := ⟨RX16, "isSnoring", "()Z"⟩
theorem dX16_isSnoring_0 : decode cX16_isSnoring 0 = .ok (.iconst 0, 1) := by decide +kernel
theorem dX16_isSnoring_1 : decode cX16_isSnoring 1 = .ok (.ireturn, 1) := by decide +kernel
abbrev cX16_isSore : ByteArray := prog_14_method_3_code
def yX16_isSore : MethodName := ⟨RX16, "isSore", "(II)Z"⟩
def dkwX16_isSore_1 : List UInt8 := [172]
abbrev dktX16_isSore_1 : List UInt8 := dkwX16_isSore_1 ++ []
def dkwX16_isSore_0 : List UInt8 := [28, 27, 154, 0, 10, 42, 180, 0, 7, 167, 0, 7, 42, 180, 0, 13, 161, 0, 7, 4, 167, 0, 4, 3]
abbrev dktX16_isSore_0 : List UInt8 := dkwX16_isSore_0 ++ dktX16_isSore_1
theorem dksX16_isSore_0 : cX16_isSore.data.toList.drop 0 = dktX16_isSore_0 := by decide +kernel
theorem dksX16_isSore_1 : cX16_isSore.data.toList.drop 24 = dktX16_isSore_1 := dk_seg dksX16_isSore_0 24 rfl rfl
theorem dX16_isSore_0 : decode cX16_isSore 0 = .ok (.iload_n 2, 1) := dk_28 (dk_at dksX16_isSore_0 0 rfl rfl)
theorem dX16_isSore_1 : decode cX16_isSore 1 = .ok (.iload_n 1, 1) := dk_27 (dk_at dksX16_isSore_0 1 rfl rfl)
theorem dX16_isSore_2 : decode cX16_isSore 2 = .ok (.ifCond .ne 10, 3) := dk_154 0 10 (dk_at dksX16_isSore_0 2 rfl rfl)
theorem dX16_isSore_5 : decode cX16_isSore 5 = .ok (.aload_n 0, 1) := dk_42 (dk_at dksX16_isSore_0 5 rfl rfl)
theorem dX16_isSore_6 : decode cX16_isSore 6 = .ok (.getfield 7, 3) := dk_180 0 7 (dk_at dksX16_isSore_0 6 rfl rfl)
theorem dX16_isSore_9 : decode cX16_isSore 9 = .ok (.goto 7, 3) := dk_167 0 7 (dk_at dksX16_isSore_0 9 rfl rfl)
theorem dX16_isSore_12 : decode cX16_isSore 12 = .ok (.aload_n 0, 1) := dk_42 (dk_at dksX16_isSore_0 12 rfl rfl)
theorem dX16_isSore_13 : decode cX16_isSore 13 = .ok (.getfield 13, 3) := dk_180 0 13 (dk_at dksX16_isSore_0 13 rfl rfl)
theorem dX16_isSore_16 : decode cX16_isSore 16 = .ok (.if_icmp .lt 7, 3) := dk_161 0 7 (dk_at dksX16_isSore_0 16 rfl rfl)
theorem dX16_isSore_19 : decode cX16_isSore 19 = .ok (.iconst 1, 1) := dk_4 (dk_at dksX16_isSore_0 19 rfl rfl)
theorem dX16_isSore_20 : decode cX16_isSore 20 = .ok (.goto 4, 3) := dk_167 0 4 (dk_at dksX16_isSore_0 20 rfl rfl)
theorem dX16_isSore_23 : decode cX16_isSore 23 = .ok (.iconst 0, 1) := dk_3 (dk_at dksX16_isSore_0 23 rfl rfl)
theorem dX16_isSore_24 : decode cX16_isSore 24 = .ok (.ireturn, 1) := dk_172 (dk_at dksX16_isSore_1 0 rfl rfl)
abbrev cX16_init : ByteArray := prog_14_method_1_code
def yX16_init : MethodName := ⟨RX16, "<init>", "(IIIIII)V"⟩
def dkwX16_init_1 : List UInt8 := [181, 0, 19, 42, 21, 5, 181, 0, 22, 42, 21, 6, 181, 0, 25, 177]
abbrev dktX16_init_1 : List UInt8 := dkwX16_init_1 ++ []
def dkwX16_init_0 : List UInt8 := [42, 183, 0, 1, 42, 27, 181, 0, 7, 42, 28, 181, 0, 13, 42, 29, 181, 0, 16, 42, 21, 4]
abbrev dktX16_init_0 : List UInt8 := dkwX16_init_0 ++ dktX16_init_1
theorem dksX16_init_0 : cX16_init.data.toList.drop 0 = dktX16_init_0 := by decide +kernel
theorem dksX16_init_1 : cX16_init.data.toList.drop 22 = dktX16_init_1 := dk_seg dksX16_init_0 22 rfl rfl
theorem dX16_init_0 : decode cX16_init 0 = .ok (.aload_n 0, 1) := dk_42 (dk_at dksX16_init_0 0 rfl rfl)
theorem dX16_init_1 : decode cX16_init 1 = .ok (.invokespecial 1, 3) := dk_183 0 1 (dk_at dksX16_init_0 1 rfl rfl)
theorem dX16_init_4 : decode cX16_init 4 = .ok (.aload_n 0, 1) := dk_42 (dk_at dksX16_init_0 4 rfl rfl)
theorem dX16_init_5 : decode cX16_init 5 = .ok (.iload_n 1, 1) := dk_27 (dk_at dksX16_init_0 5 rfl rfl)
theorem dX16_init_6 : decode cX16_init 6 = .ok (.putfield 7, 3) := dk_181 0 7 (dk_at dksX16_init_0 6 rfl rfl)
theorem dX16_init_9 : decode cX16_init 9 = .ok (.aload_n 0, 1) := dk_42 (dk_at dksX16_init_0 9 rfl rfl)
theorem dX16_init_10 : decode cX16_init 10 = .ok (.iload_n 2, 1) := dk_28 (dk_at dksX16_init_0 10 rfl rfl)
theorem dX16_init_11 : decode cX16_init 11 = .ok (.putfield 13, 3) := dk_181 0 13 (dk_at dksX16_init_0 11 rfl rfl)
theorem dX16_init_14 : decode cX16_init 14 = .ok (.aload_n 0, 1) := dk_42 (dk_at dksX16_init_0 14 rfl rfl)
theorem dX16_init_15 : decode cX16_init 15 = .ok (.iload_n 3, 1) := dk_29 (dk_at dksX16_init_0 15 rfl rfl)
theorem dX16_init_16 : decode cX16_init 16 = .ok (.putfield 16, 3) := dk_181 0 16 (dk_at dksX16_init_0 16 rfl rfl)
theorem dX16_init_19 : decode cX16_init 19 = .ok (.aload_n 0, 1) := dk_42 (dk_at dksX16_init_0 19 rfl rfl)
theorem dX16_init_20 : decode cX16_init 20 = .ok (.iload 4, 2) := dk_21 4 (dk_at dksX16_init_0 20 rfl rfl)
theorem dX16_init_22 : decode cX16_init 22 = .ok (.putfield 19, 3) := dk_181 0 19 (dk_at dksX16_init_1 0 rfl rfl)
theorem dX16_init_25 : decode cX16_init 25 = .ok (.aload_n 0, 1) := dk_42 (dk_at dksX16_init_1 3 rfl rfl)
theorem dX16_init_26 : decode cX16_init 26 = .ok (.iload 5, 2) := dk_21 5 (dk_at dksX16_init_1 4 rfl rfl)
theorem dX16_init_28 : decode cX16_init 28 = .ok (.putfield 22, 3) := dk_181 0 22 (dk_at dksX16_init_1 6 rfl rfl)
theorem dX16_init_31 : decode cX16_init 31 = .ok (.aload_n 0, 1) := dk_42 (dk_at dksX16_init_1 9 rfl rfl)
theorem dX16_init_32 : decode cX16_init 32 = .ok (.iload 6, 2) := dk_21 6 (dk_at dksX16_init_1 10 rfl rfl)
theorem dX16_init_34 : decode cX16_init 34 = .ok (.putfield 25, 3) := dk_181 0 25 (dk_at dksX16_init_1 12 rfl rfl)
theorem dX16_init_37 : decode cX16_init 37 = .ok (.return_, 1) := dk_177 (dk_at dksX16_init_1 15 rfl rfl)
abbrev cX16_kind : ByteArray := prog_14_method_2_code
def yX16_kind : MethodName := ⟨RX16, "kind", "()I"⟩
theorem dX16_kind_0 : decode cX16_kind 0 = .ok (.iconst 0, 1) := by decide +kernel
theorem dX16_kind_1 : decode cX16_kind 1 = .ok (.ireturn, 1) := by decide +kernel
/-! SpoonRow$Child: codes (from claim/names) -/
abbrev cX17_isWoken : ByteArray := prog_5_method_3_code
def yX17_isWoken : MethodName := ⟨RX17, "isWoken", "()Z"⟩
def dkwX17_isWoken_0 : List UInt8 := [42, 183, 0, 7, 154, 0, 7, 4, 167, 0, 4, 3, 172]
abbrev dktX17_isWoken_0 : List UInt8 := dkwX17_isWoken_0 ++ []
theorem dksX17_isWoken_0 : cX17_isWoken.data.toList.drop 0 = dktX17_isWoken_0 := by decide +kernel
theorem dX17_isWoken_0 : decode cX17_isWoken 0 = .ok (.aload_n 0, 1) := dk_42 (dk_at dksX17_isWoken_0 0 rfl rfl)
theorem dX17_isWoken_1 : decode cX17_isWoken 1 = .ok (.invokespecial 7, 3) := dk_183 0 7 (dk_at dksX17_isWoken_0 1 rfl rfl)
theorem dX17_isWoken_4 : decode cX17_isWoken 4 = .ok (.ifCond .ne 7, 3) := dk_154 0 7 (dk_at dksX17_isWoken_0 4 rfl rfl)
theorem dX17_isWoken_7 : decode cX17_isWoken 7 = .ok (.iconst 1, 1) := dk_4 (dk_at dksX17_isWoken_0 7 rfl rfl)
theorem dX17_isWoken_8 : decode cX17_isWoken 8 = .ok (.goto 4, 3) := dk_167 0 4 (dk_at dksX17_isWoken_0 8 rfl rfl)
theorem dX17_isWoken_11 : decode cX17_isWoken 11 = .ok (.iconst 0, 1) := dk_3 (dk_at dksX17_isWoken_0 11 rfl rfl)
theorem dX17_isWoken_12 : decode cX17_isWoken 12 = .ok (.ireturn, 1) := dk_172 (dk_at dksX17_isWoken_0 12 rfl rfl)
abbrev cX17_init : ByteArray := prog_5_method_1_code
def yX17_init : MethodName := ⟨RX17, "<init>", "(IIIIII)V"⟩
def dkwX17_init_0 : List UInt8 := [42, 27, 28, 29, 21, 4, 21, 5, 21, 6, 183, 0, 1, 177]
abbrev dktX17_init_0 : List UInt8 := dkwX17_init_0 ++ []
theorem dksX17_init_0 : cX17_init.data.toList.drop 0 = dktX17_init_0 := by decide +kernel
theorem dX17_init_0 : decode cX17_init 0 = .ok (.aload_n 0, 1) := dk_42 (dk_at dksX17_init_0 0 rfl rfl)
theorem dX17_init_1 : decode cX17_init 1 = .ok (.iload_n 1, 1) := dk_27 (dk_at dksX17_init_0 1 rfl rfl)
theorem dX17_init_2 : decode cX17_init 2 = .ok (.iload_n 2, 1) := dk_28 (dk_at dksX17_init_0 2 rfl rfl)
theorem dX17_init_3 : decode cX17_init 3 = .ok (.iload_n 3, 1) := dk_29 (dk_at dksX17_init_0 3 rfl rfl)
theorem dX17_init_4 : decode cX17_init 4 = .ok (.iload 4, 2) := dk_21 4 (dk_at dksX17_init_0 4 rfl rfl)
theorem dX17_init_6 : decode cX17_init 6 = .ok (.iload 5, 2) := dk_21 5 (dk_at dksX17_init_0 6 rfl rfl)
theorem dX17_init_8 : decode cX17_init 8 = .ok (.iload 6, 2) := dk_21 6 (dk_at dksX17_init_0 8 rfl rfl)
theorem dX17_init_10 : decode cX17_init 10 = .ok (.invokespecial 1, 3) := dk_183 0 1 (dk_at dksX17_init_0 10 rfl rfl)
theorem dX17_init_13 : decode cX17_init 13 = .ok (.return_, 1) := dk_177 (dk_at dksX17_init_0 13 rfl rfl)
abbrev cX17_kind : ByteArray := prog_5_method_2_code
def yX17_kind : MethodName := ⟨RX17, "kind", "()I"⟩
theorem dX17_kind_0 : decode cX17_kind 0 = .ok (.iconst 1, 1) := by decide +kernel
theorem dX17_kind_1 : decode cX17_kind 1 = .ok (.ireturn, 1) := by decide +kernel
/-! SpoonRow$Dog: codes (from claim/names) -/
abbrev cX18_isTurned : ByteArray := prog_6_method_4_code
def yX18_isTurned : MethodName := ⟨RX18, "isTurned", "()Z"⟩
def dkwX18_isTurned_0 : List UInt8 := [42, 183, 0, 21, 154, 0, 7, 4, 167, 0, 4, 3, 172]
abbrev dktX18_isTurned_0 : List UInt8 := dkwX18_isTurned_0 ++ []
theorem dksX18_isTurned_0 : cX18_isTurned.data.toList.drop 0 = dktX18_isTurned_0 := by decide +kernel
theorem dX18_isTurned_0 : decode cX18_isTurned 0 = .ok (.aload_n 0, 1) := dk_42 (dk_at dksX18_isTurned_0 0 rfl rfl)
theorem dX18_isTurned_1 : decode cX18_isTurned 1 = .ok (.invokespecial 21, 3) := dk_183 0 21 (dk_at dksX18_isTurned_0 1 rfl rfl)
theorem dX18_isTurned_4 : decode cX18_isTurned 4 = .ok (.ifCond .ne 7, 3) := dk_154 0 7 (dk_at dksX18_isTurned_0 4 rfl rfl)
theorem dX18_isTurned_7 : decode cX18_isTurned 7 = .ok (.iconst 1, 1) := dk_4 (dk_at dksX18_isTurned_0 7 rfl rfl)
theorem dX18_isTurned_8 : decode cX18_isTurned 8 = .ok (.goto 4, 3) := dk_167 0 4 (dk_at dksX18_isTurned_0 8 rfl rfl)
theorem dX18_isTurned_11 : decode cX18_isTurned 11 = .ok (.iconst 0, 1) := dk_3 (dk_at dksX18_isTurned_0 11 rfl rfl)
theorem dX18_isTurned_12 : decode cX18_isTurned 12 = .ok (.ireturn, 1) := dk_172 (dk_at dksX18_isTurned_0 12 rfl rfl)
abbrev cX18_isSore : ByteArray := prog_6_method_3_code
def yX18_isSore : MethodName := ⟨RX18, "isSore", "(II)Z"⟩
def dkwX18_isSore_0 : List UInt8 := [42, 182, 0, 11, 153, 0, 16, 42, 27, 28, 183, 0, 17, 153, 0, 7, 4, 167, 0, 4, 3, 172]
abbrev dktX18_isSore_0 : List UInt8 := dkwX18_isSore_0 ++ []
theorem dksX18_isSore_0 : cX18_isSore.data.toList.drop 0 = dktX18_isSore_0 := by decide +kernel
theorem dX18_isSore_0 : decode cX18_isSore 0 = .ok (.aload_n 0, 1) := dk_42 (dk_at dksX18_isSore_0 0 rfl rfl)
theorem dX18_isSore_1 : decode cX18_isSore 1 = .ok (.invokevirtual 11, 3) := dk_182 0 11 (dk_at dksX18_isSore_0 1 rfl rfl)
theorem dX18_isSore_4 : decode cX18_isSore 4 = .ok (.ifCond .eq 16, 3) := dk_153 0 16 (dk_at dksX18_isSore_0 4 rfl rfl)
theorem dX18_isSore_7 : decode cX18_isSore 7 = .ok (.aload_n 0, 1) := dk_42 (dk_at dksX18_isSore_0 7 rfl rfl)
theorem dX18_isSore_8 : decode cX18_isSore 8 = .ok (.iload_n 1, 1) := dk_27 (dk_at dksX18_isSore_0 8 rfl rfl)
theorem dX18_isSore_9 : decode cX18_isSore 9 = .ok (.iload_n 2, 1) := dk_28 (dk_at dksX18_isSore_0 9 rfl rfl)
theorem dX18_isSore_10 : decode cX18_isSore 10 = .ok (.invokespecial 17, 3) := dk_183 0 17 (dk_at dksX18_isSore_0 10 rfl rfl)
theorem dX18_isSore_13 : decode cX18_isSore 13 = .ok (.ifCond .eq 7, 3) := dk_153 0 7 (dk_at dksX18_isSore_0 13 rfl rfl)
theorem dX18_isSore_16 : decode cX18_isSore 16 = .ok (.iconst 1, 1) := dk_4 (dk_at dksX18_isSore_0 16 rfl rfl)
theorem dX18_isSore_17 : decode cX18_isSore 17 = .ok (.goto 4, 3) := dk_167 0 4 (dk_at dksX18_isSore_0 17 rfl rfl)
theorem dX18_isSore_20 : decode cX18_isSore 20 = .ok (.iconst 0, 1) := dk_3 (dk_at dksX18_isSore_0 20 rfl rfl)
theorem dX18_isSore_21 : decode cX18_isSore 21 = .ok (.ireturn, 1) := dk_172 (dk_at dksX18_isSore_0 21 rfl rfl)
abbrev cX18_init : ByteArray := prog_6_method_1_code
def yX18_init : MethodName := ⟨RX18, "<init>", "(I)V"⟩
def dkwX18_init_0 : List UInt8 := [42, 3, 3, 3, 27, 3, 3, 183, 0, 1, 177]
abbrev dktX18_init_0 : List UInt8 := dkwX18_init_0 ++ []
theorem dksX18_init_0 : cX18_init.data.toList.drop 0 = dktX18_init_0 := by decide +kernel
theorem dX18_init_0 : decode cX18_init 0 = .ok (.aload_n 0, 1) := dk_42 (dk_at dksX18_init_0 0 rfl rfl)
theorem dX18_init_1 : decode cX18_init 1 = .ok (.iconst 0, 1) := dk_3 (dk_at dksX18_init_0 1 rfl rfl)
theorem dX18_init_2 : decode cX18_init 2 = .ok (.iconst 0, 1) := dk_3 (dk_at dksX18_init_0 2 rfl rfl)
theorem dX18_init_3 : decode cX18_init 3 = .ok (.iconst 0, 1) := dk_3 (dk_at dksX18_init_0 3 rfl rfl)
theorem dX18_init_4 : decode cX18_init 4 = .ok (.iload_n 1, 1) := dk_27 (dk_at dksX18_init_0 4 rfl rfl)
theorem dX18_init_5 : decode cX18_init 5 = .ok (.iconst 0, 1) := dk_3 (dk_at dksX18_init_0 5 rfl rfl)
theorem dX18_init_6 : decode cX18_init 6 = .ok (.iconst 0, 1) := dk_3 (dk_at dksX18_init_0 6 rfl rfl)
theorem dX18_init_7 : decode cX18_init 7 = .ok (.invokespecial 1, 3) := dk_183 0 1 (dk_at dksX18_init_0 7 rfl rfl)
theorem dX18_init_10 : decode cX18_init 10 = .ok (.return_, 1) := dk_177 (dk_at dksX18_init_0 10 rfl rfl)
abbrev cX18_kind : ByteArray := prog_6_method_2_code
def yX18_kind : MethodName := ⟨RX18, "kind", "()I"⟩
def dkwX18_kind_0 : List UInt8 := [42, 183, 0, 7, 5, 96, 172]
abbrev dktX18_kind_0 : List UInt8 := dkwX18_kind_0 ++ []
theorem dksX18_kind_0 : cX18_kind.data.toList.drop 0 = dktX18_kind_0 := by decide +kernel
theorem dX18_kind_0 : decode cX18_kind 0 = .ok (.aload_n 0, 1) := dk_42 (dk_at dksX18_kind_0 0 rfl rfl)
theorem dX18_kind_1 : decode cX18_kind 1 = .ok (.invokespecial 7, 3) := dk_183 0 7 (dk_at dksX18_kind_0 1 rfl rfl)
theorem dX18_kind_4 : decode cX18_kind 4 = .ok (.iconst 2, 1) := dk_5 (dk_at dksX18_kind_0 4 rfl rfl)
theorem dX18_kind_5 : decode cX18_kind 5 = .ok (.iadd, 1) := dk_96 (dk_at dksX18_kind_0 5 rfl rfl)
theorem dX18_kind_6 : decode cX18_kind 6 = .ok (.ireturn, 1) := dk_172 (dk_at dksX18_kind_0 6 rfl rfl)
/-! SpoonRow$Snorer: codes (from claim/names) -/
abbrev cX19_isSnoring : ByteArray := prog_15_method_3_code
def yX19_isSnoring : MethodName := ⟨RX19, "isSnoring", "()Z"⟩
def dkwX19_isSnoring_0 : List UInt8 := [42, 183, 0, 7, 154, 0, 7, 4, 167, 0, 4, 3, 172]
abbrev dktX19_isSnoring_0 : List UInt8 := dkwX19_isSnoring_0 ++ []
theorem dksX19_isSnoring_0 : cX19_isSnoring.data.toList.drop 0 = dktX19_isSnoring_0 := by decide +kernel
theorem dX19_isSnoring_0 : decode cX19_isSnoring 0 = .ok (.aload_n 0, 1) := dk_42 (dk_at dksX19_isSnoring_0 0 rfl rfl)
theorem dX19_isSnoring_1 : decode cX19_isSnoring 1 = .ok (.invokespecial 7, 3) := dk_183 0 7 (dk_at dksX19_isSnoring_0 1 rfl rfl)
theorem dX19_isSnoring_4 : decode cX19_isSnoring 4 = .ok (.ifCond .ne 7, 3) := dk_154 0 7 (dk_at dksX19_isSnoring_0 4 rfl rfl)
theorem dX19_isSnoring_7 : decode cX19_isSnoring 7 = .ok (.iconst 1, 1) := dk_4 (dk_at dksX19_isSnoring_0 7 rfl rfl)
theorem dX19_isSnoring_8 : decode cX19_isSnoring 8 = .ok (.goto 4, 3) := dk_167 0 4 (dk_at dksX19_isSnoring_0 8 rfl rfl)
theorem dX19_isSnoring_11 : decode cX19_isSnoring 11 = .ok (.iconst 0, 1) := dk_3 (dk_at dksX19_isSnoring_0 11 rfl rfl)
theorem dX19_isSnoring_12 : decode cX19_isSnoring 12 = .ok (.ireturn, 1) := dk_172 (dk_at dksX19_isSnoring_0 12 rfl rfl)
abbrev cX19_init : ByteArray := prog_15_method_1_code
def yX19_init : MethodName := ⟨RX19, "<init>", "(IIIIII)V"⟩
def dkwX19_init_0 : List UInt8 := [42, 27, 28, 29, 21, 4, 21, 5, 21, 6, 183, 0, 1, 177]
abbrev dktX19_init_0 : List UInt8 := dkwX19_init_0 ++ []
theorem dksX19_init_0 : cX19_init.data.toList.drop 0 = dktX19_init_0 := by decide +kernel
theorem dX19_init_0 : decode cX19_init 0 = .ok (.aload_n 0, 1) := dk_42 (dk_at dksX19_init_0 0 rfl rfl)
theorem dX19_init_1 : decode cX19_init 1 = .ok (.iload_n 1, 1) := dk_27 (dk_at dksX19_init_0 1 rfl rfl)
theorem dX19_init_2 : decode cX19_init 2 = .ok (.iload_n 2, 1) := dk_28 (dk_at dksX19_init_0 2 rfl rfl)
theorem dX19_init_3 : decode cX19_init 3 = .ok (.iload_n 3, 1) := dk_29 (dk_at dksX19_init_0 3 rfl rfl)
theorem dX19_init_4 : decode cX19_init 4 = .ok (.iload 4, 2) := dk_21 4 (dk_at dksX19_init_0 4 rfl rfl)
theorem dX19_init_6 : decode cX19_init 6 = .ok (.iload 5, 2) := dk_21 5 (dk_at dksX19_init_0 6 rfl rfl)
theorem dX19_init_8 : decode cX19_init 8 = .ok (.iload 6, 2) := dk_21 6 (dk_at dksX19_init_0 8 rfl rfl)
theorem dX19_init_10 : decode cX19_init 10 = .ok (.invokespecial 1, 3) := dk_183 0 1 (dk_at dksX19_init_0 10 rfl rfl)
theorem dX19_init_13 : decode cX19_init 13 = .ok (.return_, 1) := dk_177 (dk_at dksX19_init_0 13 rfl rfl)
abbrev cX19_kind : ByteArray := prog_15_method_2_code
def yX19_kind : MethodName := ⟨RX19, "kind", "()I"⟩
theorem dX19_kind_0 : decode cX19_kind 0 = .ok (.iconst 2, 1) := by decide +kernel
theorem dX19_kind_1 : decode cX19_kind 1 = .ok (.ireturn, 1) := by decide +kernel
/-! SpoonRow$Bed: codes (from claim/names) -/
abbrev cX2_init : ByteArray := prog_2_method_1_code
def yX2_init : MethodName := ⟨RX2, "<init>", "()V"⟩
def dkwX2_init_2 : List UInt8 := [181, 0, 33, 42, 187, 0, 37, 89, 183, 0, 39, 181, 0, 40, 177]
abbrev dktX2_init_2 : List UInt8 := dkwX2_init_2 ++ []
def dkwX2_init_1 : List UInt8 := [16, 15, 181, 0, 21, 42, 187, 0, 24, 89, 4, 183, 0, 26, 181, 0, 29, 42, 16, 7, 188, 10]
abbrev dktX2_init_1 : List UInt8 := dkwX2_init_1 ++ dktX2_init_2
def dkwX2_init_0 : List UInt8 := [42, 183, 0, 3, 42, 16, 20, 181, 0, 9, 42, 6, 181, 0, 15, 42, 17, 1, 224, 181, 0, 18, 42]
abbrev dktX2_init_0 : List UInt8 := dkwX2_init_0 ++ dktX2_init_1
theorem dksX2_init_0 : cX2_init.data.toList.drop 0 = dktX2_init_0 := by decide +kernel
theorem dksX2_init_1 : cX2_init.data.toList.drop 23 = dktX2_init_1 := dk_seg dksX2_init_0 23 rfl rfl
theorem dksX2_init_2 : cX2_init.data.toList.drop 45 = dktX2_init_2 := dk_seg dksX2_init_1 22 rfl rfl
theorem dX2_init_0 : decode cX2_init 0 = .ok (.aload_n 0, 1) := dk_42 (dk_at dksX2_init_0 0 rfl rfl)
theorem dX2_init_1 : decode cX2_init 1 = .ok (.invokespecial 3, 3) := dk_183 0 3 (dk_at dksX2_init_0 1 rfl rfl)
theorem dX2_init_4 : decode cX2_init 4 = .ok (.aload_n 0, 1) := dk_42 (dk_at dksX2_init_0 4 rfl rfl)
theorem dX2_init_5 : decode cX2_init 5 = .ok (.bipush 20, 2) := dk_16 20 (dk_at dksX2_init_0 5 rfl rfl)
theorem dX2_init_7 : decode cX2_init 7 = .ok (.putfield 9, 3) := dk_181 0 9 (dk_at dksX2_init_0 7 rfl rfl)
theorem dX2_init_10 : decode cX2_init 10 = .ok (.aload_n 0, 1) := dk_42 (dk_at dksX2_init_0 10 rfl rfl)
theorem dX2_init_11 : decode cX2_init 11 = .ok (.iconst 3, 1) := dk_6 (dk_at dksX2_init_0 11 rfl rfl)
theorem dX2_init_12 : decode cX2_init 12 = .ok (.putfield 15, 3) := dk_181 0 15 (dk_at dksX2_init_0 12 rfl rfl)
theorem dX2_init_15 : decode cX2_init 15 = .ok (.aload_n 0, 1) := dk_42 (dk_at dksX2_init_0 15 rfl rfl)
theorem dX2_init_16 : decode cX2_init 16 = .ok (.sipush 480, 3) := dk_17 1 224 (dk_at dksX2_init_0 16 rfl rfl)
theorem dX2_init_19 : decode cX2_init 19 = .ok (.putfield 18, 3) := dk_181 0 18 (dk_at dksX2_init_0 19 rfl rfl)
theorem dX2_init_22 : decode cX2_init 22 = .ok (.aload_n 0, 1) := dk_42 (dk_at dksX2_init_0 22 rfl rfl)
theorem dX2_init_23 : decode cX2_init 23 = .ok (.bipush 15, 2) := dk_16 15 (dk_at dksX2_init_1 0 rfl rfl)
theorem dX2_init_25 : decode cX2_init 25 = .ok (.putfield 21, 3) := dk_181 0 21 (dk_at dksX2_init_1 2 rfl rfl)
theorem dX2_init_28 : decode cX2_init 28 = .ok (.aload_n 0, 1) := dk_42 (dk_at dksX2_init_1 5 rfl rfl)
theorem dX2_init_29 : decode cX2_init 29 = .ok (.new 24, 3) := dk_187 0 24 (dk_at dksX2_init_1 6 rfl rfl)
theorem dX2_init_32 : decode cX2_init 32 = .ok (.dup, 1) := dk_89 (dk_at dksX2_init_1 9 rfl rfl)
theorem dX2_init_33 : decode cX2_init 33 = .ok (.iconst 1, 1) := dk_4 (dk_at dksX2_init_1 10 rfl rfl)
theorem dX2_init_34 : decode cX2_init 34 = .ok (.invokespecial 26, 3) := dk_183 0 26 (dk_at dksX2_init_1 11 rfl rfl)
theorem dX2_init_37 : decode cX2_init 37 = .ok (.putfield 29, 3) := dk_181 0 29 (dk_at dksX2_init_1 14 rfl rfl)
theorem dX2_init_40 : decode cX2_init 40 = .ok (.aload_n 0, 1) := dk_42 (dk_at dksX2_init_1 17 rfl rfl)
theorem dX2_init_41 : decode cX2_init 41 = .ok (.bipush 7, 2) := dk_16 7 (dk_at dksX2_init_1 18 rfl rfl)
theorem dX2_init_43 : decode cX2_init 43 = .ok (.newarray .int, 2) := dk_188_10 (dk_at dksX2_init_1 20 rfl rfl)
theorem dX2_init_45 : decode cX2_init 45 = .ok (.putfield 33, 3) := dk_181 0 33 (dk_at dksX2_init_2 0 rfl rfl)
theorem dX2_init_48 : decode cX2_init 48 = .ok (.aload_n 0, 1) := dk_42 (dk_at dksX2_init_2 3 rfl rfl)
theorem dX2_init_49 : decode cX2_init 49 = .ok (.new 37, 3) := dk_187 0 37 (dk_at dksX2_init_2 4 rfl rfl)
theorem dX2_init_52 : decode cX2_init 52 = .ok (.dup, 1) := dk_89 (dk_at dksX2_init_2 7 rfl rfl)
theorem dX2_init_53 : decode cX2_init 53 = .ok (.invokespecial 39, 3) := dk_183 0 39 (dk_at dksX2_init_2 8 rfl rfl)
theorem dX2_init_56 : decode cX2_init 56 = .ok (.putfield 40, 3) := dk_181 0 40 (dk_at dksX2_init_2 11 rfl rfl)
theorem dX2_init_59 : decode cX2_init 59 = .ok (.return_, 1) := dk_177 (dk_at dksX2_init_2 14 rfl rfl)
abbrev cX2_isFree : ByteArray := prog_2_method_2_code
def yX2_isFree : MethodName := ⟨RX2, "isFree", "(I)Z"⟩
def dkwX2_isFree_2 : List UInt8 := [180, 0, 9, 28, 161, 0, 7, 4, 167, 0, 4, 3, 172]
abbrev dktX2_isFree_2 : List UInt8 := dkwX2_isFree_2 ++ []
def dkwX2_isFree_1 : List UInt8 := [42, 180, 0, 29, 29, 182, 0, 48, 192, 0, 52, 180, 0, 54, 96, 61, 132, 3, 1, 167, 255, 220, 42]
abbrev dktX2_isFree_1 : List UInt8 := dkwX2_isFree_1 ++ dktX2_isFree_2
def dkwX2_isFree_0 : List UInt8 := [42, 180, 0, 15, 61, 3, 62, 29, 42, 180, 0, 29, 182, 0, 44, 162, 0, 31, 29, 27, 159, 0, 20, 28]
abbrev dktX2_isFree_0 : List UInt8 := dkwX2_isFree_0 ++ dktX2_isFree_1
theorem dksX2_isFree_0 : cX2_isFree.data.toList.drop 0 = dktX2_isFree_0 := by decide +kernel
theorem dksX2_isFree_1 : cX2_isFree.data.toList.drop 24 = dktX2_isFree_1 := dk_seg dksX2_isFree_0 24 rfl rfl
theorem dksX2_isFree_2 : cX2_isFree.data.toList.drop 47 = dktX2_isFree_2 := dk_seg dksX2_isFree_1 23 rfl rfl
theorem dX2_isFree_0 : decode cX2_isFree 0 = .ok (.aload_n 0, 1) := dk_42 (dk_at dksX2_isFree_0 0 rfl rfl)
theorem dX2_isFree_1 : decode cX2_isFree 1 = .ok (.getfield 15, 3) := dk_180 0 15 (dk_at dksX2_isFree_0 1 rfl rfl)
theorem dX2_isFree_4 : decode cX2_isFree 4 = .ok (.istore_n 2, 1) := dk_61 (dk_at dksX2_isFree_0 4 rfl rfl)
theorem dX2_isFree_5 : decode cX2_isFree 5 = .ok (.iconst 0, 1) := dk_3 (dk_at dksX2_isFree_0 5 rfl rfl)
theorem dX2_isFree_6 : decode cX2_isFree 6 = .ok (.istore_n 3, 1) := dk_62 (dk_at dksX2_isFree_0 6 rfl rfl)
theorem dX2_isFree_7 : decode cX2_isFree 7 = .ok (.iload_n 3, 1) := dk_29 (dk_at dksX2_isFree_0 7 rfl rfl)
theorem dX2_isFree_8 : decode cX2_isFree 8 = .ok (.aload_n 0, 1) := dk_42 (dk_at dksX2_isFree_0 8 rfl rfl)
theorem dX2_isFree_9 : decode cX2_isFree 9 = .ok (.getfield 29, 3) := dk_180 0 29 (dk_at dksX2_isFree_0 9 rfl rfl)
theorem dX2_isFree_12 : decode cX2_isFree 12 = .ok (.invokevirtual 44, 3) := dk_182 0 44 (dk_at dksX2_isFree_0 12 rfl rfl)
theorem dX2_isFree_15 : decode cX2_isFree 15 = .ok (.if_icmp .ge 31, 3) := dk_162 0 31 (dk_at dksX2_isFree_0 15 rfl rfl)
theorem dX2_isFree_18 : decode cX2_isFree 18 = .ok (.iload_n 3, 1) := dk_29 (dk_at dksX2_isFree_0 18 rfl rfl)
theorem dX2_isFree_19 : decode cX2_isFree 19 = .ok (.iload_n 1, 1) := dk_27 (dk_at dksX2_isFree_0 19 rfl rfl)
theorem dX2_isFree_20 : decode cX2_isFree 20 = .ok (.if_icmp .eq 20, 3) := dk_159 0 20 (dk_at dksX2_isFree_0 20 rfl rfl)
theorem dX2_isFree_23 : decode cX2_isFree 23 = .ok (.iload_n 2, 1) := dk_28 (dk_at dksX2_isFree_0 23 rfl rfl)
theorem dX2_isFree_24 : decode cX2_isFree 24 = .ok (.aload_n 0, 1) := dk_42 (dk_at dksX2_isFree_1 0 rfl rfl)
theorem dX2_isFree_25 : decode cX2_isFree 25 = .ok (.getfield 29, 3) := dk_180 0 29 (dk_at dksX2_isFree_1 1 rfl rfl)
theorem dX2_isFree_28 : decode cX2_isFree 28 = .ok (.iload_n 3, 1) := dk_29 (dk_at dksX2_isFree_1 4 rfl rfl)
theorem dX2_isFree_29 : decode cX2_isFree 29 = .ok (.invokevirtual 48, 3) := dk_182 0 48 (dk_at dksX2_isFree_1 5 rfl rfl)
theorem dX2_isFree_32 : decode cX2_isFree 32 = .ok (.checkcast 52, 3) := dk_192 0 52 (dk_at dksX2_isFree_1 8 rfl rfl)
theorem dX2_isFree_35 : decode cX2_isFree 35 = .ok (.getfield 54, 3) := dk_180 0 54 (dk_at dksX2_isFree_1 11 rfl rfl)
theorem dX2_isFree_38 : decode cX2_isFree 38 = .ok (.iadd, 1) := dk_96 (dk_at dksX2_isFree_1 14 rfl rfl)
theorem dX2_isFree_39 : decode cX2_isFree 39 = .ok (.istore_n 2, 1) := dk_61 (dk_at dksX2_isFree_1 15 rfl rfl)
theorem dX2_isFree_40 : decode cX2_isFree 40 = .ok (.iinc 3 1, 3) := dk_132 3 1 (dk_at dksX2_isFree_1 16 rfl rfl)
theorem dX2_isFree_43 : decode cX2_isFree 43 = .ok (.goto (-36), 3) := dk_167 255 220 (dk_at dksX2_isFree_1 19 rfl rfl)
theorem dX2_isFree_46 : decode cX2_isFree 46 = .ok (.aload_n 0, 1) := dk_42 (dk_at dksX2_isFree_1 22 rfl rfl)
theorem dX2_isFree_47 : decode cX2_isFree 47 = .ok (.getfield 9, 3) := dk_180 0 9 (dk_at dksX2_isFree_2 0 rfl rfl)
theorem dX2_isFree_50 : decode cX2_isFree 50 = .ok (.iload_n 2, 1) := dk_28 (dk_at dksX2_isFree_2 3 rfl rfl)
theorem dX2_isFree_51 : decode cX2_isFree 51 = .ok (.if_icmp .lt 7, 3) := dk_161 0 7 (dk_at dksX2_isFree_2 4 rfl rfl)
theorem dX2_isFree_54 : decode cX2_isFree 54 = .ok (.iconst 1, 1) := dk_4 (dk_at dksX2_isFree_2 7 rfl rfl)
theorem dX2_isFree_55 : decode cX2_isFree 55 = .ok (.goto 4, 3) := dk_167 0 4 (dk_at dksX2_isFree_2 8 rfl rfl)
theorem dX2_isFree_58 : decode cX2_isFree 58 = .ok (.iconst 0, 1) := dk_3 (dk_at dksX2_isFree_2 11 rfl rfl)
theorem dX2_isFree_59 : decode cX2_isFree 59 = .ok (.ireturn, 1) := dk_172 (dk_at dksX2_isFree_2 12 rfl rfl)
/-! SpoonRow$View: codes (from claim/names) -/
abbrev cX3_init : ByteArray := prog_19_method_1_code
def yX3_init : MethodName := ⟨RX3, "<init>", "()V"⟩
def dkwX3_init_0 : List UInt8 := [42, 183, 0, 1, 42, 184, 0, 7, 190, 188, 10, 181, 0, 13, 177]
abbrev dktX3_init_0 : List UInt8 := dkwX3_init_0 ++ []
theorem dksX3_init_0 : cX3_init.data.toList.drop 0 = dktX3_init_0 := by decide +kernel
theorem dX3_init_0 : decode cX3_init 0 = .ok (.aload_n 0, 1) := dk_42 (dk_at dksX3_init_0 0 rfl rfl)
theorem dX3_init_1 : decode cX3_init 1 = .ok (.invokespecial 1, 3) := dk_183 0 1 (dk_at dksX3_init_0 1 rfl rfl)
theorem dX3_init_4 : decode cX3_init 4 = .ok (.aload_n 0, 1) := dk_42 (dk_at dksX3_init_0 4 rfl rfl)
theorem dX3_init_5 : decode cX3_init 5 = .ok (.invokestatic 7, 3) := dk_184 0 7 (dk_at dksX3_init_0 5 rfl rfl)
theorem dX3_init_8 : decode cX3_init 8 = .ok (.arraylength, 1) := dk_190 (dk_at dksX3_init_0 8 rfl rfl)
theorem dX3_init_9 : decode cX3_init 9 = .ok (.newarray .int, 2) := dk_188_10 (dk_at dksX3_init_0 9 rfl rfl)
theorem dX3_init_11 : decode cX3_init 11 = .ok (.putfield 13, 3) := dk_181 0 13 (dk_at dksX3_init_0 11 rfl rfl)
theorem dX3_init_14 : decode cX3_init 14 = .ok (.return_, 1) := dk_177 (dk_at dksX3_init_0 14 rfl rfl)
abbrev cX3_sees : ByteArray := prog_19_method_2_code
def yX3_sees : MethodName := ⟨RX3, "sees", "(LSpoonRow$Value;I)V"⟩
def dkwX3_sees_0 : List UInt8 := [42, 180, 0, 13, 43, 182, 0, 19, 28, 79, 177]
abbrev dktX3_sees_0 : List UInt8 := dkwX3_sees_0 ++ []
theorem dksX3_sees_0 : cX3_sees.data.toList.drop 0 = dktX3_sees_0 := by decide +kernel
theorem dX3_sees_0 : decode cX3_sees 0 = .ok (.aload_n 0, 1) := dk_42 (dk_at dksX3_sees_0 0 rfl rfl)
theorem dX3_sees_1 : decode cX3_sees 1 = .ok (.getfield 13, 3) := dk_180 0 13 (dk_at dksX3_sees_0 1 rfl rfl)
theorem dX3_sees_4 : decode cX3_sees 4 = .ok (.aload_n 1, 1) := dk_43 (dk_at dksX3_sees_0 4 rfl rfl)
theorem dX3_sees_5 : decode cX3_sees 5 = .ok (.invokevirtual 19, 3) := dk_182 0 19 (dk_at dksX3_sees_0 5 rfl rfl)
theorem dX3_sees_8 : decode cX3_sees 8 = .ok (.iload_n 2, 1) := dk_28 (dk_at dksX3_sees_0 8 rfl rfl)
theorem dX3_sees_9 : decode cX3_sees 9 = .ok (.iastore, 1) := dk_79 (dk_at dksX3_sees_0 9 rfl rfl)
theorem dX3_sees_10 : decode cX3_sees 10 = .ok (.return_, 1) := dk_177 (dk_at dksX3_sees_0 10 rfl rfl)
/-! SpoonRow$Value: codes (from claim/names) -/
abbrev cX4_values : ByteArray := prog_18_method_1_code
def yX4_values : MethodName := ⟨RX4, "values", "()[LSpoonRow$Value;"⟩
def dkwX4_values_0 : List UInt8 := [178, 0, 25, 182, 0, 29, 192, 0, 30, 176]
abbrev dktX4_values_0 : List UInt8 := dkwX4_values_0 ++ []
theorem dksX4_values_0 : cX4_values.data.toList.drop 0 = dktX4_values_0 := by decide +kernel
theorem dX4_values_0 : decode cX4_values 0 = .ok (.getstatic 25, 3) := dk_178 0 25 (dk_at dksX4_values_0 0 rfl rfl)
theorem dX4_values_3 : decode cX4_values 3 = .ok (.invokevirtual 29, 3) := dk_182 0 29 (dk_at dksX4_values_0 3 rfl rfl)
theorem dX4_values_6 : decode cX4_values 6 = .ok (.checkcast 30, 3) := dk_192 0 30 (dk_at dksX4_values_0 6 rfl rfl)
theorem dX4_values_9 : decode cX4_values 9 = .ok (.areturn, 1) := dk_176 (dk_at dksX4_values_0 9 rfl rfl)
/-! SpoonRow$Book: codes (from claim/names) -/
abbrev cX5_init : ByteArray := prog_3_method_1_code
def yX5_init : MethodName := ⟨RX5, "<init>", "()V"⟩
def dkwX5_init_3 : List UInt8 := [180, 0, 23, 187, 0, 9, 89, 183, 0, 11, 182, 0, 40, 87, 132, 1, 1, 167, 255, 232, 177]
abbrev dktX5_init_3 : List UInt8 := dkwX5_init_3 ++ []
def dkwX5_init_2 : List UInt8 := [16, 8, 188, 10, 181, 0, 34, 42, 6, 188, 10, 181, 0, 37, 3, 60, 27, 16, 40, 162, 0, 24, 42]
abbrev dktX5_init_2 : List UInt8 := dkwX5_init_2 ++ dktX5_init_3
def dkwX5_init_1 : List UInt8 := [183, 0, 20, 181, 0, 23, 42, 16, 8, 188, 10, 181, 0, 27, 42, 16, 8, 188, 10, 181, 0, 31, 42]
abbrev dktX5_init_1 : List UInt8 := dkwX5_init_1 ++ dktX5_init_2
def dkwX5_init_0 : List UInt8 := [42, 183, 0, 3, 42, 187, 0, 9, 89, 183, 0, 11, 181, 0, 12, 42, 187, 0, 18, 89, 16, 40]
abbrev dktX5_init_0 : List UInt8 := dkwX5_init_0 ++ dktX5_init_1
theorem dksX5_init_0 : cX5_init.data.toList.drop 0 = dktX5_init_0 := by decide +kernel
theorem dksX5_init_1 : cX5_init.data.toList.drop 22 = dktX5_init_1 := dk_seg dksX5_init_0 22 rfl rfl
theorem dksX5_init_2 : cX5_init.data.toList.drop 45 = dktX5_init_2 := dk_seg dksX5_init_1 23 rfl rfl
theorem dksX5_init_3 : cX5_init.data.toList.drop 68 = dktX5_init_3 := dk_seg dksX5_init_2 23 rfl rfl
theorem dX5_init_0 : decode cX5_init 0 = .ok (.aload_n 0, 1) := dk_42 (dk_at dksX5_init_0 0 rfl rfl)
theorem dX5_init_1 : decode cX5_init 1 = .ok (.invokespecial 3, 3) := dk_183 0 3 (dk_at dksX5_init_0 1 rfl rfl)
theorem dX5_init_4 : decode cX5_init 4 = .ok (.aload_n 0, 1) := dk_42 (dk_at dksX5_init_0 4 rfl rfl)
theorem dX5_init_5 : decode cX5_init 5 = .ok (.new 9, 3) := dk_187 0 9 (dk_at dksX5_init_0 5 rfl rfl)
theorem dX5_init_8 : decode cX5_init 8 = .ok (.dup, 1) := dk_89 (dk_at dksX5_init_0 8 rfl rfl)
theorem dX5_init_9 : decode cX5_init 9 = .ok (.invokespecial 11, 3) := dk_183 0 11 (dk_at dksX5_init_0 9 rfl rfl)
theorem dX5_init_12 : decode cX5_init 12 = .ok (.putfield 12, 3) := dk_181 0 12 (dk_at dksX5_init_0 12 rfl rfl)
theorem dX5_init_15 : decode cX5_init 15 = .ok (.aload_n 0, 1) := dk_42 (dk_at dksX5_init_0 15 rfl rfl)
theorem dX5_init_16 : decode cX5_init 16 = .ok (.new 18, 3) := dk_187 0 18 (dk_at dksX5_init_0 16 rfl rfl)
theorem dX5_init_19 : decode cX5_init 19 = .ok (.dup, 1) := dk_89 (dk_at dksX5_init_0 19 rfl rfl)
theorem dX5_init_20 : decode cX5_init 20 = .ok (.bipush 40, 2) := dk_16 40 (dk_at dksX5_init_0 20 rfl rfl)
theorem dX5_init_22 : decode cX5_init 22 = .ok (.invokespecial 20, 3) := dk_183 0 20 (dk_at dksX5_init_1 0 rfl rfl)
theorem dX5_init_25 : decode cX5_init 25 = .ok (.putfield 23, 3) := dk_181 0 23 (dk_at dksX5_init_1 3 rfl rfl)
theorem dX5_init_28 : decode cX5_init 28 = .ok (.aload_n 0, 1) := dk_42 (dk_at dksX5_init_1 6 rfl rfl)
theorem dX5_init_29 : decode cX5_init 29 = .ok (.bipush 8, 2) := dk_16 8 (dk_at dksX5_init_1 7 rfl rfl)
theorem dX5_init_31 : decode cX5_init 31 = .ok (.newarray .int, 2) := dk_188_10 (dk_at dksX5_init_1 9 rfl rfl)
theorem dX5_init_33 : decode cX5_init 33 = .ok (.putfield 27, 3) := dk_181 0 27 (dk_at dksX5_init_1 11 rfl rfl)
theorem dX5_init_36 : decode cX5_init 36 = .ok (.aload_n 0, 1) := dk_42 (dk_at dksX5_init_1 14 rfl rfl)
theorem dX5_init_37 : decode cX5_init 37 = .ok (.bipush 8, 2) := dk_16 8 (dk_at dksX5_init_1 15 rfl rfl)
theorem dX5_init_39 : decode cX5_init 39 = .ok (.newarray .int, 2) := dk_188_10 (dk_at dksX5_init_1 17 rfl rfl)
theorem dX5_init_41 : decode cX5_init 41 = .ok (.putfield 31, 3) := dk_181 0 31 (dk_at dksX5_init_1 19 rfl rfl)
theorem dX5_init_44 : decode cX5_init 44 = .ok (.aload_n 0, 1) := dk_42 (dk_at dksX5_init_1 22 rfl rfl)
theorem dX5_init_45 : decode cX5_init 45 = .ok (.bipush 8, 2) := dk_16 8 (dk_at dksX5_init_2 0 rfl rfl)
theorem dX5_init_47 : decode cX5_init 47 = .ok (.newarray .int, 2) := dk_188_10 (dk_at dksX5_init_2 2 rfl rfl)
theorem dX5_init_49 : decode cX5_init 49 = .ok (.putfield 34, 3) := dk_181 0 34 (dk_at dksX5_init_2 4 rfl rfl)
theorem dX5_init_52 : decode cX5_init 52 = .ok (.aload_n 0, 1) := dk_42 (dk_at dksX5_init_2 7 rfl rfl)
theorem dX5_init_53 : decode cX5_init 53 = .ok (.iconst 3, 1) := dk_6 (dk_at dksX5_init_2 8 rfl rfl)
theorem dX5_init_54 : decode cX5_init 54 = .ok (.newarray .int, 2) := dk_188_10 (dk_at dksX5_init_2 9 rfl rfl)
theorem dX5_init_56 : decode cX5_init 56 = .ok (.putfield 37, 3) := dk_181 0 37 (dk_at dksX5_init_2 11 rfl rfl)
theorem dX5_init_59 : decode cX5_init 59 = .ok (.iconst 0, 1) := dk_3 (dk_at dksX5_init_2 14 rfl rfl)
theorem dX5_init_60 : decode cX5_init 60 = .ok (.istore_n 1, 1) := dk_60 (dk_at dksX5_init_2 15 rfl rfl)
theorem dX5_init_61 : decode cX5_init 61 = .ok (.iload_n 1, 1) := dk_27 (dk_at dksX5_init_2 16 rfl rfl)
theorem dX5_init_62 : decode cX5_init 62 = .ok (.bipush 40, 2) := dk_16 40 (dk_at dksX5_init_2 17 rfl rfl)
theorem dX5_init_64 : decode cX5_init 64 = .ok (.if_icmp .ge 24, 3) := dk_162 0 24 (dk_at dksX5_init_2 19 rfl rfl)
theorem dX5_init_67 : decode cX5_init 67 = .ok (.aload_n 0, 1) := dk_42 (dk_at dksX5_init_2 22 rfl rfl)
theorem dX5_init_68 : decode cX5_init 68 = .ok (.getfield 23, 3) := dk_180 0 23 (dk_at dksX5_init_3 0 rfl rfl)
theorem dX5_init_71 : decode cX5_init 71 = .ok (.new 9, 3) := dk_187 0 9 (dk_at dksX5_init_3 3 rfl rfl)
theorem dX5_init_74 : decode cX5_init 74 = .ok (.dup, 1) := dk_89 (dk_at dksX5_init_3 6 rfl rfl)
theorem dX5_init_75 : decode cX5_init 75 = .ok (.invokespecial 11, 3) := dk_183 0 11 (dk_at dksX5_init_3 7 rfl rfl)
theorem dX5_init_78 : decode cX5_init 78 = .ok (.invokevirtual 40, 3) := dk_182 0 40 (dk_at dksX5_init_3 10 rfl rfl)
theorem dX5_init_81 : decode cX5_init 81 = .ok (.pop, 1) := dk_87 (dk_at dksX5_init_3 13 rfl rfl)
theorem dX5_init_82 : decode cX5_init 82 = .ok (.iinc 1 1, 3) := dk_132 1 1 (dk_at dksX5_init_3 14 rfl rfl)
theorem dX5_init_85 : decode cX5_init 85 = .ok (.goto (-24), 3) := dk_167 255 232 (dk_at dksX5_init_3 17 rfl rfl)
theorem dX5_init_88 : decode cX5_init 88 = .ok (.return_, 1) := dk_177 (dk_at dksX5_init_3 20 rfl rfl)
abbrev cX5_keeps : ByteArray := prog_3_method_2_code
def yX5_keeps : MethodName := ⟨RX5, "keeps", "()V"⟩
def dkwX5_keeps_2 : List UInt8 := [182, 0, 52, 192, 0, 9, 42, 180, 0, 12, 182, 0, 55, 42, 89, 180, 0, 44, 4, 96, 181, 0, 44, 177]
abbrev dktX5_keeps_2 : List UInt8 := dkwX5_keeps_2 ++ []
def dkwX5_keeps_1 : List UInt8 := [182, 0, 40, 87, 42, 89, 180, 0, 44, 4, 100, 181, 0, 44, 42, 180, 0, 23, 42, 180, 0, 44]
abbrev dktX5_keeps_1 : List UInt8 := dkwX5_keeps_1 ++ dktX5_keeps_2
def dkwX5_keeps_0 : List UInt8 := [42, 180, 0, 44, 16, 40, 160, 0, 32, 42, 180, 0, 23, 42, 180, 0, 23, 3, 182, 0, 48, 192, 0, 9]
abbrev dktX5_keeps_0 : List UInt8 := dkwX5_keeps_0 ++ dktX5_keeps_1
theorem dksX5_keeps_0 : cX5_keeps.data.toList.drop 0 = dktX5_keeps_0 := by decide +kernel
theorem dksX5_keeps_1 : cX5_keeps.data.toList.drop 24 = dktX5_keeps_1 := dk_seg dksX5_keeps_0 24 rfl rfl
theorem dksX5_keeps_2 : cX5_keeps.data.toList.drop 46 = dktX5_keeps_2 := dk_seg dksX5_keeps_1 22 rfl rfl
theorem dX5_keeps_0 : decode cX5_keeps 0 = .ok (.aload_n 0, 1) := dk_42 (dk_at dksX5_keeps_0 0 rfl rfl)
theorem dX5_keeps_1 : decode cX5_keeps 1 = .ok (.getfield 44, 3) := dk_180 0 44 (dk_at dksX5_keeps_0 1 rfl rfl)
theorem dX5_keeps_4 : decode cX5_keeps 4 = .ok (.bipush 40, 2) := dk_16 40 (dk_at dksX5_keeps_0 4 rfl rfl)
theorem dX5_keeps_6 : decode cX5_keeps 6 = .ok (.if_icmp .ne 32, 3) := dk_160 0 32 (dk_at dksX5_keeps_0 6 rfl rfl)
theorem dX5_keeps_9 : decode cX5_keeps 9 = .ok (.aload_n 0, 1) := dk_42 (dk_at dksX5_keeps_0 9 rfl rfl)
theorem dX5_keeps_10 : decode cX5_keeps 10 = .ok (.getfield 23, 3) := dk_180 0 23 (dk_at dksX5_keeps_0 10 rfl rfl)
theorem dX5_keeps_13 : decode cX5_keeps 13 = .ok (.aload_n 0, 1) := dk_42 (dk_at dksX5_keeps_0 13 rfl rfl)
theorem dX5_keeps_14 : decode cX5_keeps 14 = .ok (.getfield 23, 3) := dk_180 0 23 (dk_at dksX5_keeps_0 14 rfl rfl)
theorem dX5_keeps_17 : decode cX5_keeps 17 = .ok (.iconst 0, 1) := dk_3 (dk_at dksX5_keeps_0 17 rfl rfl)
theorem dX5_keeps_18 : decode cX5_keeps 18 = .ok (.invokevirtual 48, 3) := dk_182 0 48 (dk_at dksX5_keeps_0 18 rfl rfl)
theorem dX5_keeps_21 : decode cX5_keeps 21 = .ok (.checkcast 9, 3) := dk_192 0 9 (dk_at dksX5_keeps_0 21 rfl rfl)
theorem dX5_keeps_24 : decode cX5_keeps 24 = .ok (.invokevirtual 40, 3) := dk_182 0 40 (dk_at dksX5_keeps_1 0 rfl rfl)
theorem dX5_keeps_27 : decode cX5_keeps 27 = .ok (.pop, 1) := dk_87 (dk_at dksX5_keeps_1 3 rfl rfl)
theorem dX5_keeps_28 : decode cX5_keeps 28 = .ok (.aload_n 0, 1) := dk_42 (dk_at dksX5_keeps_1 4 rfl rfl)
theorem dX5_keeps_29 : decode cX5_keeps 29 = .ok (.dup, 1) := dk_89 (dk_at dksX5_keeps_1 5 rfl rfl)
theorem dX5_keeps_30 : decode cX5_keeps 30 = .ok (.getfield 44, 3) := dk_180 0 44 (dk_at dksX5_keeps_1 6 rfl rfl)
theorem dX5_keeps_33 : decode cX5_keeps 33 = .ok (.iconst 1, 1) := dk_4 (dk_at dksX5_keeps_1 9 rfl rfl)
theorem dX5_keeps_34 : decode cX5_keeps 34 = .ok (.isub, 1) := dk_100 (dk_at dksX5_keeps_1 10 rfl rfl)
theorem dX5_keeps_35 : decode cX5_keeps 35 = .ok (.putfield 44, 3) := dk_181 0 44 (dk_at dksX5_keeps_1 11 rfl rfl)
theorem dX5_keeps_38 : decode cX5_keeps 38 = .ok (.aload_n 0, 1) := dk_42 (dk_at dksX5_keeps_1 14 rfl rfl)
theorem dX5_keeps_39 : decode cX5_keeps 39 = .ok (.getfield 23, 3) := dk_180 0 23 (dk_at dksX5_keeps_1 15 rfl rfl)
theorem dX5_keeps_42 : decode cX5_keeps 42 = .ok (.aload_n 0, 1) := dk_42 (dk_at dksX5_keeps_1 18 rfl rfl)
theorem dX5_keeps_43 : decode cX5_keeps 43 = .ok (.getfield 44, 3) := dk_180 0 44 (dk_at dksX5_keeps_1 19 rfl rfl)
theorem dX5_keeps_46 : decode cX5_keeps 46 = .ok (.invokevirtual 52, 3) := dk_182 0 52 (dk_at dksX5_keeps_2 0 rfl rfl)
theorem dX5_keeps_49 : decode cX5_keeps 49 = .ok (.checkcast 9, 3) := dk_192 0 9 (dk_at dksX5_keeps_2 3 rfl rfl)
theorem dX5_keeps_52 : decode cX5_keeps 52 = .ok (.aload_n 0, 1) := dk_42 (dk_at dksX5_keeps_2 6 rfl rfl)
theorem dX5_keeps_53 : decode cX5_keeps 53 = .ok (.getfield 12, 3) := dk_180 0 12 (dk_at dksX5_keeps_2 7 rfl rfl)
theorem dX5_keeps_56 : decode cX5_keeps 56 = .ok (.invokevirtual 55, 3) := dk_182 0 55 (dk_at dksX5_keeps_2 10 rfl rfl)
theorem dX5_keeps_59 : decode cX5_keeps 59 = .ok (.aload_n 0, 1) := dk_42 (dk_at dksX5_keeps_2 13 rfl rfl)
theorem dX5_keeps_60 : decode cX5_keeps 60 = .ok (.dup, 1) := dk_89 (dk_at dksX5_keeps_2 14 rfl rfl)
theorem dX5_keeps_61 : decode cX5_keeps 61 = .ok (.getfield 44, 3) := dk_180 0 44 (dk_at dksX5_keeps_2 15 rfl rfl)
theorem dX5_keeps_64 : decode cX5_keeps 64 = .ok (.iconst 1, 1) := dk_4 (dk_at dksX5_keeps_2 18 rfl rfl)
theorem dX5_keeps_65 : decode cX5_keeps 65 = .ok (.iadd, 1) := dk_96 (dk_at dksX5_keeps_2 19 rfl rfl)
theorem dX5_keeps_66 : decode cX5_keeps 66 = .ok (.putfield 44, 3) := dk_181 0 44 (dk_at dksX5_keeps_2 20 rfl rfl)
theorem dX5_keeps_69 : decode cX5_keeps 69 = .ok (.return_, 1) := dk_177 (dk_at dksX5_keeps_2 23 rfl rfl)
abbrev cX5_like : ByteArray := prog_3_method_3_code
def yX5_like : MethodName := ⟨RX5, "like", "(LSpoonRow$Book;)V"⟩
def dkwX5_like_5 : List UInt8 := [43, 180, 0, 44, 181, 0, 44, 42, 43, 180, 0, 65, 181, 0, 65, 177]
abbrev dktX5_like_5 : List UInt8 := dkwX5_like_5 ++ []
def dkwX5_like_4 : List UInt8 := [16, 8, 184, 0, 59, 43, 180, 0, 37, 3, 42, 180, 0, 37, 3, 42, 180, 0, 37, 190, 184, 0, 59, 42]
abbrev dktX5_like_4 : List UInt8 := dkwX5_like_4 ++ dktX5_like_5
def dkwX5_like_3 : List UInt8 := [180, 0, 31, 3, 42, 180, 0, 31, 3, 16, 8, 184, 0, 59, 43, 180, 0, 34, 3, 42, 180, 0, 34, 3]
abbrev dktX5_like_3 : List UInt8 := dkwX5_like_3 ++ dktX5_like_4
def dkwX5_like_2 : List UInt8 := [132, 2, 1, 167, 255, 220, 43, 180, 0, 27, 3, 42, 180, 0, 27, 3, 16, 8, 184, 0, 59, 43]
abbrev dktX5_like_2 : List UInt8 := dkwX5_like_2 ++ dktX5_like_3
def dkwX5_like_1 : List UInt8 := [180, 0, 23, 28, 182, 0, 52, 192, 0, 9, 43, 180, 0, 23, 28, 182, 0, 52, 192, 0, 9, 182, 0, 55]
abbrev dktX5_like_1 : List UInt8 := dkwX5_like_1 ++ dktX5_like_2
def dkwX5_like_0 : List UInt8 := [42, 180, 0, 12, 43, 180, 0, 12, 182, 0, 55, 3, 61, 28, 43, 180, 0, 44, 162, 0, 34, 42]
abbrev dktX5_like_0 : List UInt8 := dkwX5_like_0 ++ dktX5_like_1
theorem dksX5_like_0 : cX5_like.data.toList.drop 0 = dktX5_like_0 := by decide +kernel
theorem dksX5_like_1 : cX5_like.data.toList.drop 22 = dktX5_like_1 := dk_seg dksX5_like_0 22 rfl rfl
theorem dksX5_like_2 : cX5_like.data.toList.drop 46 = dktX5_like_2 := dk_seg dksX5_like_1 24 rfl rfl
theorem dksX5_like_3 : cX5_like.data.toList.drop 68 = dktX5_like_3 := dk_seg dksX5_like_2 22 rfl rfl
theorem dksX5_like_4 : cX5_like.data.toList.drop 92 = dktX5_like_4 := dk_seg dksX5_like_3 24 rfl rfl
theorem dksX5_like_5 : cX5_like.data.toList.drop 116 = dktX5_like_5 := dk_seg dksX5_like_4 24 rfl rfl
theorem dX5_like_0 : decode cX5_like 0 = .ok (.aload_n 0, 1) := dk_42 (dk_at dksX5_like_0 0 rfl rfl)
theorem dX5_like_1 : decode cX5_like 1 = .ok (.getfield 12, 3) := dk_180 0 12 (dk_at dksX5_like_0 1 rfl rfl)
theorem dX5_like_4 : decode cX5_like 4 = .ok (.aload_n 1, 1) := dk_43 (dk_at dksX5_like_0 4 rfl rfl)
theorem dX5_like_5 : decode cX5_like 5 = .ok (.getfield 12, 3) := dk_180 0 12 (dk_at dksX5_like_0 5 rfl rfl)
theorem dX5_like_8 : decode cX5_like 8 = .ok (.invokevirtual 55, 3) := dk_182 0 55 (dk_at dksX5_like_0 8 rfl rfl)
theorem dX5_like_11 : decode cX5_like 11 = .ok (.iconst 0, 1) := dk_3 (dk_at dksX5_like_0 11 rfl rfl)
theorem dX5_like_12 : decode cX5_like 12 = .ok (.istore_n 2, 1) := dk_61 (dk_at dksX5_like_0 12 rfl rfl)
theorem dX5_like_13 : decode cX5_like 13 = .ok (.iload_n 2, 1) := dk_28 (dk_at dksX5_like_0 13 rfl rfl)
theorem dX5_like_14 : decode cX5_like 14 = .ok (.aload_n 1, 1) := dk_43 (dk_at dksX5_like_0 14 rfl rfl)
theorem dX5_like_15 : decode cX5_like 15 = .ok (.getfield 44, 3) := dk_180 0 44 (dk_at dksX5_like_0 15 rfl rfl)
theorem dX5_like_18 : decode cX5_like 18 = .ok (.if_icmp .ge 34, 3) := dk_162 0 34 (dk_at dksX5_like_0 18 rfl rfl)
theorem dX5_like_21 : decode cX5_like 21 = .ok (.aload_n 0, 1) := dk_42 (dk_at dksX5_like_0 21 rfl rfl)
theorem dX5_like_22 : decode cX5_like 22 = .ok (.getfield 23, 3) := dk_180 0 23 (dk_at dksX5_like_1 0 rfl rfl)
theorem dX5_like_25 : decode cX5_like 25 = .ok (.iload_n 2, 1) := dk_28 (dk_at dksX5_like_1 3 rfl rfl)
theorem dX5_like_26 : decode cX5_like 26 = .ok (.invokevirtual 52, 3) := dk_182 0 52 (dk_at dksX5_like_1 4 rfl rfl)
theorem dX5_like_29 : decode cX5_like 29 = .ok (.checkcast 9, 3) := dk_192 0 9 (dk_at dksX5_like_1 7 rfl rfl)
theorem dX5_like_32 : decode cX5_like 32 = .ok (.aload_n 1, 1) := dk_43 (dk_at dksX5_like_1 10 rfl rfl)
theorem dX5_like_33 : decode cX5_like 33 = .ok (.getfield 23, 3) := dk_180 0 23 (dk_at dksX5_like_1 11 rfl rfl)
theorem dX5_like_36 : decode cX5_like 36 = .ok (.iload_n 2, 1) := dk_28 (dk_at dksX5_like_1 14 rfl rfl)
theorem dX5_like_37 : decode cX5_like 37 = .ok (.invokevirtual 52, 3) := dk_182 0 52 (dk_at dksX5_like_1 15 rfl rfl)
theorem dX5_like_40 : decode cX5_like 40 = .ok (.checkcast 9, 3) := dk_192 0 9 (dk_at dksX5_like_1 18 rfl rfl)
theorem dX5_like_43 : decode cX5_like 43 = .ok (.invokevirtual 55, 3) := dk_182 0 55 (dk_at dksX5_like_1 21 rfl rfl)
theorem dX5_like_46 : decode cX5_like 46 = .ok (.iinc 2 1, 3) := dk_132 2 1 (dk_at dksX5_like_2 0 rfl rfl)
theorem dX5_like_49 : decode cX5_like 49 = .ok (.goto (-36), 3) := dk_167 255 220 (dk_at dksX5_like_2 3 rfl rfl)
theorem dX5_like_52 : decode cX5_like 52 = .ok (.aload_n 1, 1) := dk_43 (dk_at dksX5_like_2 6 rfl rfl)
theorem dX5_like_53 : decode cX5_like 53 = .ok (.getfield 27, 3) := dk_180 0 27 (dk_at dksX5_like_2 7 rfl rfl)
theorem dX5_like_56 : decode cX5_like 56 = .ok (.iconst 0, 1) := dk_3 (dk_at dksX5_like_2 10 rfl rfl)
theorem dX5_like_57 : decode cX5_like 57 = .ok (.aload_n 0, 1) := dk_42 (dk_at dksX5_like_2 11 rfl rfl)
theorem dX5_like_58 : decode cX5_like 58 = .ok (.getfield 27, 3) := dk_180 0 27 (dk_at dksX5_like_2 12 rfl rfl)
theorem dX5_like_61 : decode cX5_like 61 = .ok (.iconst 0, 1) := dk_3 (dk_at dksX5_like_2 15 rfl rfl)
theorem dX5_like_62 : decode cX5_like 62 = .ok (.bipush 8, 2) := dk_16 8 (dk_at dksX5_like_2 16 rfl rfl)
theorem dX5_like_64 : decode cX5_like 64 = .ok (.invokestatic 59, 3) := dk_184 0 59 (dk_at dksX5_like_2 18 rfl rfl)
theorem dX5_like_67 : decode cX5_like 67 = .ok (.aload_n 1, 1) := dk_43 (dk_at dksX5_like_2 21 rfl rfl)
theorem dX5_like_68 : decode cX5_like 68 = .ok (.getfield 31, 3) := dk_180 0 31 (dk_at dksX5_like_3 0 rfl rfl)
theorem dX5_like_71 : decode cX5_like 71 = .ok (.iconst 0, 1) := dk_3 (dk_at dksX5_like_3 3 rfl rfl)
theorem dX5_like_72 : decode cX5_like 72 = .ok (.aload_n 0, 1) := dk_42 (dk_at dksX5_like_3 4 rfl rfl)
theorem dX5_like_73 : decode cX5_like 73 = .ok (.getfield 31, 3) := dk_180 0 31 (dk_at dksX5_like_3 5 rfl rfl)
theorem dX5_like_76 : decode cX5_like 76 = .ok (.iconst 0, 1) := dk_3 (dk_at dksX5_like_3 8 rfl rfl)
theorem dX5_like_77 : decode cX5_like 77 = .ok (.bipush 8, 2) := dk_16 8 (dk_at dksX5_like_3 9 rfl rfl)
theorem dX5_like_79 : decode cX5_like 79 = .ok (.invokestatic 59, 3) := dk_184 0 59 (dk_at dksX5_like_3 11 rfl rfl)
theorem dX5_like_82 : decode cX5_like 82 = .ok (.aload_n 1, 1) := dk_43 (dk_at dksX5_like_3 14 rfl rfl)
theorem dX5_like_83 : decode cX5_like 83 = .ok (.getfield 34, 3) := dk_180 0 34 (dk_at dksX5_like_3 15 rfl rfl)
theorem dX5_like_86 : decode cX5_like 86 = .ok (.iconst 0, 1) := dk_3 (dk_at dksX5_like_3 18 rfl rfl)
theorem dX5_like_87 : decode cX5_like 87 = .ok (.aload_n 0, 1) := dk_42 (dk_at dksX5_like_3 19 rfl rfl)
theorem dX5_like_88 : decode cX5_like 88 = .ok (.getfield 34, 3) := dk_180 0 34 (dk_at dksX5_like_3 20 rfl rfl)
theorem dX5_like_91 : decode cX5_like 91 = .ok (.iconst 0, 1) := dk_3 (dk_at dksX5_like_3 23 rfl rfl)
theorem dX5_like_92 : decode cX5_like 92 = .ok (.bipush 8, 2) := dk_16 8 (dk_at dksX5_like_4 0 rfl rfl)
theorem dX5_like_94 : decode cX5_like 94 = .ok (.invokestatic 59, 3) := dk_184 0 59 (dk_at dksX5_like_4 2 rfl rfl)
theorem dX5_like_97 : decode cX5_like 97 = .ok (.aload_n 1, 1) := dk_43 (dk_at dksX5_like_4 5 rfl rfl)
theorem dX5_like_98 : decode cX5_like 98 = .ok (.getfield 37, 3) := dk_180 0 37 (dk_at dksX5_like_4 6 rfl rfl)
theorem dX5_like_101 : decode cX5_like 101 = .ok (.iconst 0, 1) := dk_3 (dk_at dksX5_like_4 9 rfl rfl)
theorem dX5_like_102 : decode cX5_like 102 = .ok (.aload_n 0, 1) := dk_42 (dk_at dksX5_like_4 10 rfl rfl)
theorem dX5_like_103 : decode cX5_like 103 = .ok (.getfield 37, 3) := dk_180 0 37 (dk_at dksX5_like_4 11 rfl rfl)
theorem dX5_like_106 : decode cX5_like 106 = .ok (.iconst 0, 1) := dk_3 (dk_at dksX5_like_4 14 rfl rfl)
theorem dX5_like_107 : decode cX5_like 107 = .ok (.aload_n 0, 1) := dk_42 (dk_at dksX5_like_4 15 rfl rfl)
theorem dX5_like_108 : decode cX5_like 108 = .ok (.getfield 37, 3) := dk_180 0 37 (dk_at dksX5_like_4 16 rfl rfl)
theorem dX5_like_111 : decode cX5_like 111 = .ok (.arraylength, 1) := dk_190 (dk_at dksX5_like_4 19 rfl rfl)
theorem dX5_like_112 : decode cX5_like 112 = .ok (.invokestatic 59, 3) := dk_184 0 59 (dk_at dksX5_like_4 20 rfl rfl)
theorem dX5_like_115 : decode cX5_like 115 = .ok (.aload_n 0, 1) := dk_42 (dk_at dksX5_like_4 23 rfl rfl)
theorem dX5_like_116 : decode cX5_like 116 = .ok (.aload_n 1, 1) := dk_43 (dk_at dksX5_like_5 0 rfl rfl)
theorem dX5_like_117 : decode cX5_like 117 = .ok (.getfield 44, 3) := dk_180 0 44 (dk_at dksX5_like_5 1 rfl rfl)
theorem dX5_like_120 : decode cX5_like 120 = .ok (.putfield 44, 3) := dk_181 0 44 (dk_at dksX5_like_5 4 rfl rfl)
theorem dX5_like_123 : decode cX5_like 123 = .ok (.aload_n 0, 1) := dk_42 (dk_at dksX5_like_5 7 rfl rfl)
theorem dX5_like_124 : decode cX5_like 124 = .ok (.aload_n 1, 1) := dk_43 (dk_at dksX5_like_5 8 rfl rfl)
theorem dX5_like_125 : decode cX5_like 125 = .ok (.getfield 65, 3) := dk_180 0 65 (dk_at dksX5_like_5 9 rfl rfl)
theorem dX5_like_128 : decode cX5_like 128 = .ok (.putfield 65, 3) := dk_181 0 65 (dk_at dksX5_like_5 12 rfl rfl)
theorem dX5_like_131 : decode cX5_like 131 = .ok (.return_, 1) := dk_177 (dk_at dksX5_like_5 15 rfl rfl)
/-! SpoonRow$Lay: codes (from claim/names) -/
abbrev cX6_init : ByteArray := prog_9_method_1_code
def yX6_init : MethodName := ⟨RX6, "<init>", "()V"⟩
def dkwX6_init_1 : List UInt8 := [181, 0, 18, 177]
abbrev dktX6_init_1 : List UInt8 := dkwX6_init_1 ++ []
def dkwX6_init_0 : List UInt8 := [42, 183, 0, 3, 42, 16, 7, 188, 10, 181, 0, 9, 42, 16, 7, 188, 10, 181, 0, 15, 42, 2]
abbrev dktX6_init_0 : List UInt8 := dkwX6_init_0 ++ dktX6_init_1
theorem dksX6_init_0 : cX6_init.data.toList.drop 0 = dktX6_init_0 := by decide +kernel
theorem dksX6_init_1 : cX6_init.data.toList.drop 22 = dktX6_init_1 := dk_seg dksX6_init_0 22 rfl rfl
theorem dX6_init_0 : decode cX6_init 0 = .ok (.aload_n 0, 1) := dk_42 (dk_at dksX6_init_0 0 rfl rfl)
theorem dX6_init_1 : decode cX6_init 1 = .ok (.invokespecial 3, 3) := dk_183 0 3 (dk_at dksX6_init_0 1 rfl rfl)
theorem dX6_init_4 : decode cX6_init 4 = .ok (.aload_n 0, 1) := dk_42 (dk_at dksX6_init_0 4 rfl rfl)
theorem dX6_init_5 : decode cX6_init 5 = .ok (.bipush 7, 2) := dk_16 7 (dk_at dksX6_init_0 5 rfl rfl)
theorem dX6_init_7 : decode cX6_init 7 = .ok (.newarray .int, 2) := dk_188_10 (dk_at dksX6_init_0 7 rfl rfl)
theorem dX6_init_9 : decode cX6_init 9 = .ok (.putfield 9, 3) := dk_181 0 9 (dk_at dksX6_init_0 9 rfl rfl)
theorem dX6_init_12 : decode cX6_init 12 = .ok (.aload_n 0, 1) := dk_42 (dk_at dksX6_init_0 12 rfl rfl)
theorem dX6_init_13 : decode cX6_init 13 = .ok (.bipush 7, 2) := dk_16 7 (dk_at dksX6_init_0 13 rfl rfl)
theorem dX6_init_15 : decode cX6_init 15 = .ok (.newarray .int, 2) := dk_188_10 (dk_at dksX6_init_0 15 rfl rfl)
theorem dX6_init_17 : decode cX6_init 17 = .ok (.putfield 15, 3) := dk_181 0 15 (dk_at dksX6_init_0 17 rfl rfl)
theorem dX6_init_20 : decode cX6_init 20 = .ok (.aload_n 0, 1) := dk_42 (dk_at dksX6_init_0 20 rfl rfl)
theorem dX6_init_21 : decode cX6_init 21 = .ok (.iconst (-1), 1) := dk_2 (dk_at dksX6_init_0 21 rfl rfl)
theorem dX6_init_22 : decode cX6_init 22 = .ok (.putfield 18, 3) := dk_181 0 18 (dk_at dksX6_init_1 0 rfl rfl)
theorem dX6_init_25 : decode cX6_init 25 = .ok (.return_, 1) := dk_177 (dk_at dksX6_init_1 3 rfl rfl)
abbrev cX6_begins : ByteArray := prog_9_method_2_code
def yX6_begins : MethodName := ⟨RX6, "begins", "(LSpoonRow$Bed;)V"⟩
def dkwX6_begins_3 : List UInt8 := [181, 0, 48, 42, 43, 180, 0, 51, 181, 0, 54, 42, 43, 2, 182, 0, 55, 181, 0, 59, 177]
abbrev dktX6_begins_3 : List UInt8 := dkwX6_begins_3 ++ []
def dkwX6_begins_2 : List UInt8 := [180, 0, 43, 79, 132, 2, 1, 167, 255, 218, 42, 3, 181, 0, 45, 42, 2, 181, 0, 18, 42, 3]
abbrev dktX6_begins_2 : List UInt8 := dkwX6_begins_2 ++ dktX6_begins_3
def dkwX6_begins_1 : List UInt8 := [180, 0, 9, 28, 28, 79, 42, 180, 0, 15, 28, 43, 180, 0, 22, 28, 182, 0, 37, 192, 0, 41]
abbrev dktX6_begins_1 : List UInt8 := dkwX6_begins_1 ++ dktX6_begins_2
def dkwX6_begins_0 : List UInt8 := [42, 43, 180, 0, 22, 182, 0, 28, 181, 0, 34, 3, 61, 28, 42, 180, 0, 34, 162, 0, 36, 42]
abbrev dktX6_begins_0 : List UInt8 := dkwX6_begins_0 ++ dktX6_begins_1
theorem dksX6_begins_0 : cX6_begins.data.toList.drop 0 = dktX6_begins_0 := by decide +kernel
theorem dksX6_begins_1 : cX6_begins.data.toList.drop 22 = dktX6_begins_1 := dk_seg dksX6_begins_0 22 rfl rfl
theorem dksX6_begins_2 : cX6_begins.data.toList.drop 44 = dktX6_begins_2 := dk_seg dksX6_begins_1 22 rfl rfl
theorem dksX6_begins_3 : cX6_begins.data.toList.drop 66 = dktX6_begins_3 := dk_seg dksX6_begins_2 22 rfl rfl
theorem dX6_begins_0 : decode cX6_begins 0 = .ok (.aload_n 0, 1) := dk_42 (dk_at dksX6_begins_0 0 rfl rfl)
theorem dX6_begins_1 : decode cX6_begins 1 = .ok (.aload_n 1, 1) := dk_43 (dk_at dksX6_begins_0 1 rfl rfl)
theorem dX6_begins_2 : decode cX6_begins 2 = .ok (.getfield 22, 3) := dk_180 0 22 (dk_at dksX6_begins_0 2 rfl rfl)
theorem dX6_begins_5 : decode cX6_begins 5 = .ok (.invokevirtual 28, 3) := dk_182 0 28 (dk_at dksX6_begins_0 5 rfl rfl)
theorem dX6_begins_8 : decode cX6_begins 8 = .ok (.putfield 34, 3) := dk_181 0 34 (dk_at dksX6_begins_0 8 rfl rfl)
theorem dX6_begins_11 : decode cX6_begins 11 = .ok (.iconst 0, 1) := dk_3 (dk_at dksX6_begins_0 11 rfl rfl)
theorem dX6_begins_12 : decode cX6_begins 12 = .ok (.istore_n 2, 1) := dk_61 (dk_at dksX6_begins_0 12 rfl rfl)
theorem dX6_begins_13 : decode cX6_begins 13 = .ok (.iload_n 2, 1) := dk_28 (dk_at dksX6_begins_0 13 rfl rfl)
theorem dX6_begins_14 : decode cX6_begins 14 = .ok (.aload_n 0, 1) := dk_42 (dk_at dksX6_begins_0 14 rfl rfl)
theorem dX6_begins_15 : decode cX6_begins 15 = .ok (.getfield 34, 3) := dk_180 0 34 (dk_at dksX6_begins_0 15 rfl rfl)
theorem dX6_begins_18 : decode cX6_begins 18 = .ok (.if_icmp .ge 36, 3) := dk_162 0 36 (dk_at dksX6_begins_0 18 rfl rfl)
theorem dX6_begins_21 : decode cX6_begins 21 = .ok (.aload_n 0, 1) := dk_42 (dk_at dksX6_begins_0 21 rfl rfl)
theorem dX6_begins_22 : decode cX6_begins 22 = .ok (.getfield 9, 3) := dk_180 0 9 (dk_at dksX6_begins_1 0 rfl rfl)
theorem dX6_begins_25 : decode cX6_begins 25 = .ok (.iload_n 2, 1) := dk_28 (dk_at dksX6_begins_1 3 rfl rfl)
theorem dX6_begins_26 : decode cX6_begins 26 = .ok (.iload_n 2, 1) := dk_28 (dk_at dksX6_begins_1 4 rfl rfl)
theorem dX6_begins_27 : decode cX6_begins 27 = .ok (.iastore, 1) := dk_79 (dk_at dksX6_begins_1 5 rfl rfl)
theorem dX6_begins_28 : decode cX6_begins 28 = .ok (.aload_n 0, 1) := dk_42 (dk_at dksX6_begins_1 6 rfl rfl)
theorem dX6_begins_29 : decode cX6_begins 29 = .ok (.getfield 15, 3) := dk_180 0 15 (dk_at dksX6_begins_1 7 rfl rfl)
theorem dX6_begins_32 : decode cX6_begins 32 = .ok (.iload_n 2, 1) := dk_28 (dk_at dksX6_begins_1 10 rfl rfl)
theorem dX6_begins_33 : decode cX6_begins 33 = .ok (.aload_n 1, 1) := dk_43 (dk_at dksX6_begins_1 11 rfl rfl)
theorem dX6_begins_34 : decode cX6_begins 34 = .ok (.getfield 22, 3) := dk_180 0 22 (dk_at dksX6_begins_1 12 rfl rfl)
theorem dX6_begins_37 : decode cX6_begins 37 = .ok (.iload_n 2, 1) := dk_28 (dk_at dksX6_begins_1 15 rfl rfl)
theorem dX6_begins_38 : decode cX6_begins 38 = .ok (.invokevirtual 37, 3) := dk_182 0 37 (dk_at dksX6_begins_1 16 rfl rfl)
theorem dX6_begins_41 : decode cX6_begins 41 = .ok (.checkcast 41, 3) := dk_192 0 41 (dk_at dksX6_begins_1 19 rfl rfl)
theorem dX6_begins_44 : decode cX6_begins 44 = .ok (.getfield 43, 3) := dk_180 0 43 (dk_at dksX6_begins_2 0 rfl rfl)
theorem dX6_begins_47 : decode cX6_begins 47 = .ok (.iastore, 1) := dk_79 (dk_at dksX6_begins_2 3 rfl rfl)
theorem dX6_begins_48 : decode cX6_begins 48 = .ok (.iinc 2 1, 3) := dk_132 2 1 (dk_at dksX6_begins_2 4 rfl rfl)
theorem dX6_begins_51 : decode cX6_begins 51 = .ok (.goto (-38), 3) := dk_167 255 218 (dk_at dksX6_begins_2 7 rfl rfl)
theorem dX6_begins_54 : decode cX6_begins 54 = .ok (.aload_n 0, 1) := dk_42 (dk_at dksX6_begins_2 10 rfl rfl)
theorem dX6_begins_55 : decode cX6_begins 55 = .ok (.iconst 0, 1) := dk_3 (dk_at dksX6_begins_2 11 rfl rfl)
theorem dX6_begins_56 : decode cX6_begins 56 = .ok (.putfield 45, 3) := dk_181 0 45 (dk_at dksX6_begins_2 12 rfl rfl)
theorem dX6_begins_59 : decode cX6_begins 59 = .ok (.aload_n 0, 1) := dk_42 (dk_at dksX6_begins_2 15 rfl rfl)
theorem dX6_begins_60 : decode cX6_begins 60 = .ok (.iconst (-1), 1) := dk_2 (dk_at dksX6_begins_2 16 rfl rfl)
theorem dX6_begins_61 : decode cX6_begins 61 = .ok (.putfield 18, 3) := dk_181 0 18 (dk_at dksX6_begins_2 17 rfl rfl)
theorem dX6_begins_64 : decode cX6_begins 64 = .ok (.aload_n 0, 1) := dk_42 (dk_at dksX6_begins_2 20 rfl rfl)
theorem dX6_begins_65 : decode cX6_begins 65 = .ok (.iconst 0, 1) := dk_3 (dk_at dksX6_begins_2 21 rfl rfl)
theorem dX6_begins_66 : decode cX6_begins 66 = .ok (.putfield 48, 3) := dk_181 0 48 (dk_at dksX6_begins_3 0 rfl rfl)
theorem dX6_begins_69 : decode cX6_begins 69 = .ok (.aload_n 0, 1) := dk_42 (dk_at dksX6_begins_3 3 rfl rfl)
theorem dX6_begins_70 : decode cX6_begins 70 = .ok (.aload_n 1, 1) := dk_43 (dk_at dksX6_begins_3 4 rfl rfl)
theorem dX6_begins_71 : decode cX6_begins 71 = .ok (.getfield 51, 3) := dk_180 0 51 (dk_at dksX6_begins_3 5 rfl rfl)
theorem dX6_begins_74 : decode cX6_begins 74 = .ok (.putfield 54, 3) := dk_181 0 54 (dk_at dksX6_begins_3 8 rfl rfl)
theorem dX6_begins_77 : decode cX6_begins 77 = .ok (.aload_n 0, 1) := dk_42 (dk_at dksX6_begins_3 11 rfl rfl)
theorem dX6_begins_78 : decode cX6_begins 78 = .ok (.aload_n 1, 1) := dk_43 (dk_at dksX6_begins_3 12 rfl rfl)
theorem dX6_begins_79 : decode cX6_begins 79 = .ok (.iconst (-1), 1) := dk_2 (dk_at dksX6_begins_3 13 rfl rfl)
theorem dX6_begins_80 : decode cX6_begins 80 = .ok (.invokevirtual 55, 3) := dk_182 0 55 (dk_at dksX6_begins_3 14 rfl rfl)
theorem dX6_begins_83 : decode cX6_begins 83 = .ok (.putfield 59, 3) := dk_181 0 59 (dk_at dksX6_begins_3 17 rfl rfl)
theorem dX6_begins_86 : decode cX6_begins 86 = .ok (.return_, 1) := dk_177 (dk_at dksX6_begins_3 20 rfl rfl)
abbrev cX6_like : ByteArray := prog_9_method_3_code
def yX6_like : MethodName := ⟨RX6, "like", "(LSpoonRow$Lay;)V"⟩
def dkwX6_like_3 : List UInt8 := [180, 0, 59, 181, 0, 59, 177]
abbrev dktX6_like_3 : List UInt8 := dkwX6_like_3 ++ []
def dkwX6_like_2 : List UInt8 := [180, 0, 18, 181, 0, 18, 42, 43, 180, 0, 48, 181, 0, 48, 42, 43, 180, 0, 54, 181, 0, 54, 42, 43]
abbrev dktX6_like_2 : List UInt8 := dkwX6_like_2 ++ dktX6_like_3
def dkwX6_like_1 : List UInt8 := [3, 16, 7, 184, 0, 63, 42, 43, 180, 0, 34, 181, 0, 34, 42, 43, 180, 0, 45, 181, 0, 45, 42, 43]
abbrev dktX6_like_1 : List UInt8 := dkwX6_like_1 ++ dktX6_like_2
def dkwX6_like_0 : List UInt8 := [43, 180, 0, 9, 3, 42, 180, 0, 9, 3, 16, 7, 184, 0, 63, 43, 180, 0, 15, 3, 42, 180, 0, 15]
abbrev dktX6_like_0 : List UInt8 := dkwX6_like_0 ++ dktX6_like_1
theorem dksX6_like_0 : cX6_like.data.toList.drop 0 = dktX6_like_0 := by decide +kernel
theorem dksX6_like_1 : cX6_like.data.toList.drop 24 = dktX6_like_1 := dk_seg dksX6_like_0 24 rfl rfl
theorem dksX6_like_2 : cX6_like.data.toList.drop 48 = dktX6_like_2 := dk_seg dksX6_like_1 24 rfl rfl
theorem dksX6_like_3 : cX6_like.data.toList.drop 72 = dktX6_like_3 := dk_seg dksX6_like_2 24 rfl rfl
theorem dX6_like_0 : decode cX6_like 0 = .ok (.aload_n 1, 1) := dk_43 (dk_at dksX6_like_0 0 rfl rfl)
theorem dX6_like_1 : decode cX6_like 1 = .ok (.getfield 9, 3) := dk_180 0 9 (dk_at dksX6_like_0 1 rfl rfl)
theorem dX6_like_4 : decode cX6_like 4 = .ok (.iconst 0, 1) := dk_3 (dk_at dksX6_like_0 4 rfl rfl)
theorem dX6_like_5 : decode cX6_like 5 = .ok (.aload_n 0, 1) := dk_42 (dk_at dksX6_like_0 5 rfl rfl)
theorem dX6_like_6 : decode cX6_like 6 = .ok (.getfield 9, 3) := dk_180 0 9 (dk_at dksX6_like_0 6 rfl rfl)
theorem dX6_like_9 : decode cX6_like 9 = .ok (.iconst 0, 1) := dk_3 (dk_at dksX6_like_0 9 rfl rfl)
theorem dX6_like_10 : decode cX6_like 10 = .ok (.bipush 7, 2) := dk_16 7 (dk_at dksX6_like_0 10 rfl rfl)
theorem dX6_like_12 : decode cX6_like 12 = .ok (.invokestatic 63, 3) := dk_184 0 63 (dk_at dksX6_like_0 12 rfl rfl)
theorem dX6_like_15 : decode cX6_like 15 = .ok (.aload_n 1, 1) := dk_43 (dk_at dksX6_like_0 15 rfl rfl)
theorem dX6_like_16 : decode cX6_like 16 = .ok (.getfield 15, 3) := dk_180 0 15 (dk_at dksX6_like_0 16 rfl rfl)
theorem dX6_like_19 : decode cX6_like 19 = .ok (.iconst 0, 1) := dk_3 (dk_at dksX6_like_0 19 rfl rfl)
theorem dX6_like_20 : decode cX6_like 20 = .ok (.aload_n 0, 1) := dk_42 (dk_at dksX6_like_0 20 rfl rfl)
theorem dX6_like_21 : decode cX6_like 21 = .ok (.getfield 15, 3) := dk_180 0 15 (dk_at dksX6_like_0 21 rfl rfl)
theorem dX6_like_24 : decode cX6_like 24 = .ok (.iconst 0, 1) := dk_3 (dk_at dksX6_like_1 0 rfl rfl)
theorem dX6_like_25 : decode cX6_like 25 = .ok (.bipush 7, 2) := dk_16 7 (dk_at dksX6_like_1 1 rfl rfl)
theorem dX6_like_27 : decode cX6_like 27 = .ok (.invokestatic 63, 3) := dk_184 0 63 (dk_at dksX6_like_1 3 rfl rfl)
theorem dX6_like_30 : decode cX6_like 30 = .ok (.aload_n 0, 1) := dk_42 (dk_at dksX6_like_1 6 rfl rfl)
theorem dX6_like_31 : decode cX6_like 31 = .ok (.aload_n 1, 1) := dk_43 (dk_at dksX6_like_1 7 rfl rfl)
theorem dX6_like_32 : decode cX6_like 32 = .ok (.getfield 34, 3) := dk_180 0 34 (dk_at dksX6_like_1 8 rfl rfl)
theorem dX6_like_35 : decode cX6_like 35 = .ok (.putfield 34, 3) := dk_181 0 34 (dk_at dksX6_like_1 11 rfl rfl)
theorem dX6_like_38 : decode cX6_like 38 = .ok (.aload_n 0, 1) := dk_42 (dk_at dksX6_like_1 14 rfl rfl)
theorem dX6_like_39 : decode cX6_like 39 = .ok (.aload_n 1, 1) := dk_43 (dk_at dksX6_like_1 15 rfl rfl)
theorem dX6_like_40 : decode cX6_like 40 = .ok (.getfield 45, 3) := dk_180 0 45 (dk_at dksX6_like_1 16 rfl rfl)
theorem dX6_like_43 : decode cX6_like 43 = .ok (.putfield 45, 3) := dk_181 0 45 (dk_at dksX6_like_1 19 rfl rfl)
theorem dX6_like_46 : decode cX6_like 46 = .ok (.aload_n 0, 1) := dk_42 (dk_at dksX6_like_1 22 rfl rfl)
theorem dX6_like_47 : decode cX6_like 47 = .ok (.aload_n 1, 1) := dk_43 (dk_at dksX6_like_1 23 rfl rfl)
theorem dX6_like_48 : decode cX6_like 48 = .ok (.getfield 18, 3) := dk_180 0 18 (dk_at dksX6_like_2 0 rfl rfl)
theorem dX6_like_51 : decode cX6_like 51 = .ok (.putfield 18, 3) := dk_181 0 18 (dk_at dksX6_like_2 3 rfl rfl)
theorem dX6_like_54 : decode cX6_like 54 = .ok (.aload_n 0, 1) := dk_42 (dk_at dksX6_like_2 6 rfl rfl)
theorem dX6_like_55 : decode cX6_like 55 = .ok (.aload_n 1, 1) := dk_43 (dk_at dksX6_like_2 7 rfl rfl)
theorem dX6_like_56 : decode cX6_like 56 = .ok (.getfield 48, 3) := dk_180 0 48 (dk_at dksX6_like_2 8 rfl rfl)
theorem dX6_like_59 : decode cX6_like 59 = .ok (.putfield 48, 3) := dk_181 0 48 (dk_at dksX6_like_2 11 rfl rfl)
theorem dX6_like_62 : decode cX6_like 62 = .ok (.aload_n 0, 1) := dk_42 (dk_at dksX6_like_2 14 rfl rfl)
theorem dX6_like_63 : decode cX6_like 63 = .ok (.aload_n 1, 1) := dk_43 (dk_at dksX6_like_2 15 rfl rfl)
theorem dX6_like_64 : decode cX6_like 64 = .ok (.getfield 54, 3) := dk_180 0 54 (dk_at dksX6_like_2 16 rfl rfl)
theorem dX6_like_67 : decode cX6_like 67 = .ok (.putfield 54, 3) := dk_181 0 54 (dk_at dksX6_like_2 19 rfl rfl)
theorem dX6_like_70 : decode cX6_like 70 = .ok (.aload_n 0, 1) := dk_42 (dk_at dksX6_like_2 22 rfl rfl)
theorem dX6_like_71 : decode cX6_like 71 = .ok (.aload_n 1, 1) := dk_43 (dk_at dksX6_like_2 23 rfl rfl)
theorem dX6_like_72 : decode cX6_like 72 = .ok (.getfield 59, 3) := dk_180 0 59 (dk_at dksX6_like_3 0 rfl rfl)
theorem dX6_like_75 : decode cX6_like 75 = .ok (.putfield 59, 3) := dk_181 0 59 (dk_at dksX6_like_3 3 rfl rfl)
theorem dX6_like_78 : decode cX6_like 78 = .ok (.return_, 1) := dk_177 (dk_at dksX6_like_3 6 rfl rfl)
abbrev cX6_swap : ByteArray := prog_9_method_6_code
def yX6_swap : MethodName := ⟨RX6, "swap", "(II)V"⟩
def dkwX6_swap_1 : List UInt8 := [29, 79, 177]
abbrev dktX6_swap_1 : List UInt8 := dkwX6_swap_1 ++ []
def dkwX6_swap_0 : List UInt8 := [42, 180, 0, 9, 27, 46, 62, 42, 180, 0, 9, 27, 42, 180, 0, 9, 28, 46, 79, 42, 180, 0, 9, 28]
abbrev dktX6_swap_0 : List UInt8 := dkwX6_swap_0 ++ dktX6_swap_1
theorem dksX6_swap_0 : cX6_swap.data.toList.drop 0 = dktX6_swap_0 := by decide +kernel
theorem dksX6_swap_1 : cX6_swap.data.toList.drop 24 = dktX6_swap_1 := dk_seg dksX6_swap_0 24 rfl rfl
theorem dX6_swap_0 : decode cX6_swap 0 = .ok (.aload_n 0, 1) := dk_42 (dk_at dksX6_swap_0 0 rfl rfl)
theorem dX6_swap_1 : decode cX6_swap 1 = .ok (.getfield 9, 3) := dk_180 0 9 (dk_at dksX6_swap_0 1 rfl rfl)
theorem dX6_swap_4 : decode cX6_swap 4 = .ok (.iload_n 1, 1) := dk_27 (dk_at dksX6_swap_0 4 rfl rfl)
theorem dX6_swap_5 : decode cX6_swap 5 = .ok (.iaload, 1) := dk_46 (dk_at dksX6_swap_0 5 rfl rfl)
theorem dX6_swap_6 : decode cX6_swap 6 = .ok (.istore_n 3, 1) := dk_62 (dk_at dksX6_swap_0 6 rfl rfl)
theorem dX6_swap_7 : decode cX6_swap 7 = .ok (.aload_n 0, 1) := dk_42 (dk_at dksX6_swap_0 7 rfl rfl)
theorem dX6_swap_8 : decode cX6_swap 8 = .ok (.getfield 9, 3) := dk_180 0 9 (dk_at dksX6_swap_0 8 rfl rfl)
theorem dX6_swap_11 : decode cX6_swap 11 = .ok (.iload_n 1, 1) := dk_27 (dk_at dksX6_swap_0 11 rfl rfl)
theorem dX6_swap_12 : decode cX6_swap 12 = .ok (.aload_n 0, 1) := dk_42 (dk_at dksX6_swap_0 12 rfl rfl)
theorem dX6_swap_13 : decode cX6_swap 13 = .ok (.getfield 9, 3) := dk_180 0 9 (dk_at dksX6_swap_0 13 rfl rfl)
theorem dX6_swap_16 : decode cX6_swap 16 = .ok (.iload_n 2, 1) := dk_28 (dk_at dksX6_swap_0 16 rfl rfl)
theorem dX6_swap_17 : decode cX6_swap 17 = .ok (.iaload, 1) := dk_46 (dk_at dksX6_swap_0 17 rfl rfl)
theorem dX6_swap_18 : decode cX6_swap 18 = .ok (.iastore, 1) := dk_79 (dk_at dksX6_swap_0 18 rfl rfl)
theorem dX6_swap_19 : decode cX6_swap 19 = .ok (.aload_n 0, 1) := dk_42 (dk_at dksX6_swap_0 19 rfl rfl)
theorem dX6_swap_20 : decode cX6_swap 20 = .ok (.getfield 9, 3) := dk_180 0 9 (dk_at dksX6_swap_0 20 rfl rfl)
theorem dX6_swap_23 : decode cX6_swap 23 = .ok (.iload_n 2, 1) := dk_28 (dk_at dksX6_swap_0 23 rfl rfl)
theorem dX6_swap_24 : decode cX6_swap 24 = .ok (.iload_n 3, 1) := dk_29 (dk_at dksX6_swap_1 0 rfl rfl)
theorem dX6_swap_25 : decode cX6_swap 25 = .ok (.iastore, 1) := dk_79 (dk_at dksX6_swap_1 1 rfl rfl)
theorem dX6_swap_26 : decode cX6_swap 26 = .ok (.return_, 1) := dk_177 (dk_at dksX6_swap_1 2 rfl rfl)
abbrev cX6_placeOf : ByteArray := prog_9_method_4_code
def yX6_placeOf : MethodName := ⟨RX6, "placeOf", "(I)I"⟩
def dkwX6_placeOf_1 : List UInt8 := [132, 2, 1, 167, 255, 233, 2, 172]
abbrev dktX6_placeOf_1 : List UInt8 := dkwX6_placeOf_1 ++ []
def dkwX6_placeOf_0 : List UInt8 := [3, 61, 28, 42, 180, 0, 34, 162, 0, 21, 42, 180, 0, 9, 28, 46, 27, 160, 0, 5, 28, 172]
abbrev dktX6_placeOf_0 : List UInt8 := dkwX6_placeOf_0 ++ dktX6_placeOf_1
theorem dksX6_placeOf_0 : cX6_placeOf.data.toList.drop 0 = dktX6_placeOf_0 := by decide +kernel
theorem dksX6_placeOf_1 : cX6_placeOf.data.toList.drop 22 = dktX6_placeOf_1 := dk_seg dksX6_placeOf_0 22 rfl rfl
theorem dX6_placeOf_0 : decode cX6_placeOf 0 = .ok (.iconst 0, 1) := dk_3 (dk_at dksX6_placeOf_0 0 rfl rfl)
theorem dX6_placeOf_1 : decode cX6_placeOf 1 = .ok (.istore_n 2, 1) := dk_61 (dk_at dksX6_placeOf_0 1 rfl rfl)
theorem dX6_placeOf_2 : decode cX6_placeOf 2 = .ok (.iload_n 2, 1) := dk_28 (dk_at dksX6_placeOf_0 2 rfl rfl)
theorem dX6_placeOf_3 : decode cX6_placeOf 3 = .ok (.aload_n 0, 1) := dk_42 (dk_at dksX6_placeOf_0 3 rfl rfl)
theorem dX6_placeOf_4 : decode cX6_placeOf 4 = .ok (.getfield 34, 3) := dk_180 0 34 (dk_at dksX6_placeOf_0 4 rfl rfl)
theorem dX6_placeOf_7 : decode cX6_placeOf 7 = .ok (.if_icmp .ge 21, 3) := dk_162 0 21 (dk_at dksX6_placeOf_0 7 rfl rfl)
theorem dX6_placeOf_10 : decode cX6_placeOf 10 = .ok (.aload_n 0, 1) := dk_42 (dk_at dksX6_placeOf_0 10 rfl rfl)
theorem dX6_placeOf_11 : decode cX6_placeOf 11 = .ok (.getfield 9, 3) := dk_180 0 9 (dk_at dksX6_placeOf_0 11 rfl rfl)
theorem dX6_placeOf_14 : decode cX6_placeOf 14 = .ok (.iload_n 2, 1) := dk_28 (dk_at dksX6_placeOf_0 14 rfl rfl)
theorem dX6_placeOf_15 : decode cX6_placeOf 15 = .ok (.iaload, 1) := dk_46 (dk_at dksX6_placeOf_0 15 rfl rfl)
theorem dX6_placeOf_16 : decode cX6_placeOf 16 = .ok (.iload_n 1, 1) := dk_27 (dk_at dksX6_placeOf_0 16 rfl rfl)
theorem dX6_placeOf_17 : decode cX6_placeOf 17 = .ok (.if_icmp .ne 5, 3) := dk_160 0 5 (dk_at dksX6_placeOf_0 17 rfl rfl)
theorem dX6_placeOf_20 : decode cX6_placeOf 20 = .ok (.iload_n 2, 1) := dk_28 (dk_at dksX6_placeOf_0 20 rfl rfl)
theorem dX6_placeOf_21 : decode cX6_placeOf 21 = .ok (.ireturn, 1) := dk_172 (dk_at dksX6_placeOf_0 21 rfl rfl)
theorem dX6_placeOf_22 : decode cX6_placeOf 22 = .ok (.iinc 2 1, 3) := dk_132 2 1 (dk_at dksX6_placeOf_1 0 rfl rfl)
theorem dX6_placeOf_25 : decode cX6_placeOf 25 = .ok (.goto (-23), 3) := dk_167 255 233 (dk_at dksX6_placeOf_1 3 rfl rfl)
theorem dX6_placeOf_28 : decode cX6_placeOf 28 = .ok (.iconst (-1), 1) := dk_2 (dk_at dksX6_placeOf_1 6 rfl rfl)
theorem dX6_placeOf_29 : decode cX6_placeOf 29 = .ok (.ireturn, 1) := dk_172 (dk_at dksX6_placeOf_1 7 rfl rfl)
abbrev cX6_isApart : ByteArray := prog_9_method_5_code
def yX6_isApart : MethodName := ⟨RX6, "isApart", "(I)Z"⟩
def dkwX6_isApart_1 : List UInt8 := [167, 0, 4, 3, 172]
abbrev dktX6_isApart_1 : List UInt8 := dkwX6_isApart_1 ++ []
def dkwX6_isApart_0 : List UInt8 := [27, 153, 0, 22, 42, 180, 0, 59, 154, 0, 15, 42, 180, 0, 54, 27, 122, 4, 126, 4, 160, 0, 7, 4]
abbrev dktX6_isApart_0 : List UInt8 := dkwX6_isApart_0 ++ dktX6_isApart_1
theorem dksX6_isApart_0 : cX6_isApart.data.toList.drop 0 = dktX6_isApart_0 := by decide +kernel
theorem dksX6_isApart_1 : cX6_isApart.data.toList.drop 24 = dktX6_isApart_1 := dk_seg dksX6_isApart_0 24 rfl rfl
theorem dX6_isApart_0 : decode cX6_isApart 0 = .ok (.iload_n 1, 1) := dk_27 (dk_at dksX6_isApart_0 0 rfl rfl)
theorem dX6_isApart_1 : decode cX6_isApart 1 = .ok (.ifCond .eq 22, 3) := dk_153 0 22 (dk_at dksX6_isApart_0 1 rfl rfl)
theorem dX6_isApart_4 : decode cX6_isApart 4 = .ok (.aload_n 0, 1) := dk_42 (dk_at dksX6_isApart_0 4 rfl rfl)
theorem dX6_isApart_5 : decode cX6_isApart 5 = .ok (.getfield 59, 3) := dk_180 0 59 (dk_at dksX6_isApart_0 5 rfl rfl)
theorem dX6_isApart_8 : decode cX6_isApart 8 = .ok (.ifCond .ne 15, 3) := dk_154 0 15 (dk_at dksX6_isApart_0 8 rfl rfl)
theorem dX6_isApart_11 : decode cX6_isApart 11 = .ok (.aload_n 0, 1) := dk_42 (dk_at dksX6_isApart_0 11 rfl rfl)
theorem dX6_isApart_12 : decode cX6_isApart 12 = .ok (.getfield 54, 3) := dk_180 0 54 (dk_at dksX6_isApart_0 12 rfl rfl)
theorem dX6_isApart_15 : decode cX6_isApart 15 = .ok (.iload_n 1, 1) := dk_27 (dk_at dksX6_isApart_0 15 rfl rfl)
theorem dX6_isApart_16 : decode cX6_isApart 16 = .ok (.ishr, 1) := dk_122 (dk_at dksX6_isApart_0 16 rfl rfl)
theorem dX6_isApart_17 : decode cX6_isApart 17 = .ok (.iconst 1, 1) := dk_4 (dk_at dksX6_isApart_0 17 rfl rfl)
theorem dX6_isApart_18 : decode cX6_isApart 18 = .ok (.iand, 1) := dk_126 (dk_at dksX6_isApart_0 18 rfl rfl)
theorem dX6_isApart_19 : decode cX6_isApart 19 = .ok (.iconst 1, 1) := dk_4 (dk_at dksX6_isApart_0 19 rfl rfl)
theorem dX6_isApart_20 : decode cX6_isApart 20 = .ok (.if_icmp .ne 7, 3) := dk_160 0 7 (dk_at dksX6_isApart_0 20 rfl rfl)
theorem dX6_isApart_23 : decode cX6_isApart 23 = .ok (.iconst 1, 1) := dk_4 (dk_at dksX6_isApart_0 23 rfl rfl)
theorem dX6_isApart_24 : decode cX6_isApart 24 = .ok (.goto 4, 3) := dk_167 0 4 (dk_at dksX6_isApart_1 0 rfl rfl)
theorem dX6_isApart_27 : decode cX6_isApart 27 = .ok (.iconst 0, 1) := dk_3 (dk_at dksX6_isApart_1 3 rfl rfl)
theorem dX6_isApart_28 : decode cX6_isApart 28 = .ok (.ireturn, 1) := dk_172 (dk_at dksX6_isApart_1 4 rfl rfl)
abbrev cX6_goesRound : ByteArray := prog_9_method_7_code
def yX6_goesRound : MethodName := ⟨RX6, "goesRound", "()V"⟩
def dkwX6_goesRound_1 : List UInt8 := [167, 255, 241, 177]
abbrev dktX6_goesRound_1 : List UInt8 := dkwX6_goesRound_1 ++ []
def dkwX6_goesRound_0 : List UInt8 := [42, 180, 0, 34, 4, 100, 60, 27, 158, 0, 17, 42, 27, 27, 4, 100, 182, 0, 69, 132, 1, 255]
abbrev dktX6_goesRound_0 : List UInt8 := dkwX6_goesRound_0 ++ dktX6_goesRound_1
theorem dksX6_goesRound_0 : cX6_goesRound.data.toList.drop 0 = dktX6_goesRound_0 := by decide +kernel
theorem dksX6_goesRound_1 : cX6_goesRound.data.toList.drop 22 = dktX6_goesRound_1 := dk_seg dksX6_goesRound_0 22 rfl rfl
theorem dX6_goesRound_0 : decode cX6_goesRound 0 = .ok (.aload_n 0, 1) := dk_42 (dk_at dksX6_goesRound_0 0 rfl rfl)
theorem dX6_goesRound_1 : decode cX6_goesRound 1 = .ok (.getfield 34, 3) := dk_180 0 34 (dk_at dksX6_goesRound_0 1 rfl rfl)
theorem dX6_goesRound_4 : decode cX6_goesRound 4 = .ok (.iconst 1, 1) := dk_4 (dk_at dksX6_goesRound_0 4 rfl rfl)
theorem dX6_goesRound_5 : decode cX6_goesRound 5 = .ok (.isub, 1) := dk_100 (dk_at dksX6_goesRound_0 5 rfl rfl)
theorem dX6_goesRound_6 : decode cX6_goesRound 6 = .ok (.istore_n 1, 1) := dk_60 (dk_at dksX6_goesRound_0 6 rfl rfl)
theorem dX6_goesRound_7 : decode cX6_goesRound 7 = .ok (.iload_n 1, 1) := dk_27 (dk_at dksX6_goesRound_0 7 rfl rfl)
theorem dX6_goesRound_8 : decode cX6_goesRound 8 = .ok (.ifCond .le 17, 3) := dk_158 0 17 (dk_at dksX6_goesRound_0 8 rfl rfl)
theorem dX6_goesRound_11 : decode cX6_goesRound 11 = .ok (.aload_n 0, 1) := dk_42 (dk_at dksX6_goesRound_0 11 rfl rfl)
theorem dX6_goesRound_12 : decode cX6_goesRound 12 = .ok (.iload_n 1, 1) := dk_27 (dk_at dksX6_goesRound_0 12 rfl rfl)
theorem dX6_goesRound_13 : decode cX6_goesRound 13 = .ok (.iload_n 1, 1) := dk_27 (dk_at dksX6_goesRound_0 13 rfl rfl)
theorem dX6_goesRound_14 : decode cX6_goesRound 14 = .ok (.iconst 1, 1) := dk_4 (dk_at dksX6_goesRound_0 14 rfl rfl)
theorem dX6_goesRound_15 : decode cX6_goesRound 15 = .ok (.isub, 1) := dk_100 (dk_at dksX6_goesRound_0 15 rfl rfl)
theorem dX6_goesRound_16 : decode cX6_goesRound 16 = .ok (.invokevirtual 69, 3) := dk_182 0 69 (dk_at dksX6_goesRound_0 16 rfl rfl)
theorem dX6_goesRound_19 : decode cX6_goesRound 19 = .ok (.iinc 1 (-1), 3) := dk_132 1 255 (dk_at dksX6_goesRound_0 19 rfl rfl)
theorem dX6_goesRound_22 : decode cX6_goesRound 22 = .ok (.goto (-15), 3) := dk_167 255 241 (dk_at dksX6_goesRound_1 0 rfl rfl)
theorem dX6_goesRound_25 : decode cX6_goesRound 25 = .ok (.return_, 1) := dk_177 (dk_at dksX6_goesRound_1 3 rfl rfl)
abbrev cX6_leaves : ByteArray := prog_9_method_8_code
def yX6_leaves : MethodName := ⟨RX6, "leaves", "(I)V"⟩
def dkwX6_leaves_1 : List UInt8 := [46, 79, 132, 2, 1, 167, 255, 229, 42, 89, 180, 0, 34, 4, 100, 181, 0, 34, 177]
abbrev dktX6_leaves_1 : List UInt8 := dkwX6_leaves_1 ++ []
def dkwX6_leaves_0 : List UInt8 := [27, 61, 28, 4, 96, 42, 180, 0, 34, 162, 0, 23, 42, 180, 0, 9, 28, 42, 180, 0, 9, 28, 4, 96]
abbrev dktX6_leaves_0 : List UInt8 := dkwX6_leaves_0 ++ dktX6_leaves_1
theorem dksX6_leaves_0 : cX6_leaves.data.toList.drop 0 = dktX6_leaves_0 := by decide +kernel
theorem dksX6_leaves_1 : cX6_leaves.data.toList.drop 24 = dktX6_leaves_1 := dk_seg dksX6_leaves_0 24 rfl rfl
theorem dX6_leaves_0 : decode cX6_leaves 0 = .ok (.iload_n 1, 1) := dk_27 (dk_at dksX6_leaves_0 0 rfl rfl)
theorem dX6_leaves_1 : decode cX6_leaves 1 = .ok (.istore_n 2, 1) := dk_61 (dk_at dksX6_leaves_0 1 rfl rfl)
theorem dX6_leaves_2 : decode cX6_leaves 2 = .ok (.iload_n 2, 1) := dk_28 (dk_at dksX6_leaves_0 2 rfl rfl)
theorem dX6_leaves_3 : decode cX6_leaves 3 = .ok (.iconst 1, 1) := dk_4 (dk_at dksX6_leaves_0 3 rfl rfl)
theorem dX6_leaves_4 : decode cX6_leaves 4 = .ok (.iadd, 1) := dk_96 (dk_at dksX6_leaves_0 4 rfl rfl)
theorem dX6_leaves_5 : decode cX6_leaves 5 = .ok (.aload_n 0, 1) := dk_42 (dk_at dksX6_leaves_0 5 rfl rfl)
theorem dX6_leaves_6 : decode cX6_leaves 6 = .ok (.getfield 34, 3) := dk_180 0 34 (dk_at dksX6_leaves_0 6 rfl rfl)
theorem dX6_leaves_9 : decode cX6_leaves 9 = .ok (.if_icmp .ge 23, 3) := dk_162 0 23 (dk_at dksX6_leaves_0 9 rfl rfl)
theorem dX6_leaves_12 : decode cX6_leaves 12 = .ok (.aload_n 0, 1) := dk_42 (dk_at dksX6_leaves_0 12 rfl rfl)
theorem dX6_leaves_13 : decode cX6_leaves 13 = .ok (.getfield 9, 3) := dk_180 0 9 (dk_at dksX6_leaves_0 13 rfl rfl)
theorem dX6_leaves_16 : decode cX6_leaves 16 = .ok (.iload_n 2, 1) := dk_28 (dk_at dksX6_leaves_0 16 rfl rfl)
theorem dX6_leaves_17 : decode cX6_leaves 17 = .ok (.aload_n 0, 1) := dk_42 (dk_at dksX6_leaves_0 17 rfl rfl)
theorem dX6_leaves_18 : decode cX6_leaves 18 = .ok (.getfield 9, 3) := dk_180 0 9 (dk_at dksX6_leaves_0 18 rfl rfl)
theorem dX6_leaves_21 : decode cX6_leaves 21 = .ok (.iload_n 2, 1) := dk_28 (dk_at dksX6_leaves_0 21 rfl rfl)
theorem dX6_leaves_22 : decode cX6_leaves 22 = .ok (.iconst 1, 1) := dk_4 (dk_at dksX6_leaves_0 22 rfl rfl)
theorem dX6_leaves_23 : decode cX6_leaves 23 = .ok (.iadd, 1) := dk_96 (dk_at dksX6_leaves_0 23 rfl rfl)
theorem dX6_leaves_24 : decode cX6_leaves 24 = .ok (.iaload, 1) := dk_46 (dk_at dksX6_leaves_1 0 rfl rfl)
theorem dX6_leaves_25 : decode cX6_leaves 25 = .ok (.iastore, 1) := dk_79 (dk_at dksX6_leaves_1 1 rfl rfl)
theorem dX6_leaves_26 : decode cX6_leaves 26 = .ok (.iinc 2 1, 3) := dk_132 2 1 (dk_at dksX6_leaves_1 2 rfl rfl)
theorem dX6_leaves_29 : decode cX6_leaves 29 = .ok (.goto (-27), 3) := dk_167 255 229 (dk_at dksX6_leaves_1 5 rfl rfl)
theorem dX6_leaves_32 : decode cX6_leaves 32 = .ok (.aload_n 0, 1) := dk_42 (dk_at dksX6_leaves_1 8 rfl rfl)
theorem dX6_leaves_33 : decode cX6_leaves 33 = .ok (.dup, 1) := dk_89 (dk_at dksX6_leaves_1 9 rfl rfl)
theorem dX6_leaves_34 : decode cX6_leaves 34 = .ok (.getfield 34, 3) := dk_180 0 34 (dk_at dksX6_leaves_1 10 rfl rfl)
theorem dX6_leaves_37 : decode cX6_leaves 37 = .ok (.iconst 1, 1) := dk_4 (dk_at dksX6_leaves_1 13 rfl rfl)
theorem dX6_leaves_38 : decode cX6_leaves 38 = .ok (.isub, 1) := dk_100 (dk_at dksX6_leaves_1 14 rfl rfl)
theorem dX6_leaves_39 : decode cX6_leaves 39 = .ok (.putfield 34, 3) := dk_181 0 34 (dk_at dksX6_leaves_1 15 rfl rfl)
theorem dX6_leaves_42 : decode cX6_leaves 42 = .ok (.return_, 1) := dk_177 (dk_at dksX6_leaves_1 18 rfl rfl)
/-! SpoonRow$Night: codes (from claim/names) -/
abbrev cX7_init : ByteArray := prog_10_method_1_code
def yX7_init : MethodName := ⟨RX7, "<init>", "(LSpoonRow$Bed;LSpoonRow$Lay;[I[I[I[I)V"⟩
def dkwX7_init_3 : List UInt8 := [181, 0, 41, 42, 25, 6, 181, 0, 44, 177]
abbrev dktX7_init_3 : List UInt8 := dkwX7_init_3 ++ []
def dkwX7_init_2 : List UInt8 := [181, 0, 27, 42, 44, 181, 0, 31, 42, 45, 181, 0, 35, 42, 25, 4, 181, 0, 38, 42, 25, 5]
abbrev dktX7_init_2 : List UInt8 := dkwX7_init_2 ++ dktX7_init_3
def dkwX7_init_1 : List UInt8 := [188, 10, 181, 0, 18, 42, 16, 7, 188, 10, 181, 0, 21, 42, 16, 7, 188, 10, 181, 0, 24, 42, 43]
abbrev dktX7_init_1 : List UInt8 := dkwX7_init_1 ++ dktX7_init_2
def dkwX7_init_0 : List UInt8 := [42, 183, 0, 3, 42, 16, 7, 188, 10, 181, 0, 9, 42, 16, 7, 188, 10, 181, 0, 15, 42, 16, 7]
abbrev dktX7_init_0 : List UInt8 := dkwX7_init_0 ++ dktX7_init_1
theorem dksX7_init_0 : cX7_init.data.toList.drop 0 = dktX7_init_0 := by decide +kernel
theorem dksX7_init_1 : cX7_init.data.toList.drop 23 = dktX7_init_1 := dk_seg dksX7_init_0 23 rfl rfl
theorem dksX7_init_2 : cX7_init.data.toList.drop 46 = dktX7_init_2 := dk_seg dksX7_init_1 23 rfl rfl
theorem dksX7_init_3 : cX7_init.data.toList.drop 68 = dktX7_init_3 := dk_seg dksX7_init_2 22 rfl rfl
theorem dX7_init_0 : decode cX7_init 0 = .ok (.aload_n 0, 1) := dk_42 (dk_at dksX7_init_0 0 rfl rfl)
theorem dX7_init_1 : decode cX7_init 1 = .ok (.invokespecial 3, 3) := dk_183 0 3 (dk_at dksX7_init_0 1 rfl rfl)
theorem dX7_init_4 : decode cX7_init 4 = .ok (.aload_n 0, 1) := dk_42 (dk_at dksX7_init_0 4 rfl rfl)
theorem dX7_init_5 : decode cX7_init 5 = .ok (.bipush 7, 2) := dk_16 7 (dk_at dksX7_init_0 5 rfl rfl)
theorem dX7_init_7 : decode cX7_init 7 = .ok (.newarray .int, 2) := dk_188_10 (dk_at dksX7_init_0 7 rfl rfl)
theorem dX7_init_9 : decode cX7_init 9 = .ok (.putfield 9, 3) := dk_181 0 9 (dk_at dksX7_init_0 9 rfl rfl)
theorem dX7_init_12 : decode cX7_init 12 = .ok (.aload_n 0, 1) := dk_42 (dk_at dksX7_init_0 12 rfl rfl)
theorem dX7_init_13 : decode cX7_init 13 = .ok (.bipush 7, 2) := dk_16 7 (dk_at dksX7_init_0 13 rfl rfl)
theorem dX7_init_15 : decode cX7_init 15 = .ok (.newarray .int, 2) := dk_188_10 (dk_at dksX7_init_0 15 rfl rfl)
theorem dX7_init_17 : decode cX7_init 17 = .ok (.putfield 15, 3) := dk_181 0 15 (dk_at dksX7_init_0 17 rfl rfl)
theorem dX7_init_20 : decode cX7_init 20 = .ok (.aload_n 0, 1) := dk_42 (dk_at dksX7_init_0 20 rfl rfl)
theorem dX7_init_21 : decode cX7_init 21 = .ok (.bipush 7, 2) := dk_16 7 (dk_at dksX7_init_0 21 rfl rfl)
theorem dX7_init_23 : decode cX7_init 23 = .ok (.newarray .int, 2) := dk_188_10 (dk_at dksX7_init_1 0 rfl rfl)
theorem dX7_init_25 : decode cX7_init 25 = .ok (.putfield 18, 3) := dk_181 0 18 (dk_at dksX7_init_1 2 rfl rfl)
theorem dX7_init_28 : decode cX7_init 28 = .ok (.aload_n 0, 1) := dk_42 (dk_at dksX7_init_1 5 rfl rfl)
theorem dX7_init_29 : decode cX7_init 29 = .ok (.bipush 7, 2) := dk_16 7 (dk_at dksX7_init_1 6 rfl rfl)
theorem dX7_init_31 : decode cX7_init 31 = .ok (.newarray .int, 2) := dk_188_10 (dk_at dksX7_init_1 8 rfl rfl)
theorem dX7_init_33 : decode cX7_init 33 = .ok (.putfield 21, 3) := dk_181 0 21 (dk_at dksX7_init_1 10 rfl rfl)
theorem dX7_init_36 : decode cX7_init 36 = .ok (.aload_n 0, 1) := dk_42 (dk_at dksX7_init_1 13 rfl rfl)
theorem dX7_init_37 : decode cX7_init 37 = .ok (.bipush 7, 2) := dk_16 7 (dk_at dksX7_init_1 14 rfl rfl)
theorem dX7_init_39 : decode cX7_init 39 = .ok (.newarray .int, 2) := dk_188_10 (dk_at dksX7_init_1 16 rfl rfl)
theorem dX7_init_41 : decode cX7_init 41 = .ok (.putfield 24, 3) := dk_181 0 24 (dk_at dksX7_init_1 18 rfl rfl)
theorem dX7_init_44 : decode cX7_init 44 = .ok (.aload_n 0, 1) := dk_42 (dk_at dksX7_init_1 21 rfl rfl)
theorem dX7_init_45 : decode cX7_init 45 = .ok (.aload_n 1, 1) := dk_43 (dk_at dksX7_init_1 22 rfl rfl)
theorem dX7_init_46 : decode cX7_init 46 = .ok (.putfield 27, 3) := dk_181 0 27 (dk_at dksX7_init_2 0 rfl rfl)
theorem dX7_init_49 : decode cX7_init 49 = .ok (.aload_n 0, 1) := dk_42 (dk_at dksX7_init_2 3 rfl rfl)
theorem dX7_init_50 : decode cX7_init 50 = .ok (.aload_n 2, 1) := dk_44 (dk_at dksX7_init_2 4 rfl rfl)
theorem dX7_init_51 : decode cX7_init 51 = .ok (.putfield 31, 3) := dk_181 0 31 (dk_at dksX7_init_2 5 rfl rfl)
theorem dX7_init_54 : decode cX7_init 54 = .ok (.aload_n 0, 1) := dk_42 (dk_at dksX7_init_2 8 rfl rfl)
theorem dX7_init_55 : decode cX7_init 55 = .ok (.aload_n 3, 1) := dk_45 (dk_at dksX7_init_2 9 rfl rfl)
theorem dX7_init_56 : decode cX7_init 56 = .ok (.putfield 35, 3) := dk_181 0 35 (dk_at dksX7_init_2 10 rfl rfl)
theorem dX7_init_59 : decode cX7_init 59 = .ok (.aload_n 0, 1) := dk_42 (dk_at dksX7_init_2 13 rfl rfl)
theorem dX7_init_60 : decode cX7_init 60 = .ok (.aload 4, 2) := dk_25 4 (dk_at dksX7_init_2 14 rfl rfl)
theorem dX7_init_62 : decode cX7_init 62 = .ok (.putfield 38, 3) := dk_181 0 38 (dk_at dksX7_init_2 16 rfl rfl)
theorem dX7_init_65 : decode cX7_init 65 = .ok (.aload_n 0, 1) := dk_42 (dk_at dksX7_init_2 19 rfl rfl)
theorem dX7_init_66 : decode cX7_init 66 = .ok (.aload 5, 2) := dk_25 5 (dk_at dksX7_init_2 20 rfl rfl)
theorem dX7_init_68 : decode cX7_init 68 = .ok (.putfield 41, 3) := dk_181 0 41 (dk_at dksX7_init_3 0 rfl rfl)
theorem dX7_init_71 : decode cX7_init 71 = .ok (.aload_n 0, 1) := dk_42 (dk_at dksX7_init_3 3 rfl rfl)
theorem dX7_init_72 : decode cX7_init 72 = .ok (.aload 6, 2) := dk_25 6 (dk_at dksX7_init_3 4 rfl rfl)
theorem dX7_init_74 : decode cX7_init 74 = .ok (.putfield 44, 3) := dk_181 0 44 (dk_at dksX7_init_3 6 rfl rfl)
theorem dX7_init_77 : decode cX7_init 77 = .ok (.return_, 1) := dk_177 (dk_at dksX7_init_3 9 rfl rfl)
abbrev cX7_all : ByteArray := prog_10_method_13_code
def yX7_all : MethodName := ⟨RX7, "all", "()V"⟩
def dkwX7_all_0 : List UInt8 := [42, 42, 180, 0, 27, 180, 0, 204, 182, 0, 207, 177]
abbrev dktX7_all_0 : List UInt8 := dkwX7_all_0 ++ []
theorem dksX7_all_0 : cX7_all.data.toList.drop 0 = dktX7_all_0 := by decide +kernel
theorem dX7_all_0 : decode cX7_all 0 = .ok (.aload_n 0, 1) := dk_42 (dk_at dksX7_all_0 0 rfl rfl)
theorem dX7_all_1 : decode cX7_all 1 = .ok (.aload_n 0, 1) := dk_42 (dk_at dksX7_all_0 1 rfl rfl)
theorem dX7_all_2 : decode cX7_all 2 = .ok (.getfield 27, 3) := dk_180 0 27 (dk_at dksX7_all_0 2 rfl rfl)
theorem dX7_all_5 : decode cX7_all 5 = .ok (.getfield 204, 3) := dk_180 0 204 (dk_at dksX7_all_0 5 rfl rfl)
theorem dX7_all_8 : decode cX7_all 8 = .ok (.invokevirtual 207, 3) := dk_182 0 207 (dk_at dksX7_all_0 8 rfl rfl)
theorem dX7_all_11 : decode cX7_all 11 = .ok (.return_, 1) := dk_177 (dk_at dksX7_all_0 11 rfl rfl)
abbrev cX7_goesTo : ByteArray := prog_10_method_12_code
def yX7_goesTo : MethodName := ⟨RX7, "goesTo", "(I)V"⟩
def dkwX7_goesTo_0 : List UInt8 := [42, 182, 0, 198, 42, 180, 0, 47, 27, 162, 0, 10, 42, 182, 0, 201, 167, 255, 244, 177]
abbrev dktX7_goesTo_0 : List UInt8 := dkwX7_goesTo_0 ++ []
theorem dksX7_goesTo_0 : cX7_goesTo.data.toList.drop 0 = dktX7_goesTo_0 := by decide +kernel
theorem dX7_goesTo_0 : decode cX7_goesTo 0 = .ok (.aload_n 0, 1) := dk_42 (dk_at dksX7_goesTo_0 0 rfl rfl)
theorem dX7_goesTo_1 : decode cX7_goesTo 1 = .ok (.invokevirtual 198, 3) := dk_182 0 198 (dk_at dksX7_goesTo_0 1 rfl rfl)
theorem dX7_goesTo_4 : decode cX7_goesTo 4 = .ok (.aload_n 0, 1) := dk_42 (dk_at dksX7_goesTo_0 4 rfl rfl)
theorem dX7_goesTo_5 : decode cX7_goesTo 5 = .ok (.getfield 47, 3) := dk_180 0 47 (dk_at dksX7_goesTo_0 5 rfl rfl)
theorem dX7_goesTo_8 : decode cX7_goesTo 8 = .ok (.iload_n 1, 1) := dk_27 (dk_at dksX7_goesTo_0 8 rfl rfl)
theorem dX7_goesTo_9 : decode cX7_goesTo 9 = .ok (.if_icmp .ge 10, 3) := dk_162 0 10 (dk_at dksX7_goesTo_0 9 rfl rfl)
theorem dX7_goesTo_12 : decode cX7_goesTo 12 = .ok (.aload_n 0, 1) := dk_42 (dk_at dksX7_goesTo_0 12 rfl rfl)
theorem dX7_goesTo_13 : decode cX7_goesTo 13 = .ok (.invokevirtual 201, 3) := dk_182 0 201 (dk_at dksX7_goesTo_0 13 rfl rfl)
theorem dX7_goesTo_16 : decode cX7_goesTo 16 = .ok (.goto (-12), 3) := dk_167 255 244 (dk_at dksX7_goesTo_0 16 rfl rfl)
theorem dX7_goesTo_19 : decode cX7_goesTo 19 = .ok (.return_, 1) := dk_177 (dk_at dksX7_goesTo_0 19 rfl rfl)
abbrev cX7_begins : ByteArray := prog_10_method_10_code
def yX7_begins : MethodName := ⟨RX7, "begins", "()V"⟩
def dkwX7_begins_3 : List UInt8 := [42, 3, 181, 0, 47, 177]
abbrev dktX7_begins_3 : List UInt8 := dkwX7_begins_3 ++ []
def dkwX7_begins_2 : List UInt8 := [27, 3, 79, 132, 1, 1, 167, 255, 206, 42, 3, 181, 0, 109, 42, 3, 181, 0, 187, 42, 3, 181, 0, 159]
abbrev dktX7_begins_2 : List UInt8 := dkwX7_begins_2 ++ dktX7_begins_3
def dkwX7_begins_1 : List UInt8 := [180, 0, 15, 27, 3, 79, 42, 180, 0, 18, 27, 3, 79, 42, 180, 0, 21, 27, 2, 79, 42, 180, 0, 24]
abbrev dktX7_begins_1 : List UInt8 := dkwX7_begins_1 ++ dktX7_begins_2
def dkwX7_begins_0 : List UInt8 := [3, 60, 27, 16, 7, 162, 0, 50, 42, 180, 0, 9, 27, 42, 180, 0, 31, 180, 0, 193, 79, 42]
abbrev dktX7_begins_0 : List UInt8 := dkwX7_begins_0 ++ dktX7_begins_1
theorem dksX7_begins_0 : cX7_begins.data.toList.drop 0 = dktX7_begins_0 := by decide +kernel
theorem dksX7_begins_1 : cX7_begins.data.toList.drop 22 = dktX7_begins_1 := dk_seg dksX7_begins_0 22 rfl rfl
theorem dksX7_begins_2 : cX7_begins.data.toList.drop 46 = dktX7_begins_2 := dk_seg dksX7_begins_1 24 rfl rfl
theorem dksX7_begins_3 : cX7_begins.data.toList.drop 70 = dktX7_begins_3 := dk_seg dksX7_begins_2 24 rfl rfl
theorem dX7_begins_0 : decode cX7_begins 0 = .ok (.iconst 0, 1) := dk_3 (dk_at dksX7_begins_0 0 rfl rfl)
theorem dX7_begins_1 : decode cX7_begins 1 = .ok (.istore_n 1, 1) := dk_60 (dk_at dksX7_begins_0 1 rfl rfl)
theorem dX7_begins_2 : decode cX7_begins 2 = .ok (.iload_n 1, 1) := dk_27 (dk_at dksX7_begins_0 2 rfl rfl)
theorem dX7_begins_3 : decode cX7_begins 3 = .ok (.bipush 7, 2) := dk_16 7 (dk_at dksX7_begins_0 3 rfl rfl)
theorem dX7_begins_5 : decode cX7_begins 5 = .ok (.if_icmp .ge 50, 3) := dk_162 0 50 (dk_at dksX7_begins_0 5 rfl rfl)
theorem dX7_begins_8 : decode cX7_begins 8 = .ok (.aload_n 0, 1) := dk_42 (dk_at dksX7_begins_0 8 rfl rfl)
theorem dX7_begins_9 : decode cX7_begins 9 = .ok (.getfield 9, 3) := dk_180 0 9 (dk_at dksX7_begins_0 9 rfl rfl)
theorem dX7_begins_12 : decode cX7_begins 12 = .ok (.iload_n 1, 1) := dk_27 (dk_at dksX7_begins_0 12 rfl rfl)
theorem dX7_begins_13 : decode cX7_begins 13 = .ok (.aload_n 0, 1) := dk_42 (dk_at dksX7_begins_0 13 rfl rfl)
theorem dX7_begins_14 : decode cX7_begins 14 = .ok (.getfield 31, 3) := dk_180 0 31 (dk_at dksX7_begins_0 14 rfl rfl)
theorem dX7_begins_17 : decode cX7_begins 17 = .ok (.getfield 193, 3) := dk_180 0 193 (dk_at dksX7_begins_0 17 rfl rfl)
theorem dX7_begins_20 : decode cX7_begins 20 = .ok (.iastore, 1) := dk_79 (dk_at dksX7_begins_0 20 rfl rfl)
theorem dX7_begins_21 : decode cX7_begins 21 = .ok (.aload_n 0, 1) := dk_42 (dk_at dksX7_begins_0 21 rfl rfl)
theorem dX7_begins_22 : decode cX7_begins 22 = .ok (.getfield 15, 3) := dk_180 0 15 (dk_at dksX7_begins_1 0 rfl rfl)
theorem dX7_begins_25 : decode cX7_begins 25 = .ok (.iload_n 1, 1) := dk_27 (dk_at dksX7_begins_1 3 rfl rfl)
theorem dX7_begins_26 : decode cX7_begins 26 = .ok (.iconst 0, 1) := dk_3 (dk_at dksX7_begins_1 4 rfl rfl)
theorem dX7_begins_27 : decode cX7_begins 27 = .ok (.iastore, 1) := dk_79 (dk_at dksX7_begins_1 5 rfl rfl)
theorem dX7_begins_28 : decode cX7_begins 28 = .ok (.aload_n 0, 1) := dk_42 (dk_at dksX7_begins_1 6 rfl rfl)
theorem dX7_begins_29 : decode cX7_begins 29 = .ok (.getfield 18, 3) := dk_180 0 18 (dk_at dksX7_begins_1 7 rfl rfl)
theorem dX7_begins_32 : decode cX7_begins 32 = .ok (.iload_n 1, 1) := dk_27 (dk_at dksX7_begins_1 10 rfl rfl)
theorem dX7_begins_33 : decode cX7_begins 33 = .ok (.iconst 0, 1) := dk_3 (dk_at dksX7_begins_1 11 rfl rfl)
theorem dX7_begins_34 : decode cX7_begins 34 = .ok (.iastore, 1) := dk_79 (dk_at dksX7_begins_1 12 rfl rfl)
theorem dX7_begins_35 : decode cX7_begins 35 = .ok (.aload_n 0, 1) := dk_42 (dk_at dksX7_begins_1 13 rfl rfl)
theorem dX7_begins_36 : decode cX7_begins 36 = .ok (.getfield 21, 3) := dk_180 0 21 (dk_at dksX7_begins_1 14 rfl rfl)
theorem dX7_begins_39 : decode cX7_begins 39 = .ok (.iload_n 1, 1) := dk_27 (dk_at dksX7_begins_1 17 rfl rfl)
theorem dX7_begins_40 : decode cX7_begins 40 = .ok (.iconst (-1), 1) := dk_2 (dk_at dksX7_begins_1 18 rfl rfl)
theorem dX7_begins_41 : decode cX7_begins 41 = .ok (.iastore, 1) := dk_79 (dk_at dksX7_begins_1 19 rfl rfl)
theorem dX7_begins_42 : decode cX7_begins 42 = .ok (.aload_n 0, 1) := dk_42 (dk_at dksX7_begins_1 20 rfl rfl)
theorem dX7_begins_43 : decode cX7_begins 43 = .ok (.getfield 24, 3) := dk_180 0 24 (dk_at dksX7_begins_1 21 rfl rfl)
theorem dX7_begins_46 : decode cX7_begins 46 = .ok (.iload_n 1, 1) := dk_27 (dk_at dksX7_begins_2 0 rfl rfl)
theorem dX7_begins_47 : decode cX7_begins 47 = .ok (.iconst 0, 1) := dk_3 (dk_at dksX7_begins_2 1 rfl rfl)
theorem dX7_begins_48 : decode cX7_begins 48 = .ok (.iastore, 1) := dk_79 (dk_at dksX7_begins_2 2 rfl rfl)
theorem dX7_begins_49 : decode cX7_begins 49 = .ok (.iinc 1 1, 3) := dk_132 1 1 (dk_at dksX7_begins_2 3 rfl rfl)
theorem dX7_begins_52 : decode cX7_begins 52 = .ok (.goto (-50), 3) := dk_167 255 206 (dk_at dksX7_begins_2 6 rfl rfl)
theorem dX7_begins_55 : decode cX7_begins 55 = .ok (.aload_n 0, 1) := dk_42 (dk_at dksX7_begins_2 9 rfl rfl)
theorem dX7_begins_56 : decode cX7_begins 56 = .ok (.iconst 0, 1) := dk_3 (dk_at dksX7_begins_2 10 rfl rfl)
theorem dX7_begins_57 : decode cX7_begins 57 = .ok (.putfield 109, 3) := dk_181 0 109 (dk_at dksX7_begins_2 11 rfl rfl)
theorem dX7_begins_60 : decode cX7_begins 60 = .ok (.aload_n 0, 1) := dk_42 (dk_at dksX7_begins_2 14 rfl rfl)
theorem dX7_begins_61 : decode cX7_begins 61 = .ok (.iconst 0, 1) := dk_3 (dk_at dksX7_begins_2 15 rfl rfl)
theorem dX7_begins_62 : decode cX7_begins 62 = .ok (.putfield 187, 3) := dk_181 0 187 (dk_at dksX7_begins_2 16 rfl rfl)
theorem dX7_begins_65 : decode cX7_begins 65 = .ok (.aload_n 0, 1) := dk_42 (dk_at dksX7_begins_2 19 rfl rfl)
theorem dX7_begins_66 : decode cX7_begins 66 = .ok (.iconst 0, 1) := dk_3 (dk_at dksX7_begins_2 20 rfl rfl)
theorem dX7_begins_67 : decode cX7_begins 67 = .ok (.putfield 159, 3) := dk_181 0 159 (dk_at dksX7_begins_2 21 rfl rfl)
theorem dX7_begins_70 : decode cX7_begins 70 = .ok (.aload_n 0, 1) := dk_42 (dk_at dksX7_begins_3 0 rfl rfl)
theorem dX7_begins_71 : decode cX7_begins 71 = .ok (.iconst 0, 1) := dk_3 (dk_at dksX7_begins_3 1 rfl rfl)
theorem dX7_begins_72 : decode cX7_begins 72 = .ok (.putfield 47, 3) := dk_181 0 47 (dk_at dksX7_begins_3 2 rfl rfl)
theorem dX7_begins_75 : decode cX7_begins 75 = .ok (.return_, 1) := dk_177 (dk_at dksX7_begins_3 5 rfl rfl)
abbrev cX7_next : ByteArray := prog_10_method_11_code
def yX7_next : MethodName := ⟨RX7, "next", "()V"⟩
def dkwX7_next_0 : List UInt8 := [42, 89, 180, 0, 47, 4, 96, 181, 0, 47, 42, 182, 0, 196, 177]
abbrev dktX7_next_0 : List UInt8 := dkwX7_next_0 ++ []
theorem dksX7_next_0 : cX7_next.data.toList.drop 0 = dktX7_next_0 := by decide +kernel
theorem dX7_next_0 : decode cX7_next 0 = .ok (.aload_n 0, 1) := dk_42 (dk_at dksX7_next_0 0 rfl rfl)
theorem dX7_next_1 : decode cX7_next 1 = .ok (.dup, 1) := dk_89 (dk_at dksX7_next_0 1 rfl rfl)
theorem dX7_next_2 : decode cX7_next 2 = .ok (.getfield 47, 3) := dk_180 0 47 (dk_at dksX7_next_0 2 rfl rfl)
theorem dX7_next_5 : decode cX7_next 5 = .ok (.iconst 1, 1) := dk_4 (dk_at dksX7_next_0 5 rfl rfl)
theorem dX7_next_6 : decode cX7_next 6 = .ok (.iadd, 1) := dk_96 (dk_at dksX7_next_0 6 rfl rfl)
theorem dX7_next_7 : decode cX7_next 7 = .ok (.putfield 47, 3) := dk_181 0 47 (dk_at dksX7_next_0 7 rfl rfl)
theorem dX7_next_10 : decode cX7_next 10 = .ok (.aload_n 0, 1) := dk_42 (dk_at dksX7_next_0 10 rfl rfl)
theorem dX7_next_11 : decode cX7_next 11 = .ok (.invokevirtual 196, 3) := dk_182 0 196 (dk_at dksX7_next_0 11 rfl rfl)
theorem dX7_next_14 : decode cX7_next 14 = .ok (.return_, 1) := dk_177 (dk_at dksX7_next_0 14 rfl rfl)
abbrev cX7_minute : ByteArray := prog_10_method_9_code
def yX7_minute : MethodName := ⟨RX7, "minute", "()V"⟩
def dkwX7_minute_9 : List UInt8 := [181, 0, 187, 177]
abbrev dktX7_minute_9 : List UInt8 := dkwX7_minute_9 ++ []
def dkwX7_minute_8 : List UInt8 := [167, 0, 9, 42, 180, 0, 159, 4, 96, 181, 0, 159, 42, 42, 180, 0, 187, 42, 180, 0, 159, 184, 0, 190]
abbrev dktX7_minute_8 : List UInt8 := dkwX7_minute_8 ++ dktX7_minute_9
def dkwX7_minute_7 : List UInt8 := [160, 0, 8, 42, 27, 182, 0, 184, 132, 1, 1, 167, 255, 213, 42, 42, 180, 0, 159, 2, 160, 0, 7, 3]
abbrev dktX7_minute_7 : List UInt8 := dkwX7_minute_7 ++ dktX7_minute_8
def dkwX7_minute_6 : List UInt8 := [162, 0, 38, 42, 180, 0, 31, 180, 0, 181, 42, 180, 0, 31, 180, 0, 65, 27, 46, 46, 42, 180, 0, 47]
abbrev dktX7_minute_6 : List UInt8 := dkwX7_minute_6 ++ dktX7_minute_7
def dkwX7_minute_5 : List UInt8 := [42, 27, 28, 29, 3, 182, 0, 170, 132, 1, 1, 167, 255, 176, 3, 60, 27, 42, 180, 0, 31, 180, 0, 56]
abbrev dktX7_minute_5 : List UInt8 := dkwX7_minute_5 ++ dktX7_minute_6
def dkwX7_minute_4 : List UInt8 := [182, 0, 174, 154, 0, 9, 132, 2, 1, 167, 255, 231, 42, 27, 28, 182, 0, 177, 62, 29, 2, 159, 0, 11]
abbrev dktX7_minute_4 : List UInt8 := dkwX7_minute_4 ++ dktX7_minute_5
def dkwX7_minute_3 : List UInt8 := [167, 0, 55, 27, 4, 96, 61, 28, 42, 180, 0, 31, 180, 0, 56, 162, 0, 20, 42, 180, 0, 31, 28]
abbrev dktX7_minute_3 : List UInt8 := dkwX7_minute_3 ++ dktX7_minute_4
def dkwX7_minute_2 : List UInt8 := [60, 27, 42, 180, 0, 31, 180, 0, 56, 162, 0, 75, 42, 180, 0, 31, 27, 182, 0, 174, 154, 0, 6]
abbrev dktX7_minute_2 : List UInt8 := dkwX7_minute_2 ++ dktX7_minute_3
def dkwX7_minute_1 : List UInt8 := [154, 0, 23, 42, 3, 42, 180, 0, 31, 180, 0, 56, 42, 180, 0, 31, 180, 0, 168, 4, 182, 0, 170, 3]
abbrev dktX7_minute_1 : List UInt8 := dkwX7_minute_1 ++ dktX7_minute_2
def dkwX7_minute_0 : List UInt8 := [42, 180, 0, 31, 180, 0, 165, 158, 0, 38, 42, 180, 0, 47, 42, 180, 0, 31, 180, 0, 165, 112]
abbrev dktX7_minute_0 : List UInt8 := dkwX7_minute_0 ++ dktX7_minute_1
theorem dksX7_minute_0 : cX7_minute.data.toList.drop 0 = dktX7_minute_0 := by decide +kernel
theorem dksX7_minute_1 : cX7_minute.data.toList.drop 22 = dktX7_minute_1 := dk_seg dksX7_minute_0 22 rfl rfl
theorem dksX7_minute_2 : cX7_minute.data.toList.drop 46 = dktX7_minute_2 := dk_seg dksX7_minute_1 24 rfl rfl
theorem dksX7_minute_3 : cX7_minute.data.toList.drop 69 = dktX7_minute_3 := dk_seg dksX7_minute_2 23 rfl rfl
theorem dksX7_minute_4 : cX7_minute.data.toList.drop 92 = dktX7_minute_4 := dk_seg dksX7_minute_3 23 rfl rfl
theorem dksX7_minute_5 : cX7_minute.data.toList.drop 116 = dktX7_minute_5 := dk_seg dksX7_minute_4 24 rfl rfl
theorem dksX7_minute_6 : cX7_minute.data.toList.drop 140 = dktX7_minute_6 := dk_seg dksX7_minute_5 24 rfl rfl
theorem dksX7_minute_7 : cX7_minute.data.toList.drop 164 = dktX7_minute_7 := dk_seg dksX7_minute_6 24 rfl rfl
theorem dksX7_minute_8 : cX7_minute.data.toList.drop 188 = dktX7_minute_8 := dk_seg dksX7_minute_7 24 rfl rfl
theorem dksX7_minute_9 : cX7_minute.data.toList.drop 212 = dktX7_minute_9 := dk_seg dksX7_minute_8 24 rfl rfl
theorem dX7_minute_0 : decode cX7_minute 0 = .ok (.aload_n 0, 1) := dk_42 (dk_at dksX7_minute_0 0 rfl rfl)
theorem dX7_minute_1 : decode cX7_minute 1 = .ok (.getfield 31, 3) := dk_180 0 31 (dk_at dksX7_minute_0 1 rfl rfl)
theorem dX7_minute_4 : decode cX7_minute 4 = .ok (.getfield 165, 3) := dk_180 0 165 (dk_at dksX7_minute_0 4 rfl rfl)
theorem dX7_minute_7 : decode cX7_minute 7 = .ok (.ifCond .le 38, 3) := dk_158 0 38 (dk_at dksX7_minute_0 7 rfl rfl)
theorem dX7_minute_10 : decode cX7_minute 10 = .ok (.aload_n 0, 1) := dk_42 (dk_at dksX7_minute_0 10 rfl rfl)
theorem dX7_minute_11 : decode cX7_minute 11 = .ok (.getfield 47, 3) := dk_180 0 47 (dk_at dksX7_minute_0 11 rfl rfl)
theorem dX7_minute_14 : decode cX7_minute 14 = .ok (.aload_n 0, 1) := dk_42 (dk_at dksX7_minute_0 14 rfl rfl)
theorem dX7_minute_15 : decode cX7_minute 15 = .ok (.getfield 31, 3) := dk_180 0 31 (dk_at dksX7_minute_0 15 rfl rfl)
theorem dX7_minute_18 : decode cX7_minute 18 = .ok (.getfield 165, 3) := dk_180 0 165 (dk_at dksX7_minute_0 18 rfl rfl)
theorem dX7_minute_21 : decode cX7_minute 21 = .ok (.irem, 1) := dk_112 (dk_at dksX7_minute_0 21 rfl rfl)
theorem dX7_minute_22 : decode cX7_minute 22 = .ok (.ifCond .ne 23, 3) := dk_154 0 23 (dk_at dksX7_minute_1 0 rfl rfl)
theorem dX7_minute_25 : decode cX7_minute 25 = .ok (.aload_n 0, 1) := dk_42 (dk_at dksX7_minute_1 3 rfl rfl)
theorem dX7_minute_26 : decode cX7_minute 26 = .ok (.iconst 0, 1) := dk_3 (dk_at dksX7_minute_1 4 rfl rfl)
theorem dX7_minute_27 : decode cX7_minute 27 = .ok (.aload_n 0, 1) := dk_42 (dk_at dksX7_minute_1 5 rfl rfl)
theorem dX7_minute_28 : decode cX7_minute 28 = .ok (.getfield 31, 3) := dk_180 0 31 (dk_at dksX7_minute_1 6 rfl rfl)
theorem dX7_minute_31 : decode cX7_minute 31 = .ok (.getfield 56, 3) := dk_180 0 56 (dk_at dksX7_minute_1 9 rfl rfl)
theorem dX7_minute_34 : decode cX7_minute 34 = .ok (.aload_n 0, 1) := dk_42 (dk_at dksX7_minute_1 12 rfl rfl)
theorem dX7_minute_35 : decode cX7_minute 35 = .ok (.getfield 31, 3) := dk_180 0 31 (dk_at dksX7_minute_1 13 rfl rfl)
theorem dX7_minute_38 : decode cX7_minute 38 = .ok (.getfield 168, 3) := dk_180 0 168 (dk_at dksX7_minute_1 16 rfl rfl)
theorem dX7_minute_41 : decode cX7_minute 41 = .ok (.iconst 1, 1) := dk_4 (dk_at dksX7_minute_1 19 rfl rfl)
theorem dX7_minute_42 : decode cX7_minute 42 = .ok (.invokevirtual 170, 3) := dk_182 0 170 (dk_at dksX7_minute_1 20 rfl rfl)
theorem dX7_minute_45 : decode cX7_minute 45 = .ok (.iconst 0, 1) := dk_3 (dk_at dksX7_minute_1 23 rfl rfl)
theorem dX7_minute_46 : decode cX7_minute 46 = .ok (.istore_n 1, 1) := dk_60 (dk_at dksX7_minute_2 0 rfl rfl)
theorem dX7_minute_47 : decode cX7_minute 47 = .ok (.iload_n 1, 1) := dk_27 (dk_at dksX7_minute_2 1 rfl rfl)
theorem dX7_minute_48 : decode cX7_minute 48 = .ok (.aload_n 0, 1) := dk_42 (dk_at dksX7_minute_2 2 rfl rfl)
theorem dX7_minute_49 : decode cX7_minute 49 = .ok (.getfield 31, 3) := dk_180 0 31 (dk_at dksX7_minute_2 3 rfl rfl)
theorem dX7_minute_52 : decode cX7_minute 52 = .ok (.getfield 56, 3) := dk_180 0 56 (dk_at dksX7_minute_2 6 rfl rfl)
theorem dX7_minute_55 : decode cX7_minute 55 = .ok (.if_icmp .ge 75, 3) := dk_162 0 75 (dk_at dksX7_minute_2 9 rfl rfl)
theorem dX7_minute_58 : decode cX7_minute 58 = .ok (.aload_n 0, 1) := dk_42 (dk_at dksX7_minute_2 12 rfl rfl)
theorem dX7_minute_59 : decode cX7_minute 59 = .ok (.getfield 31, 3) := dk_180 0 31 (dk_at dksX7_minute_2 13 rfl rfl)
theorem dX7_minute_62 : decode cX7_minute 62 = .ok (.iload_n 1, 1) := dk_27 (dk_at dksX7_minute_2 16 rfl rfl)
theorem dX7_minute_63 : decode cX7_minute 63 = .ok (.invokevirtual 174, 3) := dk_182 0 174 (dk_at dksX7_minute_2 17 rfl rfl)
theorem dX7_minute_66 : decode cX7_minute 66 = .ok (.ifCond .ne 6, 3) := dk_154 0 6 (dk_at dksX7_minute_2 20 rfl rfl)
theorem dX7_minute_69 : decode cX7_minute 69 = .ok (.goto 55, 3) := dk_167 0 55 (dk_at dksX7_minute_3 0 rfl rfl)
theorem dX7_minute_72 : decode cX7_minute 72 = .ok (.iload_n 1, 1) := dk_27 (dk_at dksX7_minute_3 3 rfl rfl)
theorem dX7_minute_73 : decode cX7_minute 73 = .ok (.iconst 1, 1) := dk_4 (dk_at dksX7_minute_3 4 rfl rfl)
theorem dX7_minute_74 : decode cX7_minute 74 = .ok (.iadd, 1) := dk_96 (dk_at dksX7_minute_3 5 rfl rfl)
theorem dX7_minute_75 : decode cX7_minute 75 = .ok (.istore_n 2, 1) := dk_61 (dk_at dksX7_minute_3 6 rfl rfl)
theorem dX7_minute_76 : decode cX7_minute 76 = .ok (.iload_n 2, 1) := dk_28 (dk_at dksX7_minute_3 7 rfl rfl)
theorem dX7_minute_77 : decode cX7_minute 77 = .ok (.aload_n 0, 1) := dk_42 (dk_at dksX7_minute_3 8 rfl rfl)
theorem dX7_minute_78 : decode cX7_minute 78 = .ok (.getfield 31, 3) := dk_180 0 31 (dk_at dksX7_minute_3 9 rfl rfl)
theorem dX7_minute_81 : decode cX7_minute 81 = .ok (.getfield 56, 3) := dk_180 0 56 (dk_at dksX7_minute_3 12 rfl rfl)
theorem dX7_minute_84 : decode cX7_minute 84 = .ok (.if_icmp .ge 20, 3) := dk_162 0 20 (dk_at dksX7_minute_3 15 rfl rfl)
theorem dX7_minute_87 : decode cX7_minute 87 = .ok (.aload_n 0, 1) := dk_42 (dk_at dksX7_minute_3 18 rfl rfl)
theorem dX7_minute_88 : decode cX7_minute 88 = .ok (.getfield 31, 3) := dk_180 0 31 (dk_at dksX7_minute_3 19 rfl rfl)
theorem dX7_minute_91 : decode cX7_minute 91 = .ok (.iload_n 2, 1) := dk_28 (dk_at dksX7_minute_3 22 rfl rfl)
theorem dX7_minute_92 : decode cX7_minute 92 = .ok (.invokevirtual 174, 3) := dk_182 0 174 (dk_at dksX7_minute_4 0 rfl rfl)
theorem dX7_minute_95 : decode cX7_minute 95 = .ok (.ifCond .ne 9, 3) := dk_154 0 9 (dk_at dksX7_minute_4 3 rfl rfl)
theorem dX7_minute_98 : decode cX7_minute 98 = .ok (.iinc 2 1, 3) := dk_132 2 1 (dk_at dksX7_minute_4 6 rfl rfl)
theorem dX7_minute_101 : decode cX7_minute 101 = .ok (.goto (-25), 3) := dk_167 255 231 (dk_at dksX7_minute_4 9 rfl rfl)
theorem dX7_minute_104 : decode cX7_minute 104 = .ok (.aload_n 0, 1) := dk_42 (dk_at dksX7_minute_4 12 rfl rfl)
theorem dX7_minute_105 : decode cX7_minute 105 = .ok (.iload_n 1, 1) := dk_27 (dk_at dksX7_minute_4 13 rfl rfl)
theorem dX7_minute_106 : decode cX7_minute 106 = .ok (.iload_n 2, 1) := dk_28 (dk_at dksX7_minute_4 14 rfl rfl)
theorem dX7_minute_107 : decode cX7_minute 107 = .ok (.invokevirtual 177, 3) := dk_182 0 177 (dk_at dksX7_minute_4 15 rfl rfl)
theorem dX7_minute_110 : decode cX7_minute 110 = .ok (.istore_n 3, 1) := dk_62 (dk_at dksX7_minute_4 18 rfl rfl)
theorem dX7_minute_111 : decode cX7_minute 111 = .ok (.iload_n 3, 1) := dk_29 (dk_at dksX7_minute_4 19 rfl rfl)
theorem dX7_minute_112 : decode cX7_minute 112 = .ok (.iconst (-1), 1) := dk_2 (dk_at dksX7_minute_4 20 rfl rfl)
theorem dX7_minute_113 : decode cX7_minute 113 = .ok (.if_icmp .eq 11, 3) := dk_159 0 11 (dk_at dksX7_minute_4 21 rfl rfl)
theorem dX7_minute_116 : decode cX7_minute 116 = .ok (.aload_n 0, 1) := dk_42 (dk_at dksX7_minute_5 0 rfl rfl)
theorem dX7_minute_117 : decode cX7_minute 117 = .ok (.iload_n 1, 1) := dk_27 (dk_at dksX7_minute_5 1 rfl rfl)
theorem dX7_minute_118 : decode cX7_minute 118 = .ok (.iload_n 2, 1) := dk_28 (dk_at dksX7_minute_5 2 rfl rfl)
theorem dX7_minute_119 : decode cX7_minute 119 = .ok (.iload_n 3, 1) := dk_29 (dk_at dksX7_minute_5 3 rfl rfl)
theorem dX7_minute_120 : decode cX7_minute 120 = .ok (.iconst 0, 1) := dk_3 (dk_at dksX7_minute_5 4 rfl rfl)
theorem dX7_minute_121 : decode cX7_minute 121 = .ok (.invokevirtual 170, 3) := dk_182 0 170 (dk_at dksX7_minute_5 5 rfl rfl)
theorem dX7_minute_124 : decode cX7_minute 124 = .ok (.iinc 1 1, 3) := dk_132 1 1 (dk_at dksX7_minute_5 8 rfl rfl)
theorem dX7_minute_127 : decode cX7_minute 127 = .ok (.goto (-80), 3) := dk_167 255 176 (dk_at dksX7_minute_5 11 rfl rfl)
theorem dX7_minute_130 : decode cX7_minute 130 = .ok (.iconst 0, 1) := dk_3 (dk_at dksX7_minute_5 14 rfl rfl)
theorem dX7_minute_131 : decode cX7_minute 131 = .ok (.istore_n 1, 1) := dk_60 (dk_at dksX7_minute_5 15 rfl rfl)
theorem dX7_minute_132 : decode cX7_minute 132 = .ok (.iload_n 1, 1) := dk_27 (dk_at dksX7_minute_5 16 rfl rfl)
theorem dX7_minute_133 : decode cX7_minute 133 = .ok (.aload_n 0, 1) := dk_42 (dk_at dksX7_minute_5 17 rfl rfl)
theorem dX7_minute_134 : decode cX7_minute 134 = .ok (.getfield 31, 3) := dk_180 0 31 (dk_at dksX7_minute_5 18 rfl rfl)
theorem dX7_minute_137 : decode cX7_minute 137 = .ok (.getfield 56, 3) := dk_180 0 56 (dk_at dksX7_minute_5 21 rfl rfl)
theorem dX7_minute_140 : decode cX7_minute 140 = .ok (.if_icmp .ge 38, 3) := dk_162 0 38 (dk_at dksX7_minute_6 0 rfl rfl)
theorem dX7_minute_143 : decode cX7_minute 143 = .ok (.aload_n 0, 1) := dk_42 (dk_at dksX7_minute_6 3 rfl rfl)
theorem dX7_minute_144 : decode cX7_minute 144 = .ok (.getfield 31, 3) := dk_180 0 31 (dk_at dksX7_minute_6 4 rfl rfl)
theorem dX7_minute_147 : decode cX7_minute 147 = .ok (.getfield 181, 3) := dk_180 0 181 (dk_at dksX7_minute_6 7 rfl rfl)
theorem dX7_minute_150 : decode cX7_minute 150 = .ok (.aload_n 0, 1) := dk_42 (dk_at dksX7_minute_6 10 rfl rfl)
theorem dX7_minute_151 : decode cX7_minute 151 = .ok (.getfield 31, 3) := dk_180 0 31 (dk_at dksX7_minute_6 11 rfl rfl)
theorem dX7_minute_154 : decode cX7_minute 154 = .ok (.getfield 65, 3) := dk_180 0 65 (dk_at dksX7_minute_6 14 rfl rfl)
theorem dX7_minute_157 : decode cX7_minute 157 = .ok (.iload_n 1, 1) := dk_27 (dk_at dksX7_minute_6 17 rfl rfl)
theorem dX7_minute_158 : decode cX7_minute 158 = .ok (.iaload, 1) := dk_46 (dk_at dksX7_minute_6 18 rfl rfl)
theorem dX7_minute_159 : decode cX7_minute 159 = .ok (.iaload, 1) := dk_46 (dk_at dksX7_minute_6 19 rfl rfl)
theorem dX7_minute_160 : decode cX7_minute 160 = .ok (.aload_n 0, 1) := dk_42 (dk_at dksX7_minute_6 20 rfl rfl)
theorem dX7_minute_161 : decode cX7_minute 161 = .ok (.getfield 47, 3) := dk_180 0 47 (dk_at dksX7_minute_6 21 rfl rfl)
theorem dX7_minute_164 : decode cX7_minute 164 = .ok (.if_icmp .ne 8, 3) := dk_160 0 8 (dk_at dksX7_minute_7 0 rfl rfl)
theorem dX7_minute_167 : decode cX7_minute 167 = .ok (.aload_n 0, 1) := dk_42 (dk_at dksX7_minute_7 3 rfl rfl)
theorem dX7_minute_168 : decode cX7_minute 168 = .ok (.iload_n 1, 1) := dk_27 (dk_at dksX7_minute_7 4 rfl rfl)
theorem dX7_minute_169 : decode cX7_minute 169 = .ok (.invokevirtual 184, 3) := dk_182 0 184 (dk_at dksX7_minute_7 5 rfl rfl)
theorem dX7_minute_172 : decode cX7_minute 172 = .ok (.iinc 1 1, 3) := dk_132 1 1 (dk_at dksX7_minute_7 8 rfl rfl)
theorem dX7_minute_175 : decode cX7_minute 175 = .ok (.goto (-43), 3) := dk_167 255 213 (dk_at dksX7_minute_7 11 rfl rfl)
theorem dX7_minute_178 : decode cX7_minute 178 = .ok (.aload_n 0, 1) := dk_42 (dk_at dksX7_minute_7 14 rfl rfl)
theorem dX7_minute_179 : decode cX7_minute 179 = .ok (.aload_n 0, 1) := dk_42 (dk_at dksX7_minute_7 15 rfl rfl)
theorem dX7_minute_180 : decode cX7_minute 180 = .ok (.getfield 159, 3) := dk_180 0 159 (dk_at dksX7_minute_7 16 rfl rfl)
theorem dX7_minute_183 : decode cX7_minute 183 = .ok (.iconst (-1), 1) := dk_2 (dk_at dksX7_minute_7 19 rfl rfl)
theorem dX7_minute_184 : decode cX7_minute 184 = .ok (.if_icmp .ne 7, 3) := dk_160 0 7 (dk_at dksX7_minute_7 20 rfl rfl)
theorem dX7_minute_187 : decode cX7_minute 187 = .ok (.iconst 0, 1) := dk_3 (dk_at dksX7_minute_7 23 rfl rfl)
theorem dX7_minute_188 : decode cX7_minute 188 = .ok (.goto 9, 3) := dk_167 0 9 (dk_at dksX7_minute_8 0 rfl rfl)
theorem dX7_minute_191 : decode cX7_minute 191 = .ok (.aload_n 0, 1) := dk_42 (dk_at dksX7_minute_8 3 rfl rfl)
theorem dX7_minute_192 : decode cX7_minute 192 = .ok (.getfield 159, 3) := dk_180 0 159 (dk_at dksX7_minute_8 4 rfl rfl)
theorem dX7_minute_195 : decode cX7_minute 195 = .ok (.iconst 1, 1) := dk_4 (dk_at dksX7_minute_8 7 rfl rfl)
theorem dX7_minute_196 : decode cX7_minute 196 = .ok (.iadd, 1) := dk_96 (dk_at dksX7_minute_8 8 rfl rfl)
theorem dX7_minute_197 : decode cX7_minute 197 = .ok (.putfield 159, 3) := dk_181 0 159 (dk_at dksX7_minute_8 9 rfl rfl)
theorem dX7_minute_200 : decode cX7_minute 200 = .ok (.aload_n 0, 1) := dk_42 (dk_at dksX7_minute_8 12 rfl rfl)
theorem dX7_minute_201 : decode cX7_minute 201 = .ok (.aload_n 0, 1) := dk_42 (dk_at dksX7_minute_8 13 rfl rfl)
theorem dX7_minute_202 : decode cX7_minute 202 = .ok (.getfield 187, 3) := dk_180 0 187 (dk_at dksX7_minute_8 14 rfl rfl)
theorem dX7_minute_205 : decode cX7_minute 205 = .ok (.aload_n 0, 1) := dk_42 (dk_at dksX7_minute_8 17 rfl rfl)
theorem dX7_minute_206 : decode cX7_minute 206 = .ok (.getfield 159, 3) := dk_180 0 159 (dk_at dksX7_minute_8 18 rfl rfl)
theorem dX7_minute_209 : decode cX7_minute 209 = .ok (.invokestatic 190, 3) := dk_184 0 190 (dk_at dksX7_minute_8 21 rfl rfl)
theorem dX7_minute_212 : decode cX7_minute 212 = .ok (.putfield 187, 3) := dk_181 0 187 (dk_at dksX7_minute_9 0 rfl rfl)
theorem dX7_minute_215 : decode cX7_minute 215 = .ok (.return_, 1) := dk_177 (dk_at dksX7_minute_9 3 rfl rfl)
abbrev cX7_turn : ByteArray := prog_10_method_6_code
def yX7_turn : MethodName := ⟨RX7, "turn", "(IIIZ)V"⟩
def dkwX7_turn_11 : List UInt8 := [46, 4, 96, 79, 42, 89, 180, 0, 109, 4, 96, 181, 0, 109, 42, 2, 181, 0, 159, 177]
abbrev dktX7_turn_11 : List UInt8 := dkwX7_turn_11 ++ []
def dkwX7_turn_10 : List UInt8 := [180, 0, 44, 42, 180, 0, 109, 21, 4, 153, 0, 7, 4, 167, 0, 4, 3, 79, 42, 180, 0, 24, 29, 92]
abbrev dktX7_turn_10 : List UInt8 := dkwX7_turn_10 ++ dktX7_turn_11
def dkwX7_turn_9 : List UInt8 := [42, 180, 0, 38, 42, 180, 0, 109, 29, 79, 42, 180, 0, 41, 42, 180, 0, 109, 21, 6, 79, 42]
abbrev dktX7_turn_9 : List UInt8 := dkwX7_turn_9 ++ dktX7_turn_10
def dkwX7_turn_8 : List UInt8 := [180, 0, 109, 42, 180, 0, 35, 190, 162, 0, 56, 42, 180, 0, 35, 42, 180, 0, 109, 42, 180, 0, 47, 79]
abbrev dktX7_turn_8 : List UInt8 := dkwX7_turn_8 ++ dktX7_turn_9
def dkwX7_turn_7 : List UInt8 := [154, 0, 6, 167, 0, 12, 42, 21, 8, 182, 0, 155, 132, 6, 1, 132, 7, 1, 167, 255, 170, 42]
abbrev dktX7_turn_7 : List UInt8 := dkwX7_turn_7 ++ dktX7_turn_8
def dkwX7_turn_6 : List UInt8 := [42, 21, 8, 182, 0, 144, 154, 0, 32, 42, 21, 7, 21, 7, 21, 5, 100, 184, 0, 147, 182, 0, 152]
abbrev dktX7_turn_6 : List UInt8 := dkwX7_turn_6 ++ dktX7_turn_7
def dkwX7_turn_5 : List UInt8 := [159, 0, 62, 42, 180, 0, 27, 180, 0, 61, 21, 8, 182, 0, 68, 192, 0, 74, 182, 0, 141, 153, 0, 41]
abbrev dktX7_turn_5 : List UInt8 := dkwX7_turn_5 ++ dktX7_turn_6
def dkwX7_turn_4 : List UInt8 := [54, 7, 21, 7, 28, 162, 0, 86, 42, 180, 0, 31, 180, 0, 65, 21, 7, 46, 54, 8, 21, 8, 29]
abbrev dktX7_turn_4 : List UInt8 := dkwX7_turn_4 ++ dktX7_turn_5
def dkwX7_turn_3 : List UInt8 := [180, 0, 47, 79, 132, 5, 1, 167, 255, 184, 42, 180, 0, 31, 29, 182, 0, 137, 54, 5, 3, 54, 6, 27]
abbrev dktX7_turn_3 : List UInt8 := dkwX7_turn_3 ++ dktX7_turn_4
def dkwX7_turn_2 : List UInt8 := [180, 0, 9, 21, 6, 4, 42, 180, 0, 9, 21, 6, 46, 100, 79, 42, 180, 0, 15, 21, 6, 42]
abbrev dktX7_turn_2 : List UInt8 := dkwX7_turn_2 ++ dktX7_turn_3
def dkwX7_turn_1 : List UInt8 := [180, 0, 27, 180, 0, 61, 21, 6, 182, 0, 68, 192, 0, 74, 182, 0, 134, 154, 0, 6, 167, 0, 30, 42]
abbrev dktX7_turn_1 : List UInt8 := dkwX7_turn_1 ++ dktX7_turn_2
def dkwX7_turn_0 : List UInt8 := [27, 54, 5, 21, 5, 28, 162, 0, 72, 42, 180, 0, 31, 180, 0, 65, 21, 5, 46, 54, 6, 42]
abbrev dktX7_turn_0 : List UInt8 := dkwX7_turn_0 ++ dktX7_turn_1
theorem dksX7_turn_0 : cX7_turn.data.toList.drop 0 = dktX7_turn_0 := by decide +kernel
theorem dksX7_turn_1 : cX7_turn.data.toList.drop 22 = dktX7_turn_1 := dk_seg dksX7_turn_0 22 rfl rfl
theorem dksX7_turn_2 : cX7_turn.data.toList.drop 46 = dktX7_turn_2 := dk_seg dksX7_turn_1 24 rfl rfl
theorem dksX7_turn_3 : cX7_turn.data.toList.drop 68 = dktX7_turn_3 := dk_seg dksX7_turn_2 22 rfl rfl
theorem dksX7_turn_4 : cX7_turn.data.toList.drop 92 = dktX7_turn_4 := dk_seg dksX7_turn_3 24 rfl rfl
theorem dksX7_turn_5 : cX7_turn.data.toList.drop 115 = dktX7_turn_5 := dk_seg dksX7_turn_4 23 rfl rfl
theorem dksX7_turn_6 : cX7_turn.data.toList.drop 139 = dktX7_turn_6 := dk_seg dksX7_turn_5 24 rfl rfl
theorem dksX7_turn_7 : cX7_turn.data.toList.drop 162 = dktX7_turn_7 := dk_seg dksX7_turn_6 23 rfl rfl
theorem dksX7_turn_8 : cX7_turn.data.toList.drop 184 = dktX7_turn_8 := dk_seg dksX7_turn_7 22 rfl rfl
theorem dksX7_turn_9 : cX7_turn.data.toList.drop 208 = dktX7_turn_9 := dk_seg dksX7_turn_8 24 rfl rfl
theorem dksX7_turn_10 : cX7_turn.data.toList.drop 230 = dktX7_turn_10 := dk_seg dksX7_turn_9 22 rfl rfl
theorem dksX7_turn_11 : cX7_turn.data.toList.drop 254 = dktX7_turn_11 := dk_seg dksX7_turn_10 24 rfl rfl
theorem dX7_turn_0 : decode cX7_turn 0 = .ok (.iload_n 1, 1) := dk_27 (dk_at dksX7_turn_0 0 rfl rfl)
theorem dX7_turn_1 : decode cX7_turn 1 = .ok (.istore 5, 2) := dk_54 5 (dk_at dksX7_turn_0 1 rfl rfl)
theorem dX7_turn_3 : decode cX7_turn 3 = .ok (.iload 5, 2) := dk_21 5 (dk_at dksX7_turn_0 3 rfl rfl)
theorem dX7_turn_5 : decode cX7_turn 5 = .ok (.iload_n 2, 1) := dk_28 (dk_at dksX7_turn_0 5 rfl rfl)
theorem dX7_turn_6 : decode cX7_turn 6 = .ok (.if_icmp .ge 72, 3) := dk_162 0 72 (dk_at dksX7_turn_0 6 rfl rfl)
theorem dX7_turn_9 : decode cX7_turn 9 = .ok (.aload_n 0, 1) := dk_42 (dk_at dksX7_turn_0 9 rfl rfl)
theorem dX7_turn_10 : decode cX7_turn 10 = .ok (.getfield 31, 3) := dk_180 0 31 (dk_at dksX7_turn_0 10 rfl rfl)
theorem dX7_turn_13 : decode cX7_turn 13 = .ok (.getfield 65, 3) := dk_180 0 65 (dk_at dksX7_turn_0 13 rfl rfl)
theorem dX7_turn_16 : decode cX7_turn 16 = .ok (.iload 5, 2) := dk_21 5 (dk_at dksX7_turn_0 16 rfl rfl)
theorem dX7_turn_18 : decode cX7_turn 18 = .ok (.iaload, 1) := dk_46 (dk_at dksX7_turn_0 18 rfl rfl)
theorem dX7_turn_19 : decode cX7_turn 19 = .ok (.istore 6, 2) := dk_54 6 (dk_at dksX7_turn_0 19 rfl rfl)
theorem dX7_turn_21 : decode cX7_turn 21 = .ok (.aload_n 0, 1) := dk_42 (dk_at dksX7_turn_0 21 rfl rfl)
theorem dX7_turn_22 : decode cX7_turn 22 = .ok (.getfield 27, 3) := dk_180 0 27 (dk_at dksX7_turn_1 0 rfl rfl)
theorem dX7_turn_25 : decode cX7_turn 25 = .ok (.getfield 61, 3) := dk_180 0 61 (dk_at dksX7_turn_1 3 rfl rfl)
theorem dX7_turn_28 : decode cX7_turn 28 = .ok (.iload 6, 2) := dk_21 6 (dk_at dksX7_turn_1 6 rfl rfl)
theorem dX7_turn_30 : decode cX7_turn 30 = .ok (.invokevirtual 68, 3) := dk_182 0 68 (dk_at dksX7_turn_1 8 rfl rfl)
theorem dX7_turn_33 : decode cX7_turn 33 = .ok (.checkcast 74, 3) := dk_192 0 74 (dk_at dksX7_turn_1 11 rfl rfl)
theorem dX7_turn_36 : decode cX7_turn 36 = .ok (.invokevirtual 134, 3) := dk_182 0 134 (dk_at dksX7_turn_1 14 rfl rfl)
theorem dX7_turn_39 : decode cX7_turn 39 = .ok (.ifCond .ne 6, 3) := dk_154 0 6 (dk_at dksX7_turn_1 17 rfl rfl)
theorem dX7_turn_42 : decode cX7_turn 42 = .ok (.goto 30, 3) := dk_167 0 30 (dk_at dksX7_turn_1 20 rfl rfl)
theorem dX7_turn_45 : decode cX7_turn 45 = .ok (.aload_n 0, 1) := dk_42 (dk_at dksX7_turn_1 23 rfl rfl)
theorem dX7_turn_46 : decode cX7_turn 46 = .ok (.getfield 9, 3) := dk_180 0 9 (dk_at dksX7_turn_2 0 rfl rfl)
theorem dX7_turn_49 : decode cX7_turn 49 = .ok (.iload 6, 2) := dk_21 6 (dk_at dksX7_turn_2 3 rfl rfl)
theorem dX7_turn_51 : decode cX7_turn 51 = .ok (.iconst 1, 1) := dk_4 (dk_at dksX7_turn_2 5 rfl rfl)
theorem dX7_turn_52 : decode cX7_turn 52 = .ok (.aload_n 0, 1) := dk_42 (dk_at dksX7_turn_2 6 rfl rfl)
theorem dX7_turn_53 : decode cX7_turn 53 = .ok (.getfield 9, 3) := dk_180 0 9 (dk_at dksX7_turn_2 7 rfl rfl)
theorem dX7_turn_56 : decode cX7_turn 56 = .ok (.iload 6, 2) := dk_21 6 (dk_at dksX7_turn_2 10 rfl rfl)
theorem dX7_turn_58 : decode cX7_turn 58 = .ok (.iaload, 1) := dk_46 (dk_at dksX7_turn_2 12 rfl rfl)
theorem dX7_turn_59 : decode cX7_turn 59 = .ok (.isub, 1) := dk_100 (dk_at dksX7_turn_2 13 rfl rfl)
theorem dX7_turn_60 : decode cX7_turn 60 = .ok (.iastore, 1) := dk_79 (dk_at dksX7_turn_2 14 rfl rfl)
theorem dX7_turn_61 : decode cX7_turn 61 = .ok (.aload_n 0, 1) := dk_42 (dk_at dksX7_turn_2 15 rfl rfl)
theorem dX7_turn_62 : decode cX7_turn 62 = .ok (.getfield 15, 3) := dk_180 0 15 (dk_at dksX7_turn_2 16 rfl rfl)
theorem dX7_turn_65 : decode cX7_turn 65 = .ok (.iload 6, 2) := dk_21 6 (dk_at dksX7_turn_2 19 rfl rfl)
theorem dX7_turn_67 : decode cX7_turn 67 = .ok (.aload_n 0, 1) := dk_42 (dk_at dksX7_turn_2 21 rfl rfl)
theorem dX7_turn_68 : decode cX7_turn 68 = .ok (.getfield 47, 3) := dk_180 0 47 (dk_at dksX7_turn_3 0 rfl rfl)
theorem dX7_turn_71 : decode cX7_turn 71 = .ok (.iastore, 1) := dk_79 (dk_at dksX7_turn_3 3 rfl rfl)
theorem dX7_turn_72 : decode cX7_turn 72 = .ok (.iinc 5 1, 3) := dk_132 5 1 (dk_at dksX7_turn_3 4 rfl rfl)
theorem dX7_turn_75 : decode cX7_turn 75 = .ok (.goto (-72), 3) := dk_167 255 184 (dk_at dksX7_turn_3 7 rfl rfl)
theorem dX7_turn_78 : decode cX7_turn 78 = .ok (.aload_n 0, 1) := dk_42 (dk_at dksX7_turn_3 10 rfl rfl)
theorem dX7_turn_79 : decode cX7_turn 79 = .ok (.getfield 31, 3) := dk_180 0 31 (dk_at dksX7_turn_3 11 rfl rfl)
theorem dX7_turn_82 : decode cX7_turn 82 = .ok (.iload_n 3, 1) := dk_29 (dk_at dksX7_turn_3 14 rfl rfl)
theorem dX7_turn_83 : decode cX7_turn 83 = .ok (.invokevirtual 137, 3) := dk_182 0 137 (dk_at dksX7_turn_3 15 rfl rfl)
theorem dX7_turn_86 : decode cX7_turn 86 = .ok (.istore 5, 2) := dk_54 5 (dk_at dksX7_turn_3 18 rfl rfl)
theorem dX7_turn_88 : decode cX7_turn 88 = .ok (.iconst 0, 1) := dk_3 (dk_at dksX7_turn_3 20 rfl rfl)
theorem dX7_turn_89 : decode cX7_turn 89 = .ok (.istore 6, 2) := dk_54 6 (dk_at dksX7_turn_3 21 rfl rfl)
theorem dX7_turn_91 : decode cX7_turn 91 = .ok (.iload_n 1, 1) := dk_27 (dk_at dksX7_turn_3 23 rfl rfl)
theorem dX7_turn_92 : decode cX7_turn 92 = .ok (.istore 7, 2) := dk_54 7 (dk_at dksX7_turn_4 0 rfl rfl)
theorem dX7_turn_94 : decode cX7_turn 94 = .ok (.iload 7, 2) := dk_21 7 (dk_at dksX7_turn_4 2 rfl rfl)
theorem dX7_turn_96 : decode cX7_turn 96 = .ok (.iload_n 2, 1) := dk_28 (dk_at dksX7_turn_4 4 rfl rfl)
theorem dX7_turn_97 : decode cX7_turn 97 = .ok (.if_icmp .ge 86, 3) := dk_162 0 86 (dk_at dksX7_turn_4 5 rfl rfl)
theorem dX7_turn_100 : decode cX7_turn 100 = .ok (.aload_n 0, 1) := dk_42 (dk_at dksX7_turn_4 8 rfl rfl)
theorem dX7_turn_101 : decode cX7_turn 101 = .ok (.getfield 31, 3) := dk_180 0 31 (dk_at dksX7_turn_4 9 rfl rfl)
theorem dX7_turn_104 : decode cX7_turn 104 = .ok (.getfield 65, 3) := dk_180 0 65 (dk_at dksX7_turn_4 12 rfl rfl)
theorem dX7_turn_107 : decode cX7_turn 107 = .ok (.iload 7, 2) := dk_21 7 (dk_at dksX7_turn_4 15 rfl rfl)
theorem dX7_turn_109 : decode cX7_turn 109 = .ok (.iaload, 1) := dk_46 (dk_at dksX7_turn_4 17 rfl rfl)
theorem dX7_turn_110 : decode cX7_turn 110 = .ok (.istore 8, 2) := dk_54 8 (dk_at dksX7_turn_4 18 rfl rfl)
theorem dX7_turn_112 : decode cX7_turn 112 = .ok (.iload 8, 2) := dk_21 8 (dk_at dksX7_turn_4 20 rfl rfl)
theorem dX7_turn_114 : decode cX7_turn 114 = .ok (.iload_n 3, 1) := dk_29 (dk_at dksX7_turn_4 22 rfl rfl)
theorem dX7_turn_115 : decode cX7_turn 115 = .ok (.if_icmp .eq 62, 3) := dk_159 0 62 (dk_at dksX7_turn_5 0 rfl rfl)
theorem dX7_turn_118 : decode cX7_turn 118 = .ok (.aload_n 0, 1) := dk_42 (dk_at dksX7_turn_5 3 rfl rfl)
theorem dX7_turn_119 : decode cX7_turn 119 = .ok (.getfield 27, 3) := dk_180 0 27 (dk_at dksX7_turn_5 4 rfl rfl)
theorem dX7_turn_122 : decode cX7_turn 122 = .ok (.getfield 61, 3) := dk_180 0 61 (dk_at dksX7_turn_5 7 rfl rfl)
theorem dX7_turn_125 : decode cX7_turn 125 = .ok (.iload 8, 2) := dk_21 8 (dk_at dksX7_turn_5 10 rfl rfl)
theorem dX7_turn_127 : decode cX7_turn 127 = .ok (.invokevirtual 68, 3) := dk_182 0 68 (dk_at dksX7_turn_5 12 rfl rfl)
theorem dX7_turn_130 : decode cX7_turn 130 = .ok (.checkcast 74, 3) := dk_192 0 74 (dk_at dksX7_turn_5 15 rfl rfl)
theorem dX7_turn_133 : decode cX7_turn 133 = .ok (.invokevirtual 141, 3) := dk_182 0 141 (dk_at dksX7_turn_5 18 rfl rfl)
theorem dX7_turn_136 : decode cX7_turn 136 = .ok (.ifCond .eq 41, 3) := dk_153 0 41 (dk_at dksX7_turn_5 21 rfl rfl)
theorem dX7_turn_139 : decode cX7_turn 139 = .ok (.aload_n 0, 1) := dk_42 (dk_at dksX7_turn_6 0 rfl rfl)
theorem dX7_turn_140 : decode cX7_turn 140 = .ok (.iload 8, 2) := dk_21 8 (dk_at dksX7_turn_6 1 rfl rfl)
theorem dX7_turn_142 : decode cX7_turn 142 = .ok (.invokevirtual 144, 3) := dk_182 0 144 (dk_at dksX7_turn_6 3 rfl rfl)
theorem dX7_turn_145 : decode cX7_turn 145 = .ok (.ifCond .ne 32, 3) := dk_154 0 32 (dk_at dksX7_turn_6 6 rfl rfl)
theorem dX7_turn_148 : decode cX7_turn 148 = .ok (.aload_n 0, 1) := dk_42 (dk_at dksX7_turn_6 9 rfl rfl)
theorem dX7_turn_149 : decode cX7_turn 149 = .ok (.iload 7, 2) := dk_21 7 (dk_at dksX7_turn_6 10 rfl rfl)
theorem dX7_turn_151 : decode cX7_turn 151 = .ok (.iload 7, 2) := dk_21 7 (dk_at dksX7_turn_6 12 rfl rfl)
theorem dX7_turn_153 : decode cX7_turn 153 = .ok (.iload 5, 2) := dk_21 5 (dk_at dksX7_turn_6 14 rfl rfl)
theorem dX7_turn_155 : decode cX7_turn 155 = .ok (.isub, 1) := dk_100 (dk_at dksX7_turn_6 16 rfl rfl)
theorem dX7_turn_156 : decode cX7_turn 156 = .ok (.invokestatic 147, 3) := dk_184 0 147 (dk_at dksX7_turn_6 17 rfl rfl)
theorem dX7_turn_159 : decode cX7_turn 159 = .ok (.invokevirtual 152, 3) := dk_182 0 152 (dk_at dksX7_turn_6 20 rfl rfl)
theorem dX7_turn_162 : decode cX7_turn 162 = .ok (.ifCond .ne 6, 3) := dk_154 0 6 (dk_at dksX7_turn_7 0 rfl rfl)
theorem dX7_turn_165 : decode cX7_turn 165 = .ok (.goto 12, 3) := dk_167 0 12 (dk_at dksX7_turn_7 3 rfl rfl)
theorem dX7_turn_168 : decode cX7_turn 168 = .ok (.aload_n 0, 1) := dk_42 (dk_at dksX7_turn_7 6 rfl rfl)
theorem dX7_turn_169 : decode cX7_turn 169 = .ok (.iload 8, 2) := dk_21 8 (dk_at dksX7_turn_7 7 rfl rfl)
theorem dX7_turn_171 : decode cX7_turn 171 = .ok (.invokevirtual 155, 3) := dk_182 0 155 (dk_at dksX7_turn_7 9 rfl rfl)
theorem dX7_turn_174 : decode cX7_turn 174 = .ok (.iinc 6 1, 3) := dk_132 6 1 (dk_at dksX7_turn_7 12 rfl rfl)
theorem dX7_turn_177 : decode cX7_turn 177 = .ok (.iinc 7 1, 3) := dk_132 7 1 (dk_at dksX7_turn_7 15 rfl rfl)
theorem dX7_turn_180 : decode cX7_turn 180 = .ok (.goto (-86), 3) := dk_167 255 170 (dk_at dksX7_turn_7 18 rfl rfl)
theorem dX7_turn_183 : decode cX7_turn 183 = .ok (.aload_n 0, 1) := dk_42 (dk_at dksX7_turn_7 21 rfl rfl)
theorem dX7_turn_184 : decode cX7_turn 184 = .ok (.getfield 109, 3) := dk_180 0 109 (dk_at dksX7_turn_8 0 rfl rfl)
theorem dX7_turn_187 : decode cX7_turn 187 = .ok (.aload_n 0, 1) := dk_42 (dk_at dksX7_turn_8 3 rfl rfl)
theorem dX7_turn_188 : decode cX7_turn 188 = .ok (.getfield 35, 3) := dk_180 0 35 (dk_at dksX7_turn_8 4 rfl rfl)
theorem dX7_turn_191 : decode cX7_turn 191 = .ok (.arraylength, 1) := dk_190 (dk_at dksX7_turn_8 7 rfl rfl)
theorem dX7_turn_192 : decode cX7_turn 192 = .ok (.if_icmp .ge 56, 3) := dk_162 0 56 (dk_at dksX7_turn_8 8 rfl rfl)
theorem dX7_turn_195 : decode cX7_turn 195 = .ok (.aload_n 0, 1) := dk_42 (dk_at dksX7_turn_8 11 rfl rfl)
theorem dX7_turn_196 : decode cX7_turn 196 = .ok (.getfield 35, 3) := dk_180 0 35 (dk_at dksX7_turn_8 12 rfl rfl)
theorem dX7_turn_199 : decode cX7_turn 199 = .ok (.aload_n 0, 1) := dk_42 (dk_at dksX7_turn_8 15 rfl rfl)
theorem dX7_turn_200 : decode cX7_turn 200 = .ok (.getfield 109, 3) := dk_180 0 109 (dk_at dksX7_turn_8 16 rfl rfl)
theorem dX7_turn_203 : decode cX7_turn 203 = .ok (.aload_n 0, 1) := dk_42 (dk_at dksX7_turn_8 19 rfl rfl)
theorem dX7_turn_204 : decode cX7_turn 204 = .ok (.getfield 47, 3) := dk_180 0 47 (dk_at dksX7_turn_8 20 rfl rfl)
theorem dX7_turn_207 : decode cX7_turn 207 = .ok (.iastore, 1) := dk_79 (dk_at dksX7_turn_8 23 rfl rfl)
theorem dX7_turn_208 : decode cX7_turn 208 = .ok (.aload_n 0, 1) := dk_42 (dk_at dksX7_turn_9 0 rfl rfl)
theorem dX7_turn_209 : decode cX7_turn 209 = .ok (.getfield 38, 3) := dk_180 0 38 (dk_at dksX7_turn_9 1 rfl rfl)
theorem dX7_turn_212 : decode cX7_turn 212 = .ok (.aload_n 0, 1) := dk_42 (dk_at dksX7_turn_9 4 rfl rfl)
theorem dX7_turn_213 : decode cX7_turn 213 = .ok (.getfield 109, 3) := dk_180 0 109 (dk_at dksX7_turn_9 5 rfl rfl)
theorem dX7_turn_216 : decode cX7_turn 216 = .ok (.iload_n 3, 1) := dk_29 (dk_at dksX7_turn_9 8 rfl rfl)
theorem dX7_turn_217 : decode cX7_turn 217 = .ok (.iastore, 1) := dk_79 (dk_at dksX7_turn_9 9 rfl rfl)
theorem dX7_turn_218 : decode cX7_turn 218 = .ok (.aload_n 0, 1) := dk_42 (dk_at dksX7_turn_9 10 rfl rfl)
theorem dX7_turn_219 : decode cX7_turn 219 = .ok (.getfield 41, 3) := dk_180 0 41 (dk_at dksX7_turn_9 11 rfl rfl)
theorem dX7_turn_222 : decode cX7_turn 222 = .ok (.aload_n 0, 1) := dk_42 (dk_at dksX7_turn_9 14 rfl rfl)
theorem dX7_turn_223 : decode cX7_turn 223 = .ok (.getfield 109, 3) := dk_180 0 109 (dk_at dksX7_turn_9 15 rfl rfl)
theorem dX7_turn_226 : decode cX7_turn 226 = .ok (.iload 6, 2) := dk_21 6 (dk_at dksX7_turn_9 18 rfl rfl)
theorem dX7_turn_228 : decode cX7_turn 228 = .ok (.iastore, 1) := dk_79 (dk_at dksX7_turn_9 20 rfl rfl)
theorem dX7_turn_229 : decode cX7_turn 229 = .ok (.aload_n 0, 1) := dk_42 (dk_at dksX7_turn_9 21 rfl rfl)
theorem dX7_turn_230 : decode cX7_turn 230 = .ok (.getfield 44, 3) := dk_180 0 44 (dk_at dksX7_turn_10 0 rfl rfl)
theorem dX7_turn_233 : decode cX7_turn 233 = .ok (.aload_n 0, 1) := dk_42 (dk_at dksX7_turn_10 3 rfl rfl)
theorem dX7_turn_234 : decode cX7_turn 234 = .ok (.getfield 109, 3) := dk_180 0 109 (dk_at dksX7_turn_10 4 rfl rfl)
theorem dX7_turn_237 : decode cX7_turn 237 = .ok (.iload 4, 2) := dk_21 4 (dk_at dksX7_turn_10 7 rfl rfl)
theorem dX7_turn_239 : decode cX7_turn 239 = .ok (.ifCond .eq 7, 3) := dk_153 0 7 (dk_at dksX7_turn_10 9 rfl rfl)
theorem dX7_turn_242 : decode cX7_turn 242 = .ok (.iconst 1, 1) := dk_4 (dk_at dksX7_turn_10 12 rfl rfl)
theorem dX7_turn_243 : decode cX7_turn 243 = .ok (.goto 4, 3) := dk_167 0 4 (dk_at dksX7_turn_10 13 rfl rfl)
theorem dX7_turn_246 : decode cX7_turn 246 = .ok (.iconst 0, 1) := dk_3 (dk_at dksX7_turn_10 16 rfl rfl)
theorem dX7_turn_247 : decode cX7_turn 247 = .ok (.iastore, 1) := dk_79 (dk_at dksX7_turn_10 17 rfl rfl)
theorem dX7_turn_248 : decode cX7_turn 248 = .ok (.aload_n 0, 1) := dk_42 (dk_at dksX7_turn_10 18 rfl rfl)
theorem dX7_turn_249 : decode cX7_turn 249 = .ok (.getfield 24, 3) := dk_180 0 24 (dk_at dksX7_turn_10 19 rfl rfl)
theorem dX7_turn_252 : decode cX7_turn 252 = .ok (.iload_n 3, 1) := dk_29 (dk_at dksX7_turn_10 22 rfl rfl)
theorem dX7_turn_253 : decode cX7_turn 253 = .ok (.dup2, 1) := dk_92 (dk_at dksX7_turn_10 23 rfl rfl)
theorem dX7_turn_254 : decode cX7_turn 254 = .ok (.iaload, 1) := dk_46 (dk_at dksX7_turn_11 0 rfl rfl)
theorem dX7_turn_255 : decode cX7_turn 255 = .ok (.iconst 1, 1) := dk_4 (dk_at dksX7_turn_11 1 rfl rfl)
theorem dX7_turn_256 : decode cX7_turn 256 = .ok (.iadd, 1) := dk_96 (dk_at dksX7_turn_11 2 rfl rfl)
theorem dX7_turn_257 : decode cX7_turn 257 = .ok (.iastore, 1) := dk_79 (dk_at dksX7_turn_11 3 rfl rfl)
theorem dX7_turn_258 : decode cX7_turn 258 = .ok (.aload_n 0, 1) := dk_42 (dk_at dksX7_turn_11 4 rfl rfl)
theorem dX7_turn_259 : decode cX7_turn 259 = .ok (.dup, 1) := dk_89 (dk_at dksX7_turn_11 5 rfl rfl)
theorem dX7_turn_260 : decode cX7_turn 260 = .ok (.getfield 109, 3) := dk_180 0 109 (dk_at dksX7_turn_11 6 rfl rfl)
theorem dX7_turn_263 : decode cX7_turn 263 = .ok (.iconst 1, 1) := dk_4 (dk_at dksX7_turn_11 9 rfl rfl)
theorem dX7_turn_264 : decode cX7_turn 264 = .ok (.iadd, 1) := dk_96 (dk_at dksX7_turn_11 10 rfl rfl)
theorem dX7_turn_265 : decode cX7_turn 265 = .ok (.putfield 109, 3) := dk_181 0 109 (dk_at dksX7_turn_11 11 rfl rfl)
theorem dX7_turn_268 : decode cX7_turn 268 = .ok (.aload_n 0, 1) := dk_42 (dk_at dksX7_turn_11 14 rfl rfl)
theorem dX7_turn_269 : decode cX7_turn 269 = .ok (.iconst (-1), 1) := dk_2 (dk_at dksX7_turn_11 15 rfl rfl)
theorem dX7_turn_270 : decode cX7_turn 270 = .ok (.putfield 159, 3) := dk_181 0 159 (dk_at dksX7_turn_11 16 rfl rfl)
theorem dX7_turn_273 : decode cX7_turn 273 = .ok (.return_, 1) := dk_177 (dk_at dksX7_turn_11 19 rfl rfl)
abbrev cX7_isAwake : ByteArray := prog_10_method_2_code
def yX7_isAwake : MethodName := ⟨RX7, "isAwake", "(I)Z"⟩
def dkwX7_isAwake_1 : List UInt8 := [180, 0, 27, 180, 0, 51, 162, 0, 7, 4, 167, 0, 4, 3, 172]
abbrev dktX7_isAwake_1 : List UInt8 := dkwX7_isAwake_1 ++ []
def dkwX7_isAwake_0 : List UInt8 := [42, 180, 0, 21, 27, 46, 2, 159, 0, 28, 42, 180, 0, 47, 42, 180, 0, 21, 27, 46, 100, 42]
abbrev dktX7_isAwake_0 : List UInt8 := dkwX7_isAwake_0 ++ dktX7_isAwake_1
theorem dksX7_isAwake_0 : cX7_isAwake.data.toList.drop 0 = dktX7_isAwake_0 := by decide +kernel
theorem dksX7_isAwake_1 : cX7_isAwake.data.toList.drop 22 = dktX7_isAwake_1 := dk_seg dksX7_isAwake_0 22 rfl rfl
theorem dX7_isAwake_0 : decode cX7_isAwake 0 = .ok (.aload_n 0, 1) := dk_42 (dk_at dksX7_isAwake_0 0 rfl rfl)
theorem dX7_isAwake_1 : decode cX7_isAwake 1 = .ok (.getfield 21, 3) := dk_180 0 21 (dk_at dksX7_isAwake_0 1 rfl rfl)
theorem dX7_isAwake_4 : decode cX7_isAwake 4 = .ok (.iload_n 1, 1) := dk_27 (dk_at dksX7_isAwake_0 4 rfl rfl)
theorem dX7_isAwake_5 : decode cX7_isAwake 5 = .ok (.iaload, 1) := dk_46 (dk_at dksX7_isAwake_0 5 rfl rfl)
theorem dX7_isAwake_6 : decode cX7_isAwake 6 = .ok (.iconst (-1), 1) := dk_2 (dk_at dksX7_isAwake_0 6 rfl rfl)
theorem dX7_isAwake_7 : decode cX7_isAwake 7 = .ok (.if_icmp .eq 28, 3) := dk_159 0 28 (dk_at dksX7_isAwake_0 7 rfl rfl)
theorem dX7_isAwake_10 : decode cX7_isAwake 10 = .ok (.aload_n 0, 1) := dk_42 (dk_at dksX7_isAwake_0 10 rfl rfl)
theorem dX7_isAwake_11 : decode cX7_isAwake 11 = .ok (.getfield 47, 3) := dk_180 0 47 (dk_at dksX7_isAwake_0 11 rfl rfl)
theorem dX7_isAwake_14 : decode cX7_isAwake 14 = .ok (.aload_n 0, 1) := dk_42 (dk_at dksX7_isAwake_0 14 rfl rfl)
theorem dX7_isAwake_15 : decode cX7_isAwake 15 = .ok (.getfield 21, 3) := dk_180 0 21 (dk_at dksX7_isAwake_0 15 rfl rfl)
theorem dX7_isAwake_18 : decode cX7_isAwake 18 = .ok (.iload_n 1, 1) := dk_27 (dk_at dksX7_isAwake_0 18 rfl rfl)
theorem dX7_isAwake_19 : decode cX7_isAwake 19 = .ok (.iaload, 1) := dk_46 (dk_at dksX7_isAwake_0 19 rfl rfl)
theorem dX7_isAwake_20 : decode cX7_isAwake 20 = .ok (.isub, 1) := dk_100 (dk_at dksX7_isAwake_0 20 rfl rfl)
theorem dX7_isAwake_21 : decode cX7_isAwake 21 = .ok (.aload_n 0, 1) := dk_42 (dk_at dksX7_isAwake_0 21 rfl rfl)
theorem dX7_isAwake_22 : decode cX7_isAwake 22 = .ok (.getfield 27, 3) := dk_180 0 27 (dk_at dksX7_isAwake_1 0 rfl rfl)
theorem dX7_isAwake_25 : decode cX7_isAwake 25 = .ok (.getfield 51, 3) := dk_180 0 51 (dk_at dksX7_isAwake_1 3 rfl rfl)
theorem dX7_isAwake_28 : decode cX7_isAwake 28 = .ok (.if_icmp .ge 7, 3) := dk_162 0 7 (dk_at dksX7_isAwake_1 6 rfl rfl)
theorem dX7_isAwake_31 : decode cX7_isAwake 31 = .ok (.iconst 1, 1) := dk_4 (dk_at dksX7_isAwake_1 9 rfl rfl)
theorem dX7_isAwake_32 : decode cX7_isAwake 32 = .ok (.goto 4, 3) := dk_167 0 4 (dk_at dksX7_isAwake_1 10 rfl rfl)
theorem dX7_isAwake_35 : decode cX7_isAwake 35 = .ok (.iconst 0, 1) := dk_3 (dk_at dksX7_isAwake_1 13 rfl rfl)
theorem dX7_isAwake_36 : decode cX7_isAwake 36 = .ok (.ireturn, 1) := dk_172 (dk_at dksX7_isAwake_1 14 rfl rfl)
abbrev cX7_wakes : ByteArray := prog_10_method_4_code
def yX7_wakes : MethodName := ⟨RX7, "wakes", "(II)Z"⟩
def dkwX7_wakes_8 : List UInt8 := [25, 5, 182, 0, 128, 153, 0, 7, 4, 167, 0, 4, 3, 172]
abbrev dktX7_wakes_8 : List UInt8 := dkwX7_wakes_8 ++ []
def dkwX7_wakes_7 : List UInt8 := [182, 0, 97, 25, 5, 178, 0, 125, 42, 180, 0, 18, 29, 46, 182, 0, 97, 42, 180, 0, 27, 180, 0, 80]
abbrev dktX7_wakes_7 : List UInt8 := dkwX7_wakes_7 ++ dktX7_wakes_8
def dkwX7_wakes_6 : List UInt8 := [167, 0, 4, 3, 96, 182, 0, 97, 25, 5, 178, 0, 122, 42, 180, 0, 31, 180, 0, 56, 4, 100, 27, 100]
abbrev dktX7_wakes_6 : List UInt8 := dkwX7_wakes_6 ++ dktX7_wakes_7
def dkwX7_wakes_5 : List UInt8 := [182, 0, 118, 153, 0, 7, 4, 167, 0, 4, 3, 42, 27, 4, 96, 182, 0, 118, 153, 0, 7, 4]
abbrev dktX7_wakes_5 : List UInt8 := dkwX7_wakes_5 ++ dktX7_wakes_6
def dkwX7_wakes_4 : List UInt8 := [25, 5, 178, 0, 112, 42, 180, 0, 47, 16, 60, 108, 182, 0, 97, 25, 5, 178, 0, 115, 42, 27, 4, 100]
abbrev dktX7_wakes_4 : List UInt8 := dkwX7_wakes_4 ++ dktX7_wakes_5
def dkwX7_wakes_3 : List UInt8 := [182, 0, 97, 25, 5, 178, 0, 103, 28, 182, 0, 97, 25, 5, 178, 0, 106, 42, 180, 0, 109, 182, 0, 97]
abbrev dktX7_wakes_3 : List UInt8 := dkwX7_wakes_3 ++ dktX7_wakes_4
def dkwX7_wakes_2 : List UInt8 := [167, 0, 4, 3, 172, 42, 180, 0, 27, 180, 0, 87, 58, 5, 25, 5, 178, 0, 91, 25, 4, 180, 0, 84]
abbrev dktX7_wakes_2 : List UInt8 := dkwX7_wakes_2 ++ dktX7_wakes_3
def dkwX7_wakes_1 : List UInt8 := [58, 4, 42, 180, 0, 27, 180, 0, 80, 199, 0, 18, 28, 25, 4, 180, 0, 84, 163, 0, 7, 4]
abbrev dktX7_wakes_1 : List UInt8 := dkwX7_wakes_1 ++ dktX7_wakes_2
def dkwX7_wakes_0 : List UInt8 := [42, 180, 0, 31, 180, 0, 65, 27, 46, 62, 42, 180, 0, 27, 180, 0, 61, 29, 182, 0, 68, 192, 0, 74]
abbrev dktX7_wakes_0 : List UInt8 := dkwX7_wakes_0 ++ dktX7_wakes_1
theorem dksX7_wakes_0 : cX7_wakes.data.toList.drop 0 = dktX7_wakes_0 := by decide +kernel
theorem dksX7_wakes_1 : cX7_wakes.data.toList.drop 24 = dktX7_wakes_1 := dk_seg dksX7_wakes_0 24 rfl rfl
theorem dksX7_wakes_2 : cX7_wakes.data.toList.drop 46 = dktX7_wakes_2 := dk_seg dksX7_wakes_1 22 rfl rfl
theorem dksX7_wakes_3 : cX7_wakes.data.toList.drop 70 = dktX7_wakes_3 := dk_seg dksX7_wakes_2 24 rfl rfl
theorem dksX7_wakes_4 : cX7_wakes.data.toList.drop 94 = dktX7_wakes_4 := dk_seg dksX7_wakes_3 24 rfl rfl
theorem dksX7_wakes_5 : cX7_wakes.data.toList.drop 118 = dktX7_wakes_5 := dk_seg dksX7_wakes_4 24 rfl rfl
theorem dksX7_wakes_6 : cX7_wakes.data.toList.drop 140 = dktX7_wakes_6 := dk_seg dksX7_wakes_5 22 rfl rfl
theorem dksX7_wakes_7 : cX7_wakes.data.toList.drop 164 = dktX7_wakes_7 := dk_seg dksX7_wakes_6 24 rfl rfl
theorem dksX7_wakes_8 : cX7_wakes.data.toList.drop 188 = dktX7_wakes_8 := dk_seg dksX7_wakes_7 24 rfl rfl
theorem dX7_wakes_0 : decode cX7_wakes 0 = .ok (.aload_n 0, 1) := dk_42 (dk_at dksX7_wakes_0 0 rfl rfl)
theorem dX7_wakes_1 : decode cX7_wakes 1 = .ok (.getfield 31, 3) := dk_180 0 31 (dk_at dksX7_wakes_0 1 rfl rfl)
theorem dX7_wakes_4 : decode cX7_wakes 4 = .ok (.getfield 65, 3) := dk_180 0 65 (dk_at dksX7_wakes_0 4 rfl rfl)
theorem dX7_wakes_7 : decode cX7_wakes 7 = .ok (.iload_n 1, 1) := dk_27 (dk_at dksX7_wakes_0 7 rfl rfl)
theorem dX7_wakes_8 : decode cX7_wakes 8 = .ok (.iaload, 1) := dk_46 (dk_at dksX7_wakes_0 8 rfl rfl)
theorem dX7_wakes_9 : decode cX7_wakes 9 = .ok (.istore_n 3, 1) := dk_62 (dk_at dksX7_wakes_0 9 rfl rfl)
theorem dX7_wakes_10 : decode cX7_wakes 10 = .ok (.aload_n 0, 1) := dk_42 (dk_at dksX7_wakes_0 10 rfl rfl)
theorem dX7_wakes_11 : decode cX7_wakes 11 = .ok (.getfield 27, 3) := dk_180 0 27 (dk_at dksX7_wakes_0 11 rfl rfl)
theorem dX7_wakes_14 : decode cX7_wakes 14 = .ok (.getfield 61, 3) := dk_180 0 61 (dk_at dksX7_wakes_0 14 rfl rfl)
theorem dX7_wakes_17 : decode cX7_wakes 17 = .ok (.iload_n 3, 1) := dk_29 (dk_at dksX7_wakes_0 17 rfl rfl)
theorem dX7_wakes_18 : decode cX7_wakes 18 = .ok (.invokevirtual 68, 3) := dk_182 0 68 (dk_at dksX7_wakes_0 18 rfl rfl)
theorem dX7_wakes_21 : decode cX7_wakes 21 = .ok (.checkcast 74, 3) := dk_192 0 74 (dk_at dksX7_wakes_0 21 rfl rfl)
theorem dX7_wakes_24 : decode cX7_wakes 24 = .ok (.astore 4, 2) := dk_58 4 (dk_at dksX7_wakes_1 0 rfl rfl)
theorem dX7_wakes_26 : decode cX7_wakes 26 = .ok (.aload_n 0, 1) := dk_42 (dk_at dksX7_wakes_1 2 rfl rfl)
theorem dX7_wakes_27 : decode cX7_wakes 27 = .ok (.getfield 27, 3) := dk_180 0 27 (dk_at dksX7_wakes_1 3 rfl rfl)
theorem dX7_wakes_30 : decode cX7_wakes 30 = .ok (.getfield 80, 3) := dk_180 0 80 (dk_at dksX7_wakes_1 6 rfl rfl)
theorem dX7_wakes_33 : decode cX7_wakes 33 = .ok (.ifnonnull 18, 3) := dk_199 0 18 (dk_at dksX7_wakes_1 9 rfl rfl)
theorem dX7_wakes_36 : decode cX7_wakes 36 = .ok (.iload_n 2, 1) := dk_28 (dk_at dksX7_wakes_1 12 rfl rfl)
theorem dX7_wakes_37 : decode cX7_wakes 37 = .ok (.aload 4, 2) := dk_25 4 (dk_at dksX7_wakes_1 13 rfl rfl)
theorem dX7_wakes_39 : decode cX7_wakes 39 = .ok (.getfield 84, 3) := dk_180 0 84 (dk_at dksX7_wakes_1 15 rfl rfl)
theorem dX7_wakes_42 : decode cX7_wakes 42 = .ok (.if_icmp .gt 7, 3) := dk_163 0 7 (dk_at dksX7_wakes_1 18 rfl rfl)
theorem dX7_wakes_45 : decode cX7_wakes 45 = .ok (.iconst 1, 1) := dk_4 (dk_at dksX7_wakes_1 21 rfl rfl)
theorem dX7_wakes_46 : decode cX7_wakes 46 = .ok (.goto 4, 3) := dk_167 0 4 (dk_at dksX7_wakes_2 0 rfl rfl)
theorem dX7_wakes_49 : decode cX7_wakes 49 = .ok (.iconst 0, 1) := dk_3 (dk_at dksX7_wakes_2 3 rfl rfl)
theorem dX7_wakes_50 : decode cX7_wakes 50 = .ok (.ireturn, 1) := dk_172 (dk_at dksX7_wakes_2 4 rfl rfl)
theorem dX7_wakes_51 : decode cX7_wakes 51 = .ok (.aload_n 0, 1) := dk_42 (dk_at dksX7_wakes_2 5 rfl rfl)
theorem dX7_wakes_52 : decode cX7_wakes 52 = .ok (.getfield 27, 3) := dk_180 0 27 (dk_at dksX7_wakes_2 6 rfl rfl)
theorem dX7_wakes_55 : decode cX7_wakes 55 = .ok (.getfield 87, 3) := dk_180 0 87 (dk_at dksX7_wakes_2 9 rfl rfl)
theorem dX7_wakes_58 : decode cX7_wakes 58 = .ok (.astore 5, 2) := dk_58 5 (dk_at dksX7_wakes_2 12 rfl rfl)
theorem dX7_wakes_60 : decode cX7_wakes 60 = .ok (.aload 5, 2) := dk_25 5 (dk_at dksX7_wakes_2 14 rfl rfl)
theorem dX7_wakes_62 : decode cX7_wakes 62 = .ok (.getstatic 91, 3) := dk_178 0 91 (dk_at dksX7_wakes_2 16 rfl rfl)
theorem dX7_wakes_65 : decode cX7_wakes 65 = .ok (.aload 4, 2) := dk_25 4 (dk_at dksX7_wakes_2 19 rfl rfl)
theorem dX7_wakes_67 : decode cX7_wakes 67 = .ok (.getfield 84, 3) := dk_180 0 84 (dk_at dksX7_wakes_2 21 rfl rfl)
theorem dX7_wakes_70 : decode cX7_wakes 70 = .ok (.invokevirtual 97, 3) := dk_182 0 97 (dk_at dksX7_wakes_3 0 rfl rfl)
theorem dX7_wakes_73 : decode cX7_wakes 73 = .ok (.aload 5, 2) := dk_25 5 (dk_at dksX7_wakes_3 3 rfl rfl)
theorem dX7_wakes_75 : decode cX7_wakes 75 = .ok (.getstatic 103, 3) := dk_178 0 103 (dk_at dksX7_wakes_3 5 rfl rfl)
theorem dX7_wakes_78 : decode cX7_wakes 78 = .ok (.iload_n 2, 1) := dk_28 (dk_at dksX7_wakes_3 8 rfl rfl)
theorem dX7_wakes_79 : decode cX7_wakes 79 = .ok (.invokevirtual 97, 3) := dk_182 0 97 (dk_at dksX7_wakes_3 9 rfl rfl)
theorem dX7_wakes_82 : decode cX7_wakes 82 = .ok (.aload 5, 2) := dk_25 5 (dk_at dksX7_wakes_3 12 rfl rfl)
theorem dX7_wakes_84 : decode cX7_wakes 84 = .ok (.getstatic 106, 3) := dk_178 0 106 (dk_at dksX7_wakes_3 14 rfl rfl)
theorem dX7_wakes_87 : decode cX7_wakes 87 = .ok (.aload_n 0, 1) := dk_42 (dk_at dksX7_wakes_3 17 rfl rfl)
theorem dX7_wakes_88 : decode cX7_wakes 88 = .ok (.getfield 109, 3) := dk_180 0 109 (dk_at dksX7_wakes_3 18 rfl rfl)
theorem dX7_wakes_91 : decode cX7_wakes 91 = .ok (.invokevirtual 97, 3) := dk_182 0 97 (dk_at dksX7_wakes_3 21 rfl rfl)
theorem dX7_wakes_94 : decode cX7_wakes 94 = .ok (.aload 5, 2) := dk_25 5 (dk_at dksX7_wakes_4 0 rfl rfl)
theorem dX7_wakes_96 : decode cX7_wakes 96 = .ok (.getstatic 112, 3) := dk_178 0 112 (dk_at dksX7_wakes_4 2 rfl rfl)
theorem dX7_wakes_99 : decode cX7_wakes 99 = .ok (.aload_n 0, 1) := dk_42 (dk_at dksX7_wakes_4 5 rfl rfl)
theorem dX7_wakes_100 : decode cX7_wakes 100 = .ok (.getfield 47, 3) := dk_180 0 47 (dk_at dksX7_wakes_4 6 rfl rfl)
theorem dX7_wakes_103 : decode cX7_wakes 103 = .ok (.bipush 60, 2) := dk_16 60 (dk_at dksX7_wakes_4 9 rfl rfl)
theorem dX7_wakes_105 : decode cX7_wakes 105 = .ok (.idiv, 1) := dk_108 (dk_at dksX7_wakes_4 11 rfl rfl)
theorem dX7_wakes_106 : decode cX7_wakes 106 = .ok (.invokevirtual 97, 3) := dk_182 0 97 (dk_at dksX7_wakes_4 12 rfl rfl)
theorem dX7_wakes_109 : decode cX7_wakes 109 = .ok (.aload 5, 2) := dk_25 5 (dk_at dksX7_wakes_4 15 rfl rfl)
theorem dX7_wakes_111 : decode cX7_wakes 111 = .ok (.getstatic 115, 3) := dk_178 0 115 (dk_at dksX7_wakes_4 17 rfl rfl)
theorem dX7_wakes_114 : decode cX7_wakes 114 = .ok (.aload_n 0, 1) := dk_42 (dk_at dksX7_wakes_4 20 rfl rfl)
theorem dX7_wakes_115 : decode cX7_wakes 115 = .ok (.iload_n 1, 1) := dk_27 (dk_at dksX7_wakes_4 21 rfl rfl)
theorem dX7_wakes_116 : decode cX7_wakes 116 = .ok (.iconst 1, 1) := dk_4 (dk_at dksX7_wakes_4 22 rfl rfl)
theorem dX7_wakes_117 : decode cX7_wakes 117 = .ok (.isub, 1) := dk_100 (dk_at dksX7_wakes_4 23 rfl rfl)
theorem dX7_wakes_118 : decode cX7_wakes 118 = .ok (.invokevirtual 118, 3) := dk_182 0 118 (dk_at dksX7_wakes_5 0 rfl rfl)
theorem dX7_wakes_121 : decode cX7_wakes 121 = .ok (.ifCond .eq 7, 3) := dk_153 0 7 (dk_at dksX7_wakes_5 3 rfl rfl)
theorem dX7_wakes_124 : decode cX7_wakes 124 = .ok (.iconst 1, 1) := dk_4 (dk_at dksX7_wakes_5 6 rfl rfl)
theorem dX7_wakes_125 : decode cX7_wakes 125 = .ok (.goto 4, 3) := dk_167 0 4 (dk_at dksX7_wakes_5 7 rfl rfl)
theorem dX7_wakes_128 : decode cX7_wakes 128 = .ok (.iconst 0, 1) := dk_3 (dk_at dksX7_wakes_5 10 rfl rfl)
theorem dX7_wakes_129 : decode cX7_wakes 129 = .ok (.aload_n 0, 1) := dk_42 (dk_at dksX7_wakes_5 11 rfl rfl)
theorem dX7_wakes_130 : decode cX7_wakes 130 = .ok (.iload_n 1, 1) := dk_27 (dk_at dksX7_wakes_5 12 rfl rfl)
theorem dX7_wakes_131 : decode cX7_wakes 131 = .ok (.iconst 1, 1) := dk_4 (dk_at dksX7_wakes_5 13 rfl rfl)
theorem dX7_wakes_132 : decode cX7_wakes 132 = .ok (.iadd, 1) := dk_96 (dk_at dksX7_wakes_5 14 rfl rfl)
theorem dX7_wakes_133 : decode cX7_wakes 133 = .ok (.invokevirtual 118, 3) := dk_182 0 118 (dk_at dksX7_wakes_5 15 rfl rfl)
theorem dX7_wakes_136 : decode cX7_wakes 136 = .ok (.ifCond .eq 7, 3) := dk_153 0 7 (dk_at dksX7_wakes_5 18 rfl rfl)
theorem dX7_wakes_139 : decode cX7_wakes 139 = .ok (.iconst 1, 1) := dk_4 (dk_at dksX7_wakes_5 21 rfl rfl)
theorem dX7_wakes_140 : decode cX7_wakes 140 = .ok (.goto 4, 3) := dk_167 0 4 (dk_at dksX7_wakes_6 0 rfl rfl)
theorem dX7_wakes_143 : decode cX7_wakes 143 = .ok (.iconst 0, 1) := dk_3 (dk_at dksX7_wakes_6 3 rfl rfl)
theorem dX7_wakes_144 : decode cX7_wakes 144 = .ok (.iadd, 1) := dk_96 (dk_at dksX7_wakes_6 4 rfl rfl)
theorem dX7_wakes_145 : decode cX7_wakes 145 = .ok (.invokevirtual 97, 3) := dk_182 0 97 (dk_at dksX7_wakes_6 5 rfl rfl)
theorem dX7_wakes_148 : decode cX7_wakes 148 = .ok (.aload 5, 2) := dk_25 5 (dk_at dksX7_wakes_6 8 rfl rfl)
theorem dX7_wakes_150 : decode cX7_wakes 150 = .ok (.getstatic 122, 3) := dk_178 0 122 (dk_at dksX7_wakes_6 10 rfl rfl)
theorem dX7_wakes_153 : decode cX7_wakes 153 = .ok (.aload_n 0, 1) := dk_42 (dk_at dksX7_wakes_6 13 rfl rfl)
theorem dX7_wakes_154 : decode cX7_wakes 154 = .ok (.getfield 31, 3) := dk_180 0 31 (dk_at dksX7_wakes_6 14 rfl rfl)
theorem dX7_wakes_157 : decode cX7_wakes 157 = .ok (.getfield 56, 3) := dk_180 0 56 (dk_at dksX7_wakes_6 17 rfl rfl)
theorem dX7_wakes_160 : decode cX7_wakes 160 = .ok (.iconst 1, 1) := dk_4 (dk_at dksX7_wakes_6 20 rfl rfl)
theorem dX7_wakes_161 : decode cX7_wakes 161 = .ok (.isub, 1) := dk_100 (dk_at dksX7_wakes_6 21 rfl rfl)
theorem dX7_wakes_162 : decode cX7_wakes 162 = .ok (.iload_n 1, 1) := dk_27 (dk_at dksX7_wakes_6 22 rfl rfl)
theorem dX7_wakes_163 : decode cX7_wakes 163 = .ok (.isub, 1) := dk_100 (dk_at dksX7_wakes_6 23 rfl rfl)
theorem dX7_wakes_164 : decode cX7_wakes 164 = .ok (.invokevirtual 97, 3) := dk_182 0 97 (dk_at dksX7_wakes_7 0 rfl rfl)
theorem dX7_wakes_167 : decode cX7_wakes 167 = .ok (.aload 5, 2) := dk_25 5 (dk_at dksX7_wakes_7 3 rfl rfl)
theorem dX7_wakes_169 : decode cX7_wakes 169 = .ok (.getstatic 125, 3) := dk_178 0 125 (dk_at dksX7_wakes_7 5 rfl rfl)
theorem dX7_wakes_172 : decode cX7_wakes 172 = .ok (.aload_n 0, 1) := dk_42 (dk_at dksX7_wakes_7 8 rfl rfl)
theorem dX7_wakes_173 : decode cX7_wakes 173 = .ok (.getfield 18, 3) := dk_180 0 18 (dk_at dksX7_wakes_7 9 rfl rfl)
theorem dX7_wakes_176 : decode cX7_wakes 176 = .ok (.iload_n 3, 1) := dk_29 (dk_at dksX7_wakes_7 12 rfl rfl)
theorem dX7_wakes_177 : decode cX7_wakes 177 = .ok (.iaload, 1) := dk_46 (dk_at dksX7_wakes_7 13 rfl rfl)
theorem dX7_wakes_178 : decode cX7_wakes 178 = .ok (.invokevirtual 97, 3) := dk_182 0 97 (dk_at dksX7_wakes_7 14 rfl rfl)
theorem dX7_wakes_181 : decode cX7_wakes 181 = .ok (.aload_n 0, 1) := dk_42 (dk_at dksX7_wakes_7 17 rfl rfl)
theorem dX7_wakes_182 : decode cX7_wakes 182 = .ok (.getfield 27, 3) := dk_180 0 27 (dk_at dksX7_wakes_7 18 rfl rfl)
theorem dX7_wakes_185 : decode cX7_wakes 185 = .ok (.getfield 80, 3) := dk_180 0 80 (dk_at dksX7_wakes_7 21 rfl rfl)
theorem dX7_wakes_188 : decode cX7_wakes 188 = .ok (.aload 5, 2) := dk_25 5 (dk_at dksX7_wakes_8 0 rfl rfl)
theorem dX7_wakes_190 : decode cX7_wakes 190 = .ok (.invokevirtual 128, 3) := dk_182 0 128 (dk_at dksX7_wakes_8 2 rfl rfl)
theorem dX7_wakes_193 : decode cX7_wakes 193 = .ok (.ifCond .eq 7, 3) := dk_153 0 7 (dk_at dksX7_wakes_8 5 rfl rfl)
theorem dX7_wakes_196 : decode cX7_wakes 196 = .ok (.iconst 1, 1) := dk_4 (dk_at dksX7_wakes_8 8 rfl rfl)
theorem dX7_wakes_197 : decode cX7_wakes 197 = .ok (.goto 4, 3) := dk_167 0 4 (dk_at dksX7_wakes_8 9 rfl rfl)
theorem dX7_wakes_200 : decode cX7_wakes 200 = .ok (.iconst 0, 1) := dk_3 (dk_at dksX7_wakes_8 12 rfl rfl)
theorem dX7_wakes_201 : decode cX7_wakes 201 = .ok (.ireturn, 1) := dk_172 (dk_at dksX7_wakes_8 13 rfl rfl)
abbrev cX7_isSnorer : ByteArray := prog_10_method_3_code
def yX7_isSnorer : MethodName := ⟨RX7, "isSnorer", "(I)Z"⟩
def dkwX7_isSnorer_2 : List UInt8 := [3, 172]
abbrev dktX7_isSnorer_2 : List UInt8 := dkwX7_isSnorer_2 ++ []
def dkwX7_isSnorer_1 : List UInt8 := [180, 0, 31, 180, 0, 65, 27, 46, 182, 0, 68, 192, 0, 74, 182, 0, 76, 153, 0, 7, 4, 167, 0, 4]
abbrev dktX7_isSnorer_1 : List UInt8 := dkwX7_isSnorer_1 ++ dktX7_isSnorer_2
def dkwX7_isSnorer_0 : List UInt8 := [27, 155, 0, 46, 27, 42, 180, 0, 31, 180, 0, 56, 162, 0, 35, 42, 180, 0, 27, 180, 0, 61, 42]
abbrev dktX7_isSnorer_0 : List UInt8 := dkwX7_isSnorer_0 ++ dktX7_isSnorer_1
theorem dksX7_isSnorer_0 : cX7_isSnorer.data.toList.drop 0 = dktX7_isSnorer_0 := by decide +kernel
theorem dksX7_isSnorer_1 : cX7_isSnorer.data.toList.drop 23 = dktX7_isSnorer_1 := dk_seg dksX7_isSnorer_0 23 rfl rfl
theorem dksX7_isSnorer_2 : cX7_isSnorer.data.toList.drop 47 = dktX7_isSnorer_2 := dk_seg dksX7_isSnorer_1 24 rfl rfl
theorem dX7_isSnorer_0 : decode cX7_isSnorer 0 = .ok (.iload_n 1, 1) := dk_27 (dk_at dksX7_isSnorer_0 0 rfl rfl)
theorem dX7_isSnorer_1 : decode cX7_isSnorer 1 = .ok (.ifCond .lt 46, 3) := dk_155 0 46 (dk_at dksX7_isSnorer_0 1 rfl rfl)
theorem dX7_isSnorer_4 : decode cX7_isSnorer 4 = .ok (.iload_n 1, 1) := dk_27 (dk_at dksX7_isSnorer_0 4 rfl rfl)
theorem dX7_isSnorer_5 : decode cX7_isSnorer 5 = .ok (.aload_n 0, 1) := dk_42 (dk_at dksX7_isSnorer_0 5 rfl rfl)
theorem dX7_isSnorer_6 : decode cX7_isSnorer 6 = .ok (.getfield 31, 3) := dk_180 0 31 (dk_at dksX7_isSnorer_0 6 rfl rfl)
theorem dX7_isSnorer_9 : decode cX7_isSnorer 9 = .ok (.getfield 56, 3) := dk_180 0 56 (dk_at dksX7_isSnorer_0 9 rfl rfl)
theorem dX7_isSnorer_12 : decode cX7_isSnorer 12 = .ok (.if_icmp .ge 35, 3) := dk_162 0 35 (dk_at dksX7_isSnorer_0 12 rfl rfl)
theorem dX7_isSnorer_15 : decode cX7_isSnorer 15 = .ok (.aload_n 0, 1) := dk_42 (dk_at dksX7_isSnorer_0 15 rfl rfl)
theorem dX7_isSnorer_16 : decode cX7_isSnorer 16 = .ok (.getfield 27, 3) := dk_180 0 27 (dk_at dksX7_isSnorer_0 16 rfl rfl)
theorem dX7_isSnorer_19 : decode cX7_isSnorer 19 = .ok (.getfield 61, 3) := dk_180 0 61 (dk_at dksX7_isSnorer_0 19 rfl rfl)
theorem dX7_isSnorer_22 : decode cX7_isSnorer 22 = .ok (.aload_n 0, 1) := dk_42 (dk_at dksX7_isSnorer_0 22 rfl rfl)
theorem dX7_isSnorer_23 : decode cX7_isSnorer 23 = .ok (.getfield 31, 3) := dk_180 0 31 (dk_at dksX7_isSnorer_1 0 rfl rfl)
theorem dX7_isSnorer_26 : decode cX7_isSnorer 26 = .ok (.getfield 65, 3) := dk_180 0 65 (dk_at dksX7_isSnorer_1 3 rfl rfl)
theorem dX7_isSnorer_29 : decode cX7_isSnorer 29 = .ok (.iload_n 1, 1) := dk_27 (dk_at dksX7_isSnorer_1 6 rfl rfl)
theorem dX7_isSnorer_30 : decode cX7_isSnorer 30 = .ok (.iaload, 1) := dk_46 (dk_at dksX7_isSnorer_1 7 rfl rfl)
theorem dX7_isSnorer_31 : decode cX7_isSnorer 31 = .ok (.invokevirtual 68, 3) := dk_182 0 68 (dk_at dksX7_isSnorer_1 8 rfl rfl)
theorem dX7_isSnorer_34 : decode cX7_isSnorer 34 = .ok (.checkcast 74, 3) := dk_192 0 74 (dk_at dksX7_isSnorer_1 11 rfl rfl)
theorem dX7_isSnorer_37 : decode cX7_isSnorer 37 = .ok (.invokevirtual 76, 3) := dk_182 0 76 (dk_at dksX7_isSnorer_1 14 rfl rfl)
theorem dX7_isSnorer_40 : decode cX7_isSnorer 40 = .ok (.ifCond .eq 7, 3) := dk_153 0 7 (dk_at dksX7_isSnorer_1 17 rfl rfl)
theorem dX7_isSnorer_43 : decode cX7_isSnorer 43 = .ok (.iconst 1, 1) := dk_4 (dk_at dksX7_isSnorer_1 20 rfl rfl)
theorem dX7_isSnorer_44 : decode cX7_isSnorer 44 = .ok (.goto 4, 3) := dk_167 0 4 (dk_at dksX7_isSnorer_1 21 rfl rfl)
theorem dX7_isSnorer_47 : decode cX7_isSnorer 47 = .ok (.iconst 0, 1) := dk_3 (dk_at dksX7_isSnorer_2 0 rfl rfl)
theorem dX7_isSnorer_48 : decode cX7_isSnorer 48 = .ok (.ireturn, 1) := dk_172 (dk_at dksX7_isSnorer_2 1 rfl rfl)
abbrev cX7_wake : ByteArray := prog_10_method_5_code
def yX7_wake : MethodName := ⟨RX7, "wake", "(I)V"⟩
def dkwX7_wake_0 : List UInt8 := [42, 180, 0, 18, 27, 92, 46, 4, 96, 79, 42, 180, 0, 21, 27, 42, 180, 0, 47, 79, 177]
abbrev dktX7_wake_0 : List UInt8 := dkwX7_wake_0 ++ []
theorem dksX7_wake_0 : cX7_wake.data.toList.drop 0 = dktX7_wake_0 := by decide +kernel
theorem dX7_wake_0 : decode cX7_wake 0 = .ok (.aload_n 0, 1) := dk_42 (dk_at dksX7_wake_0 0 rfl rfl)
theorem dX7_wake_1 : decode cX7_wake 1 = .ok (.getfield 18, 3) := dk_180 0 18 (dk_at dksX7_wake_0 1 rfl rfl)
theorem dX7_wake_4 : decode cX7_wake 4 = .ok (.iload_n 1, 1) := dk_27 (dk_at dksX7_wake_0 4 rfl rfl)
theorem dX7_wake_5 : decode cX7_wake 5 = .ok (.dup2, 1) := dk_92 (dk_at dksX7_wake_0 5 rfl rfl)
theorem dX7_wake_6 : decode cX7_wake 6 = .ok (.iaload, 1) := dk_46 (dk_at dksX7_wake_0 6 rfl rfl)
theorem dX7_wake_7 : decode cX7_wake 7 = .ok (.iconst 1, 1) := dk_4 (dk_at dksX7_wake_0 7 rfl rfl)
theorem dX7_wake_8 : decode cX7_wake 8 = .ok (.iadd, 1) := dk_96 (dk_at dksX7_wake_0 8 rfl rfl)
theorem dX7_wake_9 : decode cX7_wake 9 = .ok (.iastore, 1) := dk_79 (dk_at dksX7_wake_0 9 rfl rfl)
theorem dX7_wake_10 : decode cX7_wake 10 = .ok (.aload_n 0, 1) := dk_42 (dk_at dksX7_wake_0 10 rfl rfl)
theorem dX7_wake_11 : decode cX7_wake 11 = .ok (.getfield 21, 3) := dk_180 0 21 (dk_at dksX7_wake_0 11 rfl rfl)
theorem dX7_wake_14 : decode cX7_wake 14 = .ok (.iload_n 1, 1) := dk_27 (dk_at dksX7_wake_0 14 rfl rfl)
theorem dX7_wake_15 : decode cX7_wake 15 = .ok (.aload_n 0, 1) := dk_42 (dk_at dksX7_wake_0 15 rfl rfl)
theorem dX7_wake_16 : decode cX7_wake 16 = .ok (.getfield 47, 3) := dk_180 0 47 (dk_at dksX7_wake_0 16 rfl rfl)
theorem dX7_wake_19 : decode cX7_wake 19 = .ok (.iastore, 1) := dk_79 (dk_at dksX7_wake_0 19 rfl rfl)
theorem dX7_wake_20 : decode cX7_wake 20 = .ok (.return_, 1) := dk_177 (dk_at dksX7_wake_0 20 rfl rfl)
abbrev cX7_sore : ByteArray := prog_10_method_7_code
def yX7_sore : MethodName := ⟨RX7, "sore", "(II)I"⟩
def dkwX7_sore_2 : List UInt8 := [180, 0, 15, 21, 4, 46, 100, 182, 0, 162, 153, 0, 6, 21, 4, 172, 132, 3, 1, 167, 255, 194, 2, 172]
abbrev dktX7_sore_2 : List UInt8 := dkwX7_sore_2 ++ []
def dkwX7_sore_1 : List UInt8 := [180, 0, 61, 21, 4, 182, 0, 68, 192, 0, 74, 42, 180, 0, 9, 21, 4, 46, 42, 180, 0, 47, 42]
abbrev dktX7_sore_1 : List UInt8 := dkwX7_sore_1 ++ dktX7_sore_2
def dkwX7_sore_0 : List UInt8 := [27, 62, 29, 28, 162, 0, 63, 42, 180, 0, 31, 180, 0, 65, 29, 46, 54, 4, 42, 180, 0, 27]
abbrev dktX7_sore_0 : List UInt8 := dkwX7_sore_0 ++ dktX7_sore_1
theorem dksX7_sore_0 : cX7_sore.data.toList.drop 0 = dktX7_sore_0 := by decide +kernel
theorem dksX7_sore_1 : cX7_sore.data.toList.drop 22 = dktX7_sore_1 := dk_seg dksX7_sore_0 22 rfl rfl
theorem dksX7_sore_2 : cX7_sore.data.toList.drop 45 = dktX7_sore_2 := dk_seg dksX7_sore_1 23 rfl rfl
theorem dX7_sore_0 : decode cX7_sore 0 = .ok (.iload_n 1, 1) := dk_27 (dk_at dksX7_sore_0 0 rfl rfl)
theorem dX7_sore_1 : decode cX7_sore 1 = .ok (.istore_n 3, 1) := dk_62 (dk_at dksX7_sore_0 1 rfl rfl)
theorem dX7_sore_2 : decode cX7_sore 2 = .ok (.iload_n 3, 1) := dk_29 (dk_at dksX7_sore_0 2 rfl rfl)
theorem dX7_sore_3 : decode cX7_sore 3 = .ok (.iload_n 2, 1) := dk_28 (dk_at dksX7_sore_0 3 rfl rfl)
theorem dX7_sore_4 : decode cX7_sore 4 = .ok (.if_icmp .ge 63, 3) := dk_162 0 63 (dk_at dksX7_sore_0 4 rfl rfl)
theorem dX7_sore_7 : decode cX7_sore 7 = .ok (.aload_n 0, 1) := dk_42 (dk_at dksX7_sore_0 7 rfl rfl)
theorem dX7_sore_8 : decode cX7_sore 8 = .ok (.getfield 31, 3) := dk_180 0 31 (dk_at dksX7_sore_0 8 rfl rfl)
theorem dX7_sore_11 : decode cX7_sore 11 = .ok (.getfield 65, 3) := dk_180 0 65 (dk_at dksX7_sore_0 11 rfl rfl)
theorem dX7_sore_14 : decode cX7_sore 14 = .ok (.iload_n 3, 1) := dk_29 (dk_at dksX7_sore_0 14 rfl rfl)
theorem dX7_sore_15 : decode cX7_sore 15 = .ok (.iaload, 1) := dk_46 (dk_at dksX7_sore_0 15 rfl rfl)
theorem dX7_sore_16 : decode cX7_sore 16 = .ok (.istore 4, 2) := dk_54 4 (dk_at dksX7_sore_0 16 rfl rfl)
theorem dX7_sore_18 : decode cX7_sore 18 = .ok (.aload_n 0, 1) := dk_42 (dk_at dksX7_sore_0 18 rfl rfl)
theorem dX7_sore_19 : decode cX7_sore 19 = .ok (.getfield 27, 3) := dk_180 0 27 (dk_at dksX7_sore_0 19 rfl rfl)
theorem dX7_sore_22 : decode cX7_sore 22 = .ok (.getfield 61, 3) := dk_180 0 61 (dk_at dksX7_sore_1 0 rfl rfl)
theorem dX7_sore_25 : decode cX7_sore 25 = .ok (.iload 4, 2) := dk_21 4 (dk_at dksX7_sore_1 3 rfl rfl)
theorem dX7_sore_27 : decode cX7_sore 27 = .ok (.invokevirtual 68, 3) := dk_182 0 68 (dk_at dksX7_sore_1 5 rfl rfl)
theorem dX7_sore_30 : decode cX7_sore 30 = .ok (.checkcast 74, 3) := dk_192 0 74 (dk_at dksX7_sore_1 8 rfl rfl)
theorem dX7_sore_33 : decode cX7_sore 33 = .ok (.aload_n 0, 1) := dk_42 (dk_at dksX7_sore_1 11 rfl rfl)
theorem dX7_sore_34 : decode cX7_sore 34 = .ok (.getfield 9, 3) := dk_180 0 9 (dk_at dksX7_sore_1 12 rfl rfl)
theorem dX7_sore_37 : decode cX7_sore 37 = .ok (.iload 4, 2) := dk_21 4 (dk_at dksX7_sore_1 15 rfl rfl)
theorem dX7_sore_39 : decode cX7_sore 39 = .ok (.iaload, 1) := dk_46 (dk_at dksX7_sore_1 17 rfl rfl)
theorem dX7_sore_40 : decode cX7_sore 40 = .ok (.aload_n 0, 1) := dk_42 (dk_at dksX7_sore_1 18 rfl rfl)
theorem dX7_sore_41 : decode cX7_sore 41 = .ok (.getfield 47, 3) := dk_180 0 47 (dk_at dksX7_sore_1 19 rfl rfl)
theorem dX7_sore_44 : decode cX7_sore 44 = .ok (.aload_n 0, 1) := dk_42 (dk_at dksX7_sore_1 22 rfl rfl)
theorem dX7_sore_45 : decode cX7_sore 45 = .ok (.getfield 15, 3) := dk_180 0 15 (dk_at dksX7_sore_2 0 rfl rfl)
theorem dX7_sore_48 : decode cX7_sore 48 = .ok (.iload 4, 2) := dk_21 4 (dk_at dksX7_sore_2 3 rfl rfl)
theorem dX7_sore_50 : decode cX7_sore 50 = .ok (.iaload, 1) := dk_46 (dk_at dksX7_sore_2 5 rfl rfl)
theorem dX7_sore_51 : decode cX7_sore 51 = .ok (.isub, 1) := dk_100 (dk_at dksX7_sore_2 6 rfl rfl)
theorem dX7_sore_52 : decode cX7_sore 52 = .ok (.invokevirtual 162, 3) := dk_182 0 162 (dk_at dksX7_sore_2 7 rfl rfl)
theorem dX7_sore_55 : decode cX7_sore 55 = .ok (.ifCond .eq 6, 3) := dk_153 0 6 (dk_at dksX7_sore_2 10 rfl rfl)
theorem dX7_sore_58 : decode cX7_sore 58 = .ok (.iload 4, 2) := dk_21 4 (dk_at dksX7_sore_2 13 rfl rfl)
theorem dX7_sore_60 : decode cX7_sore 60 = .ok (.ireturn, 1) := dk_172 (dk_at dksX7_sore_2 15 rfl rfl)
theorem dX7_sore_61 : decode cX7_sore 61 = .ok (.iinc 3 1, 3) := dk_132 3 1 (dk_at dksX7_sore_2 16 rfl rfl)
theorem dX7_sore_64 : decode cX7_sore 64 = .ok (.goto (-62), 3) := dk_167 255 194 (dk_at dksX7_sore_2 19 rfl rfl)
theorem dX7_sore_67 : decode cX7_sore 67 = .ok (.iconst (-1), 1) := dk_2 (dk_at dksX7_sore_2 22 rfl rfl)
theorem dX7_sore_68 : decode cX7_sore 68 = .ok (.ireturn, 1) := dk_172 (dk_at dksX7_sore_2 23 rfl rfl)
abbrev cX7_goes : ByteArray := prog_10_method_8_code
def yX7_goes : MethodName := ⟨RX7, "goes", "(I)V"⟩
def dkwX7_goes_2 : List UInt8 := [182, 0, 144, 154, 0, 8, 42, 29, 182, 0, 155, 132, 2, 1, 167, 255, 199, 177]
abbrev dktX7_goes_2 : List UInt8 := dkwX7_goes_2 ++ []
def dkwX7_goes_1 : List UInt8 := [62, 42, 180, 0, 27, 180, 0, 61, 29, 182, 0, 68, 192, 0, 74, 182, 0, 141, 153, 0, 16, 42, 29]
abbrev dktX7_goes_1 : List UInt8 := dkwX7_goes_1 ++ dktX7_goes_2
def dkwX7_goes_0 : List UInt8 := [27, 4, 96, 61, 28, 42, 180, 0, 31, 180, 0, 56, 162, 0, 52, 42, 180, 0, 31, 180, 0, 65, 28, 46]
abbrev dktX7_goes_0 : List UInt8 := dkwX7_goes_0 ++ dktX7_goes_1
theorem dksX7_goes_0 : cX7_goes.data.toList.drop 0 = dktX7_goes_0 := by decide +kernel
theorem dksX7_goes_1 : cX7_goes.data.toList.drop 24 = dktX7_goes_1 := dk_seg dksX7_goes_0 24 rfl rfl
theorem dksX7_goes_2 : cX7_goes.data.toList.drop 47 = dktX7_goes_2 := dk_seg dksX7_goes_1 23 rfl rfl
theorem dX7_goes_0 : decode cX7_goes 0 = .ok (.iload_n 1, 1) := dk_27 (dk_at dksX7_goes_0 0 rfl rfl)
theorem dX7_goes_1 : decode cX7_goes 1 = .ok (.iconst 1, 1) := dk_4 (dk_at dksX7_goes_0 1 rfl rfl)
theorem dX7_goes_2 : decode cX7_goes 2 = .ok (.iadd, 1) := dk_96 (dk_at dksX7_goes_0 2 rfl rfl)
theorem dX7_goes_3 : decode cX7_goes 3 = .ok (.istore_n 2, 1) := dk_61 (dk_at dksX7_goes_0 3 rfl rfl)
theorem dX7_goes_4 : decode cX7_goes 4 = .ok (.iload_n 2, 1) := dk_28 (dk_at dksX7_goes_0 4 rfl rfl)
theorem dX7_goes_5 : decode cX7_goes 5 = .ok (.aload_n 0, 1) := dk_42 (dk_at dksX7_goes_0 5 rfl rfl)
theorem dX7_goes_6 : decode cX7_goes 6 = .ok (.getfield 31, 3) := dk_180 0 31 (dk_at dksX7_goes_0 6 rfl rfl)
theorem dX7_goes_9 : decode cX7_goes 9 = .ok (.getfield 56, 3) := dk_180 0 56 (dk_at dksX7_goes_0 9 rfl rfl)
theorem dX7_goes_12 : decode cX7_goes 12 = .ok (.if_icmp .ge 52, 3) := dk_162 0 52 (dk_at dksX7_goes_0 12 rfl rfl)
theorem dX7_goes_15 : decode cX7_goes 15 = .ok (.aload_n 0, 1) := dk_42 (dk_at dksX7_goes_0 15 rfl rfl)
theorem dX7_goes_16 : decode cX7_goes 16 = .ok (.getfield 31, 3) := dk_180 0 31 (dk_at dksX7_goes_0 16 rfl rfl)
theorem dX7_goes_19 : decode cX7_goes 19 = .ok (.getfield 65, 3) := dk_180 0 65 (dk_at dksX7_goes_0 19 rfl rfl)
theorem dX7_goes_22 : decode cX7_goes 22 = .ok (.iload_n 2, 1) := dk_28 (dk_at dksX7_goes_0 22 rfl rfl)
theorem dX7_goes_23 : decode cX7_goes 23 = .ok (.iaload, 1) := dk_46 (dk_at dksX7_goes_0 23 rfl rfl)
theorem dX7_goes_24 : decode cX7_goes 24 = .ok (.istore_n 3, 1) := dk_62 (dk_at dksX7_goes_1 0 rfl rfl)
theorem dX7_goes_25 : decode cX7_goes 25 = .ok (.aload_n 0, 1) := dk_42 (dk_at dksX7_goes_1 1 rfl rfl)
theorem dX7_goes_26 : decode cX7_goes 26 = .ok (.getfield 27, 3) := dk_180 0 27 (dk_at dksX7_goes_1 2 rfl rfl)
theorem dX7_goes_29 : decode cX7_goes 29 = .ok (.getfield 61, 3) := dk_180 0 61 (dk_at dksX7_goes_1 5 rfl rfl)
theorem dX7_goes_32 : decode cX7_goes 32 = .ok (.iload_n 3, 1) := dk_29 (dk_at dksX7_goes_1 8 rfl rfl)
theorem dX7_goes_33 : decode cX7_goes 33 = .ok (.invokevirtual 68, 3) := dk_182 0 68 (dk_at dksX7_goes_1 9 rfl rfl)
theorem dX7_goes_36 : decode cX7_goes 36 = .ok (.checkcast 74, 3) := dk_192 0 74 (dk_at dksX7_goes_1 12 rfl rfl)
theorem dX7_goes_39 : decode cX7_goes 39 = .ok (.invokevirtual 141, 3) := dk_182 0 141 (dk_at dksX7_goes_1 15 rfl rfl)
theorem dX7_goes_42 : decode cX7_goes 42 = .ok (.ifCond .eq 16, 3) := dk_153 0 16 (dk_at dksX7_goes_1 18 rfl rfl)
theorem dX7_goes_45 : decode cX7_goes 45 = .ok (.aload_n 0, 1) := dk_42 (dk_at dksX7_goes_1 21 rfl rfl)
theorem dX7_goes_46 : decode cX7_goes 46 = .ok (.iload_n 3, 1) := dk_29 (dk_at dksX7_goes_1 22 rfl rfl)
theorem dX7_goes_47 : decode cX7_goes 47 = .ok (.invokevirtual 144, 3) := dk_182 0 144 (dk_at dksX7_goes_2 0 rfl rfl)
theorem dX7_goes_50 : decode cX7_goes 50 = .ok (.ifCond .ne 8, 3) := dk_154 0 8 (dk_at dksX7_goes_2 3 rfl rfl)
theorem dX7_goes_53 : decode cX7_goes 53 = .ok (.aload_n 0, 1) := dk_42 (dk_at dksX7_goes_2 6 rfl rfl)
theorem dX7_goes_54 : decode cX7_goes 54 = .ok (.iload_n 3, 1) := dk_29 (dk_at dksX7_goes_2 7 rfl rfl)
theorem dX7_goes_55 : decode cX7_goes 55 = .ok (.invokevirtual 155, 3) := dk_182 0 155 (dk_at dksX7_goes_2 8 rfl rfl)
theorem dX7_goes_58 : decode cX7_goes 58 = .ok (.iinc 2 1, 3) := dk_132 2 1 (dk_at dksX7_goes_2 11 rfl rfl)
theorem dX7_goes_61 : decode cX7_goes 61 = .ok (.goto (-57), 3) := dk_167 255 199 (dk_at dksX7_goes_2 14 rfl rfl)
theorem dX7_goes_64 : decode cX7_goes 64 = .ok (.return_, 1) := dk_177 (dk_at dksX7_goes_2 17 rfl rfl)
abbrev cX7_wokenAll : ByteArray := prog_10_method_14_code
def yX7_wokenAll : MethodName := ⟨RX7, "wokenAll", "()I"⟩
def dkwX7_wokenAll_1 : List UInt8 := [180, 0, 65, 28, 46, 46, 96, 60, 132, 2, 1, 167, 255, 225, 27, 172]
abbrev dktX7_wokenAll_1 : List UInt8 := dkwX7_wokenAll_1 ++ []
def dkwX7_wokenAll_0 : List UInt8 := [3, 60, 3, 61, 28, 42, 180, 0, 31, 180, 0, 56, 162, 0, 26, 27, 42, 180, 0, 18, 42, 180, 0, 31]
abbrev dktX7_wokenAll_0 : List UInt8 := dkwX7_wokenAll_0 ++ dktX7_wokenAll_1
theorem dksX7_wokenAll_0 : cX7_wokenAll.data.toList.drop 0 = dktX7_wokenAll_0 := by decide +kernel
theorem dksX7_wokenAll_1 : cX7_wokenAll.data.toList.drop 24 = dktX7_wokenAll_1 := dk_seg dksX7_wokenAll_0 24 rfl rfl
theorem dX7_wokenAll_0 : decode cX7_wokenAll 0 = .ok (.iconst 0, 1) := dk_3 (dk_at dksX7_wokenAll_0 0 rfl rfl)
theorem dX7_wokenAll_1 : decode cX7_wokenAll 1 = .ok (.istore_n 1, 1) := dk_60 (dk_at dksX7_wokenAll_0 1 rfl rfl)
theorem dX7_wokenAll_2 : decode cX7_wokenAll 2 = .ok (.iconst 0, 1) := dk_3 (dk_at dksX7_wokenAll_0 2 rfl rfl)
theorem dX7_wokenAll_3 : decode cX7_wokenAll 3 = .ok (.istore_n 2, 1) := dk_61 (dk_at dksX7_wokenAll_0 3 rfl rfl)
theorem dX7_wokenAll_4 : decode cX7_wokenAll 4 = .ok (.iload_n 2, 1) := dk_28 (dk_at dksX7_wokenAll_0 4 rfl rfl)
theorem dX7_wokenAll_5 : decode cX7_wokenAll 5 = .ok (.aload_n 0, 1) := dk_42 (dk_at dksX7_wokenAll_0 5 rfl rfl)
theorem dX7_wokenAll_6 : decode cX7_wokenAll 6 = .ok (.getfield 31, 3) := dk_180 0 31 (dk_at dksX7_wokenAll_0 6 rfl rfl)
theorem dX7_wokenAll_9 : decode cX7_wokenAll 9 = .ok (.getfield 56, 3) := dk_180 0 56 (dk_at dksX7_wokenAll_0 9 rfl rfl)
theorem dX7_wokenAll_12 : decode cX7_wokenAll 12 = .ok (.if_icmp .ge 26, 3) := dk_162 0 26 (dk_at dksX7_wokenAll_0 12 rfl rfl)
theorem dX7_wokenAll_15 : decode cX7_wokenAll 15 = .ok (.iload_n 1, 1) := dk_27 (dk_at dksX7_wokenAll_0 15 rfl rfl)
theorem dX7_wokenAll_16 : decode cX7_wokenAll 16 = .ok (.aload_n 0, 1) := dk_42 (dk_at dksX7_wokenAll_0 16 rfl rfl)
theorem dX7_wokenAll_17 : decode cX7_wokenAll 17 = .ok (.getfield 18, 3) := dk_180 0 18 (dk_at dksX7_wokenAll_0 17 rfl rfl)
theorem dX7_wokenAll_20 : decode cX7_wokenAll 20 = .ok (.aload_n 0, 1) := dk_42 (dk_at dksX7_wokenAll_0 20 rfl rfl)
theorem dX7_wokenAll_21 : decode cX7_wokenAll 21 = .ok (.getfield 31, 3) := dk_180 0 31 (dk_at dksX7_wokenAll_0 21 rfl rfl)
theorem dX7_wokenAll_24 : decode cX7_wokenAll 24 = .ok (.getfield 65, 3) := dk_180 0 65 (dk_at dksX7_wokenAll_1 0 rfl rfl)
theorem dX7_wokenAll_27 : decode cX7_wokenAll 27 = .ok (.iload_n 2, 1) := dk_28 (dk_at dksX7_wokenAll_1 3 rfl rfl)
theorem dX7_wokenAll_28 : decode cX7_wokenAll 28 = .ok (.iaload, 1) := dk_46 (dk_at dksX7_wokenAll_1 4 rfl rfl)
theorem dX7_wokenAll_29 : decode cX7_wokenAll 29 = .ok (.iaload, 1) := dk_46 (dk_at dksX7_wokenAll_1 5 rfl rfl)
theorem dX7_wokenAll_30 : decode cX7_wokenAll 30 = .ok (.iadd, 1) := dk_96 (dk_at dksX7_wokenAll_1 6 rfl rfl)
theorem dX7_wokenAll_31 : decode cX7_wokenAll 31 = .ok (.istore_n 1, 1) := dk_60 (dk_at dksX7_wokenAll_1 7 rfl rfl)
theorem dX7_wokenAll_32 : decode cX7_wokenAll 32 = .ok (.iinc 2 1, 3) := dk_132 2 1 (dk_at dksX7_wokenAll_1 8 rfl rfl)
theorem dX7_wokenAll_35 : decode cX7_wokenAll 35 = .ok (.goto (-31), 3) := dk_167 255 225 (dk_at dksX7_wokenAll_1 11 rfl rfl)
theorem dX7_wokenAll_38 : decode cX7_wokenAll 38 = .ok (.iload_n 1, 1) := dk_27 (dk_at dksX7_wokenAll_1 14 rfl rfl)
theorem dX7_wokenAll_39 : decode cX7_wokenAll 39 = .ok (.ireturn, 1) := dk_172 (dk_at dksX7_wokenAll_1 15 rfl rfl)
