set_option maxRecDepth 100000
/-! SpoonRowModel: codes and words (from claim/names) -/
abbrev cX8_init : ByteArray := prog_21_method_1_code
def yX8_init : MethodName := ⟨RX8, "<init>", "()V"⟩
def dkwX8_init_19 : List UInt8 := [16, 8, 188, 10, 181, 0, 150, 42, 16, 8, 188, 10, 181, 0, 153, 42, 6, 188, 10, 181, 0, 156, 177]
abbrev dktX8_init_19 : List UInt8 := dkwX8_init_19 ++ []
def dkwX8_init_18 : List UInt8 := [188, 10, 181, 0, 141, 42, 17, 2, 208, 188, 10, 181, 0, 144, 42, 16, 8, 188, 10, 181, 0, 147, 42]
abbrev dktX8_init_18 : List UInt8 := dkwX8_init_18 ++ dktX8_init_19
def dkwX8_init_17 : List UInt8 := [188, 10, 181, 0, 132, 42, 16, 8, 188, 10, 181, 0, 135, 42, 16, 8, 188, 10, 181, 0, 138, 42, 16, 18]
abbrev dktX8_init_17 : List UInt8 := dkwX8_init_17 ++ dktX8_init_18
def dkwX8_init_16 : List UInt8 := [188, 10, 181, 0, 123, 42, 16, 7, 188, 10, 181, 0, 126, 42, 16, 7, 188, 10, 181, 0, 129, 42, 16, 8]
abbrev dktX8_init_16 : List UInt8 := dkwX8_init_16 ++ dktX8_init_17
def dkwX8_init_15 : List UInt8 := [181, 0, 114, 42, 17, 4, 176, 188, 10, 181, 0, 117, 42, 17, 4, 176, 188, 10, 181, 0, 120, 42, 16, 7]
abbrev dktX8_init_15 : List UInt8 := dkwX8_init_15 ++ dktX8_init_16
def dkwX8_init_14 : List UInt8 := [42, 16, 7, 188, 10, 181, 0, 108, 42, 17, 4, 176, 188, 10, 181, 0, 111, 42, 17, 4, 176, 188, 10]
abbrev dktX8_init_14 : List UInt8 := dkwX8_init_14 ++ dktX8_init_15
def dkwX8_init_13 : List UInt8 := [42, 16, 7, 188, 10, 181, 0, 99, 42, 16, 7, 188, 10, 181, 0, 102, 42, 16, 7, 188, 10, 181, 0, 105]
abbrev dktX8_init_13 : List UInt8 := dkwX8_init_13 ++ dktX8_init_14
def dkwX8_init_12 : List UInt8 := [42, 16, 7, 188, 10, 181, 0, 90, 42, 16, 7, 188, 10, 181, 0, 93, 42, 16, 7, 188, 10, 181, 0, 96]
abbrev dktX8_init_12 : List UInt8 := dkwX8_init_12 ++ dktX8_init_13
def dkwX8_init_11 : List UInt8 := [181, 0, 78, 42, 2, 181, 0, 81, 42, 16, 7, 188, 10, 181, 0, 84, 42, 16, 64, 188, 10, 181, 0, 87]
abbrev dktX8_init_11 : List UInt8 := dkwX8_init_11 ++ dktX8_init_12
def dkwX8_init_10 : List UInt8 := [188, 10, 181, 0, 68, 42, 2, 181, 0, 71, 42, 16, 7, 188, 10, 181, 0, 75, 42, 17, 2, 208, 188, 10]
abbrev dktX8_init_10 : List UInt8 := dkwX8_init_10 ++ dktX8_init_11
def dkwX8_init_9 : List UInt8 := [181, 0, 59, 42, 17, 4, 176, 188, 10, 181, 0, 62, 42, 6, 188, 10, 181, 0, 65, 42, 17, 2, 88]
abbrev dktX8_init_9 : List UInt8 := dkwX8_init_9 ++ dktX8_init_10
def dkwX8_init_8 : List UInt8 := [181, 0, 50, 42, 16, 14, 188, 10, 181, 0, 53, 42, 16, 14, 188, 10, 181, 0, 56, 42, 16, 14, 188, 10]
abbrev dktX8_init_8 : List UInt8 := dkwX8_init_8 ++ dktX8_init_9
def dkwX8_init_7 : List UInt8 := [181, 0, 42, 42, 16, 28, 188, 10, 181, 0, 45, 42, 16, 14, 188, 10, 181, 0, 48, 42, 16, 14, 188, 10]
abbrev dktX8_init_7 : List UInt8 := dkwX8_init_7 ++ dktX8_init_8
def dkwX8_init_6 : List UInt8 := [89, 16, 13, 3, 79, 89, 16, 14, 3, 79, 89, 16, 15, 3, 79, 181, 0, 38, 42, 16, 14, 188, 10]
abbrev dktX8_init_6 : List UInt8 := dkwX8_init_6 ++ dktX8_init_7
def dkwX8_init_5 : List UInt8 := [89, 16, 9, 16, 20, 79, 89, 16, 10, 6, 79, 89, 16, 11, 17, 1, 224, 79, 89, 16, 12, 16, 15, 79]
abbrev dktX8_init_5 : List UInt8 := dkwX8_init_5 ++ dktX8_init_6
def dkwX8_init_4 : List UInt8 := [89, 7, 16, 15, 79, 89, 8, 3, 79, 89, 16, 6, 3, 79, 89, 16, 7, 3, 79, 89, 16, 8, 3, 79]
abbrev dktX8_init_4 : List UInt8 := dkwX8_init_4 ++ dktX8_init_5
def dkwX8_init_3 : List UInt8 := [42, 16, 16, 188, 10, 89, 3, 3, 79, 89, 4, 16, 20, 79, 89, 5, 6, 79, 89, 6, 17, 1, 224, 79]
abbrev dktX8_init_3 : List UInt8 := dkwX8_init_3 ++ dktX8_init_4
def dkwX8_init_2 : List UInt8 := [89, 6, 18, 27, 83, 89, 7, 18, 29, 83, 89, 8, 18, 31, 83, 89, 16, 6, 18, 33, 83, 181, 0, 35]
abbrev dktX8_init_2 : List UInt8 := dkwX8_init_2 ++ dktX8_init_3
def dkwX8_init_1 : List UInt8 := [181, 0, 17, 42, 16, 7, 189, 0, 9, 89, 3, 18, 21, 83, 89, 4, 18, 23, 83, 89, 5, 18, 25, 83]
abbrev dktX8_init_1 : List UInt8 := dkwX8_init_1 ++ dktX8_init_2
def dkwX8_init_0 : List UInt8 := [42, 183, 0, 3, 42, 6, 189, 0, 9, 89, 3, 18, 11, 83, 89, 4, 18, 13, 83, 89, 5, 18, 15, 83]
abbrev dktX8_init_0 : List UInt8 := dkwX8_init_0 ++ dktX8_init_1
theorem dksX8_init_0 : cX8_init.data.toList.drop 0 = dktX8_init_0 := by decide +kernel
theorem dksX8_init_1 : cX8_init.data.toList.drop 24 = dktX8_init_1 := dk_seg dksX8_init_0 24 rfl rfl
theorem dksX8_init_2 : cX8_init.data.toList.drop 48 = dktX8_init_2 := dk_seg dksX8_init_1 24 rfl rfl
theorem dksX8_init_3 : cX8_init.data.toList.drop 72 = dktX8_init_3 := dk_seg dksX8_init_2 24 rfl rfl
theorem dksX8_init_4 : cX8_init.data.toList.drop 96 = dktX8_init_4 := dk_seg dksX8_init_3 24 rfl rfl
theorem dksX8_init_5 : cX8_init.data.toList.drop 120 = dktX8_init_5 := dk_seg dksX8_init_4 24 rfl rfl
theorem dksX8_init_6 : cX8_init.data.toList.drop 144 = dktX8_init_6 := dk_seg dksX8_init_5 24 rfl rfl
theorem dksX8_init_7 : cX8_init.data.toList.drop 167 = dktX8_init_7 := dk_seg dksX8_init_6 23 rfl rfl
theorem dksX8_init_8 : cX8_init.data.toList.drop 191 = dktX8_init_8 := dk_seg dksX8_init_7 24 rfl rfl
theorem dksX8_init_9 : cX8_init.data.toList.drop 215 = dktX8_init_9 := dk_seg dksX8_init_8 24 rfl rfl
theorem dksX8_init_10 : cX8_init.data.toList.drop 238 = dktX8_init_10 := dk_seg dksX8_init_9 23 rfl rfl
theorem dksX8_init_11 : cX8_init.data.toList.drop 262 = dktX8_init_11 := dk_seg dksX8_init_10 24 rfl rfl
theorem dksX8_init_12 : cX8_init.data.toList.drop 286 = dktX8_init_12 := dk_seg dksX8_init_11 24 rfl rfl
theorem dksX8_init_13 : cX8_init.data.toList.drop 310 = dktX8_init_13 := dk_seg dksX8_init_12 24 rfl rfl
theorem dksX8_init_14 : cX8_init.data.toList.drop 334 = dktX8_init_14 := dk_seg dksX8_init_13 24 rfl rfl
theorem dksX8_init_15 : cX8_init.data.toList.drop 357 = dktX8_init_15 := dk_seg dksX8_init_14 23 rfl rfl
theorem dksX8_init_16 : cX8_init.data.toList.drop 381 = dktX8_init_16 := dk_seg dksX8_init_15 24 rfl rfl
theorem dksX8_init_17 : cX8_init.data.toList.drop 405 = dktX8_init_17 := dk_seg dksX8_init_16 24 rfl rfl
theorem dksX8_init_18 : cX8_init.data.toList.drop 429 = dktX8_init_18 := dk_seg dksX8_init_17 24 rfl rfl
theorem dksX8_init_19 : cX8_init.data.toList.drop 452 = dktX8_init_19 := dk_seg dksX8_init_18 23 rfl rfl
theorem dX8_init_0 : decode cX8_init 0 = .ok (.aload_n 0, 1) := dk_42 (dk_at dksX8_init_0 0 rfl rfl)
theorem dX8_init_1 : decode cX8_init 1 = .ok (.invokespecial 3, 3) := dk_183 0 3 (dk_at dksX8_init_0 1 rfl rfl)
theorem dX8_init_4 : decode cX8_init 4 = .ok (.aload_n 0, 1) := dk_42 (dk_at dksX8_init_0 4 rfl rfl)
theorem dX8_init_5 : decode cX8_init 5 = .ok (.iconst 3, 1) := dk_6 (dk_at dksX8_init_0 5 rfl rfl)
theorem dX8_init_6 : decode cX8_init 6 = .ok (.anewarray 9, 3) := dk_189 0 9 (dk_at dksX8_init_0 6 rfl rfl)
theorem dX8_init_9 : decode cX8_init 9 = .ok (.dup, 1) := dk_89 (dk_at dksX8_init_0 9 rfl rfl)
theorem dX8_init_10 : decode cX8_init 10 = .ok (.iconst 0, 1) := dk_3 (dk_at dksX8_init_0 10 rfl rfl)
theorem dX8_init_11 : decode cX8_init 11 = .ok (.ldc 11, 2) := dk_18 11 (dk_at dksX8_init_0 11 rfl rfl)
theorem dX8_init_13 : decode cX8_init 13 = .ok (.aastore, 1) := dk_83 (dk_at dksX8_init_0 13 rfl rfl)
theorem dX8_init_14 : decode cX8_init 14 = .ok (.dup, 1) := dk_89 (dk_at dksX8_init_0 14 rfl rfl)
theorem dX8_init_15 : decode cX8_init 15 = .ok (.iconst 1, 1) := dk_4 (dk_at dksX8_init_0 15 rfl rfl)
theorem dX8_init_16 : decode cX8_init 16 = .ok (.ldc 13, 2) := dk_18 13 (dk_at dksX8_init_0 16 rfl rfl)
theorem dX8_init_18 : decode cX8_init 18 = .ok (.aastore, 1) := dk_83 (dk_at dksX8_init_0 18 rfl rfl)
theorem dX8_init_19 : decode cX8_init 19 = .ok (.dup, 1) := dk_89 (dk_at dksX8_init_0 19 rfl rfl)
theorem dX8_init_20 : decode cX8_init 20 = .ok (.iconst 2, 1) := dk_5 (dk_at dksX8_init_0 20 rfl rfl)
theorem dX8_init_21 : decode cX8_init 21 = .ok (.ldc 15, 2) := dk_18 15 (dk_at dksX8_init_0 21 rfl rfl)
theorem dX8_init_23 : decode cX8_init 23 = .ok (.aastore, 1) := dk_83 (dk_at dksX8_init_0 23 rfl rfl)
theorem dX8_init_24 : decode cX8_init 24 = .ok (.putfield 17, 3) := dk_181 0 17 (dk_at dksX8_init_1 0 rfl rfl)
theorem dX8_init_27 : decode cX8_init 27 = .ok (.aload_n 0, 1) := dk_42 (dk_at dksX8_init_1 3 rfl rfl)
theorem dX8_init_28 : decode cX8_init 28 = .ok (.bipush 7, 2) := dk_16 7 (dk_at dksX8_init_1 4 rfl rfl)
theorem dX8_init_30 : decode cX8_init 30 = .ok (.anewarray 9, 3) := dk_189 0 9 (dk_at dksX8_init_1 6 rfl rfl)
theorem dX8_init_33 : decode cX8_init 33 = .ok (.dup, 1) := dk_89 (dk_at dksX8_init_1 9 rfl rfl)
theorem dX8_init_34 : decode cX8_init 34 = .ok (.iconst 0, 1) := dk_3 (dk_at dksX8_init_1 10 rfl rfl)
theorem dX8_init_35 : decode cX8_init 35 = .ok (.ldc 21, 2) := dk_18 21 (dk_at dksX8_init_1 11 rfl rfl)
theorem dX8_init_37 : decode cX8_init 37 = .ok (.aastore, 1) := dk_83 (dk_at dksX8_init_1 13 rfl rfl)
theorem dX8_init_38 : decode cX8_init 38 = .ok (.dup, 1) := dk_89 (dk_at dksX8_init_1 14 rfl rfl)
theorem dX8_init_39 : decode cX8_init 39 = .ok (.iconst 1, 1) := dk_4 (dk_at dksX8_init_1 15 rfl rfl)
theorem dX8_init_40 : decode cX8_init 40 = .ok (.ldc 23, 2) := dk_18 23 (dk_at dksX8_init_1 16 rfl rfl)
theorem dX8_init_42 : decode cX8_init 42 = .ok (.aastore, 1) := dk_83 (dk_at dksX8_init_1 18 rfl rfl)
theorem dX8_init_43 : decode cX8_init 43 = .ok (.dup, 1) := dk_89 (dk_at dksX8_init_1 19 rfl rfl)
theorem dX8_init_44 : decode cX8_init 44 = .ok (.iconst 2, 1) := dk_5 (dk_at dksX8_init_1 20 rfl rfl)
theorem dX8_init_45 : decode cX8_init 45 = .ok (.ldc 25, 2) := dk_18 25 (dk_at dksX8_init_1 21 rfl rfl)
theorem dX8_init_47 : decode cX8_init 47 = .ok (.aastore, 1) := dk_83 (dk_at dksX8_init_1 23 rfl rfl)
theorem dX8_init_48 : decode cX8_init 48 = .ok (.dup, 1) := dk_89 (dk_at dksX8_init_2 0 rfl rfl)
theorem dX8_init_49 : decode cX8_init 49 = .ok (.iconst 3, 1) := dk_6 (dk_at dksX8_init_2 1 rfl rfl)
theorem dX8_init_50 : decode cX8_init 50 = .ok (.ldc 27, 2) := dk_18 27 (dk_at dksX8_init_2 2 rfl rfl)
theorem dX8_init_52 : decode cX8_init 52 = .ok (.aastore, 1) := dk_83 (dk_at dksX8_init_2 4 rfl rfl)
theorem dX8_init_53 : decode cX8_init 53 = .ok (.dup, 1) := dk_89 (dk_at dksX8_init_2 5 rfl rfl)
theorem dX8_init_54 : decode cX8_init 54 = .ok (.iconst 4, 1) := dk_7 (dk_at dksX8_init_2 6 rfl rfl)
theorem dX8_init_55 : decode cX8_init 55 = .ok (.ldc 29, 2) := dk_18 29 (dk_at dksX8_init_2 7 rfl rfl)
theorem dX8_init_57 : decode cX8_init 57 = .ok (.aastore, 1) := dk_83 (dk_at dksX8_init_2 9 rfl rfl)
theorem dX8_init_58 : decode cX8_init 58 = .ok (.dup, 1) := dk_89 (dk_at dksX8_init_2 10 rfl rfl)
theorem dX8_init_59 : decode cX8_init 59 = .ok (.iconst 5, 1) := dk_8 (dk_at dksX8_init_2 11 rfl rfl)
theorem dX8_init_60 : decode cX8_init 60 = .ok (.ldc 31, 2) := dk_18 31 (dk_at dksX8_init_2 12 rfl rfl)
theorem dX8_init_62 : decode cX8_init 62 = .ok (.aastore, 1) := dk_83 (dk_at dksX8_init_2 14 rfl rfl)
theorem dX8_init_63 : decode cX8_init 63 = .ok (.dup, 1) := dk_89 (dk_at dksX8_init_2 15 rfl rfl)
theorem dX8_init_64 : decode cX8_init 64 = .ok (.bipush 6, 2) := dk_16 6 (dk_at dksX8_init_2 16 rfl rfl)
theorem dX8_init_66 : decode cX8_init 66 = .ok (.ldc 33, 2) := dk_18 33 (dk_at dksX8_init_2 18 rfl rfl)
theorem dX8_init_68 : decode cX8_init 68 = .ok (.aastore, 1) := dk_83 (dk_at dksX8_init_2 20 rfl rfl)
theorem dX8_init_69 : decode cX8_init 69 = .ok (.putfield 35, 3) := dk_181 0 35 (dk_at dksX8_init_2 21 rfl rfl)
theorem dX8_init_72 : decode cX8_init 72 = .ok (.aload_n 0, 1) := dk_42 (dk_at dksX8_init_3 0 rfl rfl)
theorem dX8_init_73 : decode cX8_init 73 = .ok (.bipush 16, 2) := dk_16 16 (dk_at dksX8_init_3 1 rfl rfl)
theorem dX8_init_75 : decode cX8_init 75 = .ok (.newarray .int, 2) := dk_188_10 (dk_at dksX8_init_3 3 rfl rfl)
theorem dX8_init_77 : decode cX8_init 77 = .ok (.dup, 1) := dk_89 (dk_at dksX8_init_3 5 rfl rfl)
theorem dX8_init_78 : decode cX8_init 78 = .ok (.iconst 0, 1) := dk_3 (dk_at dksX8_init_3 6 rfl rfl)
theorem dX8_init_79 : decode cX8_init 79 = .ok (.iconst 0, 1) := dk_3 (dk_at dksX8_init_3 7 rfl rfl)
theorem dX8_init_80 : decode cX8_init 80 = .ok (.iastore, 1) := dk_79 (dk_at dksX8_init_3 8 rfl rfl)
theorem dX8_init_81 : decode cX8_init 81 = .ok (.dup, 1) := dk_89 (dk_at dksX8_init_3 9 rfl rfl)
theorem dX8_init_82 : decode cX8_init 82 = .ok (.iconst 1, 1) := dk_4 (dk_at dksX8_init_3 10 rfl rfl)
theorem dX8_init_83 : decode cX8_init 83 = .ok (.bipush 20, 2) := dk_16 20 (dk_at dksX8_init_3 11 rfl rfl)
theorem dX8_init_85 : decode cX8_init 85 = .ok (.iastore, 1) := dk_79 (dk_at dksX8_init_3 13 rfl rfl)
theorem dX8_init_86 : decode cX8_init 86 = .ok (.dup, 1) := dk_89 (dk_at dksX8_init_3 14 rfl rfl)
theorem dX8_init_87 : decode cX8_init 87 = .ok (.iconst 2, 1) := dk_5 (dk_at dksX8_init_3 15 rfl rfl)
theorem dX8_init_88 : decode cX8_init 88 = .ok (.iconst 3, 1) := dk_6 (dk_at dksX8_init_3 16 rfl rfl)
theorem dX8_init_89 : decode cX8_init 89 = .ok (.iastore, 1) := dk_79 (dk_at dksX8_init_3 17 rfl rfl)
theorem dX8_init_90 : decode cX8_init 90 = .ok (.dup, 1) := dk_89 (dk_at dksX8_init_3 18 rfl rfl)
theorem dX8_init_91 : decode cX8_init 91 = .ok (.iconst 3, 1) := dk_6 (dk_at dksX8_init_3 19 rfl rfl)
theorem dX8_init_92 : decode cX8_init 92 = .ok (.sipush 480, 3) := dk_17 1 224 (dk_at dksX8_init_3 20 rfl rfl)
theorem dX8_init_95 : decode cX8_init 95 = .ok (.iastore, 1) := dk_79 (dk_at dksX8_init_3 23 rfl rfl)
theorem dX8_init_96 : decode cX8_init 96 = .ok (.dup, 1) := dk_89 (dk_at dksX8_init_4 0 rfl rfl)
theorem dX8_init_97 : decode cX8_init 97 = .ok (.iconst 4, 1) := dk_7 (dk_at dksX8_init_4 1 rfl rfl)
theorem dX8_init_98 : decode cX8_init 98 = .ok (.bipush 15, 2) := dk_16 15 (dk_at dksX8_init_4 2 rfl rfl)
theorem dX8_init_100 : decode cX8_init 100 = .ok (.iastore, 1) := dk_79 (dk_at dksX8_init_4 4 rfl rfl)
theorem dX8_init_101 : decode cX8_init 101 = .ok (.dup, 1) := dk_89 (dk_at dksX8_init_4 5 rfl rfl)
theorem dX8_init_102 : decode cX8_init 102 = .ok (.iconst 5, 1) := dk_8 (dk_at dksX8_init_4 6 rfl rfl)
theorem dX8_init_103 : decode cX8_init 103 = .ok (.iconst 0, 1) := dk_3 (dk_at dksX8_init_4 7 rfl rfl)
theorem dX8_init_104 : decode cX8_init 104 = .ok (.iastore, 1) := dk_79 (dk_at dksX8_init_4 8 rfl rfl)
theorem dX8_init_105 : decode cX8_init 105 = .ok (.dup, 1) := dk_89 (dk_at dksX8_init_4 9 rfl rfl)
theorem dX8_init_106 : decode cX8_init 106 = .ok (.bipush 6, 2) := dk_16 6 (dk_at dksX8_init_4 10 rfl rfl)
theorem dX8_init_108 : decode cX8_init 108 = .ok (.iconst 0, 1) := dk_3 (dk_at dksX8_init_4 12 rfl rfl)
theorem dX8_init_109 : decode cX8_init 109 = .ok (.iastore, 1) := dk_79 (dk_at dksX8_init_4 13 rfl rfl)
theorem dX8_init_110 : decode cX8_init 110 = .ok (.dup, 1) := dk_89 (dk_at dksX8_init_4 14 rfl rfl)
theorem dX8_init_111 : decode cX8_init 111 = .ok (.bipush 7, 2) := dk_16 7 (dk_at dksX8_init_4 15 rfl rfl)
theorem dX8_init_113 : decode cX8_init 113 = .ok (.iconst 0, 1) := dk_3 (dk_at dksX8_init_4 17 rfl rfl)
theorem dX8_init_114 : decode cX8_init 114 = .ok (.iastore, 1) := dk_79 (dk_at dksX8_init_4 18 rfl rfl)
theorem dX8_init_115 : decode cX8_init 115 = .ok (.dup, 1) := dk_89 (dk_at dksX8_init_4 19 rfl rfl)
theorem dX8_init_116 : decode cX8_init 116 = .ok (.bipush 8, 2) := dk_16 8 (dk_at dksX8_init_4 20 rfl rfl)
theorem dX8_init_118 : decode cX8_init 118 = .ok (.iconst 0, 1) := dk_3 (dk_at dksX8_init_4 22 rfl rfl)
theorem dX8_init_119 : decode cX8_init 119 = .ok (.iastore, 1) := dk_79 (dk_at dksX8_init_4 23 rfl rfl)
theorem dX8_init_120 : decode cX8_init 120 = .ok (.dup, 1) := dk_89 (dk_at dksX8_init_5 0 rfl rfl)
theorem dX8_init_121 : decode cX8_init 121 = .ok (.bipush 9, 2) := dk_16 9 (dk_at dksX8_init_5 1 rfl rfl)
theorem dX8_init_123 : decode cX8_init 123 = .ok (.bipush 20, 2) := dk_16 20 (dk_at dksX8_init_5 3 rfl rfl)
theorem dX8_init_125 : decode cX8_init 125 = .ok (.iastore, 1) := dk_79 (dk_at dksX8_init_5 5 rfl rfl)
theorem dX8_init_126 : decode cX8_init 126 = .ok (.dup, 1) := dk_89 (dk_at dksX8_init_5 6 rfl rfl)
theorem dX8_init_127 : decode cX8_init 127 = .ok (.bipush 10, 2) := dk_16 10 (dk_at dksX8_init_5 7 rfl rfl)
theorem dX8_init_129 : decode cX8_init 129 = .ok (.iconst 3, 1) := dk_6 (dk_at dksX8_init_5 9 rfl rfl)
theorem dX8_init_130 : decode cX8_init 130 = .ok (.iastore, 1) := dk_79 (dk_at dksX8_init_5 10 rfl rfl)
theorem dX8_init_131 : decode cX8_init 131 = .ok (.dup, 1) := dk_89 (dk_at dksX8_init_5 11 rfl rfl)
theorem dX8_init_132 : decode cX8_init 132 = .ok (.bipush 11, 2) := dk_16 11 (dk_at dksX8_init_5 12 rfl rfl)
theorem dX8_init_134 : decode cX8_init 134 = .ok (.sipush 480, 3) := dk_17 1 224 (dk_at dksX8_init_5 14 rfl rfl)
theorem dX8_init_137 : decode cX8_init 137 = .ok (.iastore, 1) := dk_79 (dk_at dksX8_init_5 17 rfl rfl)
theorem dX8_init_138 : decode cX8_init 138 = .ok (.dup, 1) := dk_89 (dk_at dksX8_init_5 18 rfl rfl)
theorem dX8_init_139 : decode cX8_init 139 = .ok (.bipush 12, 2) := dk_16 12 (dk_at dksX8_init_5 19 rfl rfl)
theorem dX8_init_141 : decode cX8_init 141 = .ok (.bipush 15, 2) := dk_16 15 (dk_at dksX8_init_5 21 rfl rfl)
theorem dX8_init_143 : decode cX8_init 143 = .ok (.iastore, 1) := dk_79 (dk_at dksX8_init_5 23 rfl rfl)
theorem dX8_init_144 : decode cX8_init 144 = .ok (.dup, 1) := dk_89 (dk_at dksX8_init_6 0 rfl rfl)
theorem dX8_init_145 : decode cX8_init 145 = .ok (.bipush 13, 2) := dk_16 13 (dk_at dksX8_init_6 1 rfl rfl)
theorem dX8_init_147 : decode cX8_init 147 = .ok (.iconst 0, 1) := dk_3 (dk_at dksX8_init_6 3 rfl rfl)
theorem dX8_init_148 : decode cX8_init 148 = .ok (.iastore, 1) := dk_79 (dk_at dksX8_init_6 4 rfl rfl)
theorem dX8_init_149 : decode cX8_init 149 = .ok (.dup, 1) := dk_89 (dk_at dksX8_init_6 5 rfl rfl)
theorem dX8_init_150 : decode cX8_init 150 = .ok (.bipush 14, 2) := dk_16 14 (dk_at dksX8_init_6 6 rfl rfl)
theorem dX8_init_152 : decode cX8_init 152 = .ok (.iconst 0, 1) := dk_3 (dk_at dksX8_init_6 8 rfl rfl)
theorem dX8_init_153 : decode cX8_init 153 = .ok (.iastore, 1) := dk_79 (dk_at dksX8_init_6 9 rfl rfl)
theorem dX8_init_154 : decode cX8_init 154 = .ok (.dup, 1) := dk_89 (dk_at dksX8_init_6 10 rfl rfl)
theorem dX8_init_155 : decode cX8_init 155 = .ok (.bipush 15, 2) := dk_16 15 (dk_at dksX8_init_6 11 rfl rfl)
theorem dX8_init_157 : decode cX8_init 157 = .ok (.iconst 0, 1) := dk_3 (dk_at dksX8_init_6 13 rfl rfl)
theorem dX8_init_158 : decode cX8_init 158 = .ok (.iastore, 1) := dk_79 (dk_at dksX8_init_6 14 rfl rfl)
theorem dX8_init_159 : decode cX8_init 159 = .ok (.putfield 38, 3) := dk_181 0 38 (dk_at dksX8_init_6 15 rfl rfl)
theorem dX8_init_162 : decode cX8_init 162 = .ok (.aload_n 0, 1) := dk_42 (dk_at dksX8_init_6 18 rfl rfl)
theorem dX8_init_163 : decode cX8_init 163 = .ok (.bipush 14, 2) := dk_16 14 (dk_at dksX8_init_6 19 rfl rfl)
theorem dX8_init_165 : decode cX8_init 165 = .ok (.newarray .int, 2) := dk_188_10 (dk_at dksX8_init_6 21 rfl rfl)
theorem dX8_init_167 : decode cX8_init 167 = .ok (.putfield 42, 3) := dk_181 0 42 (dk_at dksX8_init_7 0 rfl rfl)
theorem dX8_init_170 : decode cX8_init 170 = .ok (.aload_n 0, 1) := dk_42 (dk_at dksX8_init_7 3 rfl rfl)
theorem dX8_init_171 : decode cX8_init 171 = .ok (.bipush 28, 2) := dk_16 28 (dk_at dksX8_init_7 4 rfl rfl)
theorem dX8_init_173 : decode cX8_init 173 = .ok (.newarray .int, 2) := dk_188_10 (dk_at dksX8_init_7 6 rfl rfl)
theorem dX8_init_175 : decode cX8_init 175 = .ok (.putfield 45, 3) := dk_181 0 45 (dk_at dksX8_init_7 8 rfl rfl)
theorem dX8_init_178 : decode cX8_init 178 = .ok (.aload_n 0, 1) := dk_42 (dk_at dksX8_init_7 11 rfl rfl)
theorem dX8_init_179 : decode cX8_init 179 = .ok (.bipush 14, 2) := dk_16 14 (dk_at dksX8_init_7 12 rfl rfl)
theorem dX8_init_181 : decode cX8_init 181 = .ok (.newarray .int, 2) := dk_188_10 (dk_at dksX8_init_7 14 rfl rfl)
theorem dX8_init_183 : decode cX8_init 183 = .ok (.putfield 48, 3) := dk_181 0 48 (dk_at dksX8_init_7 16 rfl rfl)
theorem dX8_init_186 : decode cX8_init 186 = .ok (.aload_n 0, 1) := dk_42 (dk_at dksX8_init_7 19 rfl rfl)
theorem dX8_init_187 : decode cX8_init 187 = .ok (.bipush 14, 2) := dk_16 14 (dk_at dksX8_init_7 20 rfl rfl)
theorem dX8_init_189 : decode cX8_init 189 = .ok (.newarray .int, 2) := dk_188_10 (dk_at dksX8_init_7 22 rfl rfl)
theorem dX8_init_191 : decode cX8_init 191 = .ok (.putfield 50, 3) := dk_181 0 50 (dk_at dksX8_init_8 0 rfl rfl)
theorem dX8_init_194 : decode cX8_init 194 = .ok (.aload_n 0, 1) := dk_42 (dk_at dksX8_init_8 3 rfl rfl)
theorem dX8_init_195 : decode cX8_init 195 = .ok (.bipush 14, 2) := dk_16 14 (dk_at dksX8_init_8 4 rfl rfl)
theorem dX8_init_197 : decode cX8_init 197 = .ok (.newarray .int, 2) := dk_188_10 (dk_at dksX8_init_8 6 rfl rfl)
theorem dX8_init_199 : decode cX8_init 199 = .ok (.putfield 53, 3) := dk_181 0 53 (dk_at dksX8_init_8 8 rfl rfl)
theorem dX8_init_202 : decode cX8_init 202 = .ok (.aload_n 0, 1) := dk_42 (dk_at dksX8_init_8 11 rfl rfl)
theorem dX8_init_203 : decode cX8_init 203 = .ok (.bipush 14, 2) := dk_16 14 (dk_at dksX8_init_8 12 rfl rfl)
theorem dX8_init_205 : decode cX8_init 205 = .ok (.newarray .int, 2) := dk_188_10 (dk_at dksX8_init_8 14 rfl rfl)
theorem dX8_init_207 : decode cX8_init 207 = .ok (.putfield 56, 3) := dk_181 0 56 (dk_at dksX8_init_8 16 rfl rfl)
theorem dX8_init_210 : decode cX8_init 210 = .ok (.aload_n 0, 1) := dk_42 (dk_at dksX8_init_8 19 rfl rfl)
theorem dX8_init_211 : decode cX8_init 211 = .ok (.bipush 14, 2) := dk_16 14 (dk_at dksX8_init_8 20 rfl rfl)
theorem dX8_init_213 : decode cX8_init 213 = .ok (.newarray .int, 2) := dk_188_10 (dk_at dksX8_init_8 22 rfl rfl)
theorem dX8_init_215 : decode cX8_init 215 = .ok (.putfield 59, 3) := dk_181 0 59 (dk_at dksX8_init_9 0 rfl rfl)
theorem dX8_init_218 : decode cX8_init 218 = .ok (.aload_n 0, 1) := dk_42 (dk_at dksX8_init_9 3 rfl rfl)
theorem dX8_init_219 : decode cX8_init 219 = .ok (.sipush 1200, 3) := dk_17 4 176 (dk_at dksX8_init_9 4 rfl rfl)
theorem dX8_init_222 : decode cX8_init 222 = .ok (.newarray .int, 2) := dk_188_10 (dk_at dksX8_init_9 7 rfl rfl)
theorem dX8_init_224 : decode cX8_init 224 = .ok (.putfield 62, 3) := dk_181 0 62 (dk_at dksX8_init_9 9 rfl rfl)
theorem dX8_init_227 : decode cX8_init 227 = .ok (.aload_n 0, 1) := dk_42 (dk_at dksX8_init_9 12 rfl rfl)
theorem dX8_init_228 : decode cX8_init 228 = .ok (.iconst 3, 1) := dk_6 (dk_at dksX8_init_9 13 rfl rfl)
theorem dX8_init_229 : decode cX8_init 229 = .ok (.newarray .int, 2) := dk_188_10 (dk_at dksX8_init_9 14 rfl rfl)
theorem dX8_init_231 : decode cX8_init 231 = .ok (.putfield 65, 3) := dk_181 0 65 (dk_at dksX8_init_9 16 rfl rfl)
theorem dX8_init_234 : decode cX8_init 234 = .ok (.aload_n 0, 1) := dk_42 (dk_at dksX8_init_9 19 rfl rfl)
theorem dX8_init_235 : decode cX8_init 235 = .ok (.sipush 600, 3) := dk_17 2 88 (dk_at dksX8_init_9 20 rfl rfl)
theorem dX8_init_238 : decode cX8_init 238 = .ok (.newarray .int, 2) := dk_188_10 (dk_at dksX8_init_10 0 rfl rfl)
theorem dX8_init_240 : decode cX8_init 240 = .ok (.putfield 68, 3) := dk_181 0 68 (dk_at dksX8_init_10 2 rfl rfl)
theorem dX8_init_243 : decode cX8_init 243 = .ok (.aload_n 0, 1) := dk_42 (dk_at dksX8_init_10 5 rfl rfl)
theorem dX8_init_244 : decode cX8_init 244 = .ok (.iconst (-1), 1) := dk_2 (dk_at dksX8_init_10 6 rfl rfl)
theorem dX8_init_245 : decode cX8_init 245 = .ok (.putfield 71, 3) := dk_181 0 71 (dk_at dksX8_init_10 7 rfl rfl)
theorem dX8_init_248 : decode cX8_init 248 = .ok (.aload_n 0, 1) := dk_42 (dk_at dksX8_init_10 10 rfl rfl)
theorem dX8_init_249 : decode cX8_init 249 = .ok (.bipush 7, 2) := dk_16 7 (dk_at dksX8_init_10 11 rfl rfl)
theorem dX8_init_251 : decode cX8_init 251 = .ok (.newarray .int, 2) := dk_188_10 (dk_at dksX8_init_10 13 rfl rfl)
theorem dX8_init_253 : decode cX8_init 253 = .ok (.putfield 75, 3) := dk_181 0 75 (dk_at dksX8_init_10 15 rfl rfl)
theorem dX8_init_256 : decode cX8_init 256 = .ok (.aload_n 0, 1) := dk_42 (dk_at dksX8_init_10 18 rfl rfl)
theorem dX8_init_257 : decode cX8_init 257 = .ok (.sipush 720, 3) := dk_17 2 208 (dk_at dksX8_init_10 19 rfl rfl)
theorem dX8_init_260 : decode cX8_init 260 = .ok (.newarray .int, 2) := dk_188_10 (dk_at dksX8_init_10 22 rfl rfl)
theorem dX8_init_262 : decode cX8_init 262 = .ok (.putfield 78, 3) := dk_181 0 78 (dk_at dksX8_init_11 0 rfl rfl)
theorem dX8_init_265 : decode cX8_init 265 = .ok (.aload_n 0, 1) := dk_42 (dk_at dksX8_init_11 3 rfl rfl)
theorem dX8_init_266 : decode cX8_init 266 = .ok (.iconst (-1), 1) := dk_2 (dk_at dksX8_init_11 4 rfl rfl)
theorem dX8_init_267 : decode cX8_init 267 = .ok (.putfield 81, 3) := dk_181 0 81 (dk_at dksX8_init_11 5 rfl rfl)
theorem dX8_init_270 : decode cX8_init 270 = .ok (.aload_n 0, 1) := dk_42 (dk_at dksX8_init_11 8 rfl rfl)
theorem dX8_init_271 : decode cX8_init 271 = .ok (.bipush 7, 2) := dk_16 7 (dk_at dksX8_init_11 9 rfl rfl)
theorem dX8_init_273 : decode cX8_init 273 = .ok (.newarray .int, 2) := dk_188_10 (dk_at dksX8_init_11 11 rfl rfl)
theorem dX8_init_275 : decode cX8_init 275 = .ok (.putfield 84, 3) := dk_181 0 84 (dk_at dksX8_init_11 13 rfl rfl)
theorem dX8_init_278 : decode cX8_init 278 = .ok (.aload_n 0, 1) := dk_42 (dk_at dksX8_init_11 16 rfl rfl)
theorem dX8_init_279 : decode cX8_init 279 = .ok (.bipush 64, 2) := dk_16 64 (dk_at dksX8_init_11 17 rfl rfl)
theorem dX8_init_281 : decode cX8_init 281 = .ok (.newarray .int, 2) := dk_188_10 (dk_at dksX8_init_11 19 rfl rfl)
theorem dX8_init_283 : decode cX8_init 283 = .ok (.putfield 87, 3) := dk_181 0 87 (dk_at dksX8_init_11 21 rfl rfl)
theorem dX8_init_286 : decode cX8_init 286 = .ok (.aload_n 0, 1) := dk_42 (dk_at dksX8_init_12 0 rfl rfl)
theorem dX8_init_287 : decode cX8_init 287 = .ok (.bipush 7, 2) := dk_16 7 (dk_at dksX8_init_12 1 rfl rfl)
theorem dX8_init_289 : decode cX8_init 289 = .ok (.newarray .int, 2) := dk_188_10 (dk_at dksX8_init_12 3 rfl rfl)
theorem dX8_init_291 : decode cX8_init 291 = .ok (.putfield 90, 3) := dk_181 0 90 (dk_at dksX8_init_12 5 rfl rfl)
theorem dX8_init_294 : decode cX8_init 294 = .ok (.aload_n 0, 1) := dk_42 (dk_at dksX8_init_12 8 rfl rfl)
theorem dX8_init_295 : decode cX8_init 295 = .ok (.bipush 7, 2) := dk_16 7 (dk_at dksX8_init_12 9 rfl rfl)
theorem dX8_init_297 : decode cX8_init 297 = .ok (.newarray .int, 2) := dk_188_10 (dk_at dksX8_init_12 11 rfl rfl)
theorem dX8_init_299 : decode cX8_init 299 = .ok (.putfield 93, 3) := dk_181 0 93 (dk_at dksX8_init_12 13 rfl rfl)
theorem dX8_init_302 : decode cX8_init 302 = .ok (.aload_n 0, 1) := dk_42 (dk_at dksX8_init_12 16 rfl rfl)
theorem dX8_init_303 : decode cX8_init 303 = .ok (.bipush 7, 2) := dk_16 7 (dk_at dksX8_init_12 17 rfl rfl)
theorem dX8_init_305 : decode cX8_init 305 = .ok (.newarray .int, 2) := dk_188_10 (dk_at dksX8_init_12 19 rfl rfl)
theorem dX8_init_307 : decode cX8_init 307 = .ok (.putfield 96, 3) := dk_181 0 96 (dk_at dksX8_init_12 21 rfl rfl)
theorem dX8_init_310 : decode cX8_init 310 = .ok (.aload_n 0, 1) := dk_42 (dk_at dksX8_init_13 0 rfl rfl)
theorem dX8_init_311 : decode cX8_init 311 = .ok (.bipush 7, 2) := dk_16 7 (dk_at dksX8_init_13 1 rfl rfl)
theorem dX8_init_313 : decode cX8_init 313 = .ok (.newarray .int, 2) := dk_188_10 (dk_at dksX8_init_13 3 rfl rfl)
theorem dX8_init_315 : decode cX8_init 315 = .ok (.putfield 99, 3) := dk_181 0 99 (dk_at dksX8_init_13 5 rfl rfl)
theorem dX8_init_318 : decode cX8_init 318 = .ok (.aload_n 0, 1) := dk_42 (dk_at dksX8_init_13 8 rfl rfl)
theorem dX8_init_319 : decode cX8_init 319 = .ok (.bipush 7, 2) := dk_16 7 (dk_at dksX8_init_13 9 rfl rfl)
theorem dX8_init_321 : decode cX8_init 321 = .ok (.newarray .int, 2) := dk_188_10 (dk_at dksX8_init_13 11 rfl rfl)
theorem dX8_init_323 : decode cX8_init 323 = .ok (.putfield 102, 3) := dk_181 0 102 (dk_at dksX8_init_13 13 rfl rfl)
theorem dX8_init_326 : decode cX8_init 326 = .ok (.aload_n 0, 1) := dk_42 (dk_at dksX8_init_13 16 rfl rfl)
theorem dX8_init_327 : decode cX8_init 327 = .ok (.bipush 7, 2) := dk_16 7 (dk_at dksX8_init_13 17 rfl rfl)
theorem dX8_init_329 : decode cX8_init 329 = .ok (.newarray .int, 2) := dk_188_10 (dk_at dksX8_init_13 19 rfl rfl)
theorem dX8_init_331 : decode cX8_init 331 = .ok (.putfield 105, 3) := dk_181 0 105 (dk_at dksX8_init_13 21 rfl rfl)
theorem dX8_init_334 : decode cX8_init 334 = .ok (.aload_n 0, 1) := dk_42 (dk_at dksX8_init_14 0 rfl rfl)
theorem dX8_init_335 : decode cX8_init 335 = .ok (.bipush 7, 2) := dk_16 7 (dk_at dksX8_init_14 1 rfl rfl)
theorem dX8_init_337 : decode cX8_init 337 = .ok (.newarray .int, 2) := dk_188_10 (dk_at dksX8_init_14 3 rfl rfl)
theorem dX8_init_339 : decode cX8_init 339 = .ok (.putfield 108, 3) := dk_181 0 108 (dk_at dksX8_init_14 5 rfl rfl)
theorem dX8_init_342 : decode cX8_init 342 = .ok (.aload_n 0, 1) := dk_42 (dk_at dksX8_init_14 8 rfl rfl)
theorem dX8_init_343 : decode cX8_init 343 = .ok (.sipush 1200, 3) := dk_17 4 176 (dk_at dksX8_init_14 9 rfl rfl)
theorem dX8_init_346 : decode cX8_init 346 = .ok (.newarray .int, 2) := dk_188_10 (dk_at dksX8_init_14 12 rfl rfl)
theorem dX8_init_348 : decode cX8_init 348 = .ok (.putfield 111, 3) := dk_181 0 111 (dk_at dksX8_init_14 14 rfl rfl)
theorem dX8_init_351 : decode cX8_init 351 = .ok (.aload_n 0, 1) := dk_42 (dk_at dksX8_init_14 17 rfl rfl)
theorem dX8_init_352 : decode cX8_init 352 = .ok (.sipush 1200, 3) := dk_17 4 176 (dk_at dksX8_init_14 18 rfl rfl)
theorem dX8_init_355 : decode cX8_init 355 = .ok (.newarray .int, 2) := dk_188_10 (dk_at dksX8_init_14 21 rfl rfl)
theorem dX8_init_357 : decode cX8_init 357 = .ok (.putfield 114, 3) := dk_181 0 114 (dk_at dksX8_init_15 0 rfl rfl)
theorem dX8_init_360 : decode cX8_init 360 = .ok (.aload_n 0, 1) := dk_42 (dk_at dksX8_init_15 3 rfl rfl)
theorem dX8_init_361 : decode cX8_init 361 = .ok (.sipush 1200, 3) := dk_17 4 176 (dk_at dksX8_init_15 4 rfl rfl)
theorem dX8_init_364 : decode cX8_init 364 = .ok (.newarray .int, 2) := dk_188_10 (dk_at dksX8_init_15 7 rfl rfl)
theorem dX8_init_366 : decode cX8_init 366 = .ok (.putfield 117, 3) := dk_181 0 117 (dk_at dksX8_init_15 9 rfl rfl)
theorem dX8_init_369 : decode cX8_init 369 = .ok (.aload_n 0, 1) := dk_42 (dk_at dksX8_init_15 12 rfl rfl)
theorem dX8_init_370 : decode cX8_init 370 = .ok (.sipush 1200, 3) := dk_17 4 176 (dk_at dksX8_init_15 13 rfl rfl)
theorem dX8_init_373 : decode cX8_init 373 = .ok (.newarray .int, 2) := dk_188_10 (dk_at dksX8_init_15 16 rfl rfl)
theorem dX8_init_375 : decode cX8_init 375 = .ok (.putfield 120, 3) := dk_181 0 120 (dk_at dksX8_init_15 18 rfl rfl)
theorem dX8_init_378 : decode cX8_init 378 = .ok (.aload_n 0, 1) := dk_42 (dk_at dksX8_init_15 21 rfl rfl)
theorem dX8_init_379 : decode cX8_init 379 = .ok (.bipush 7, 2) := dk_16 7 (dk_at dksX8_init_15 22 rfl rfl)
theorem dX8_init_381 : decode cX8_init 381 = .ok (.newarray .int, 2) := dk_188_10 (dk_at dksX8_init_16 0 rfl rfl)
theorem dX8_init_383 : decode cX8_init 383 = .ok (.putfield 123, 3) := dk_181 0 123 (dk_at dksX8_init_16 2 rfl rfl)
theorem dX8_init_386 : decode cX8_init 386 = .ok (.aload_n 0, 1) := dk_42 (dk_at dksX8_init_16 5 rfl rfl)
theorem dX8_init_387 : decode cX8_init 387 = .ok (.bipush 7, 2) := dk_16 7 (dk_at dksX8_init_16 6 rfl rfl)
theorem dX8_init_389 : decode cX8_init 389 = .ok (.newarray .int, 2) := dk_188_10 (dk_at dksX8_init_16 8 rfl rfl)
theorem dX8_init_391 : decode cX8_init 391 = .ok (.putfield 126, 3) := dk_181 0 126 (dk_at dksX8_init_16 10 rfl rfl)
theorem dX8_init_394 : decode cX8_init 394 = .ok (.aload_n 0, 1) := dk_42 (dk_at dksX8_init_16 13 rfl rfl)
theorem dX8_init_395 : decode cX8_init 395 = .ok (.bipush 7, 2) := dk_16 7 (dk_at dksX8_init_16 14 rfl rfl)
theorem dX8_init_397 : decode cX8_init 397 = .ok (.newarray .int, 2) := dk_188_10 (dk_at dksX8_init_16 16 rfl rfl)
theorem dX8_init_399 : decode cX8_init 399 = .ok (.putfield 129, 3) := dk_181 0 129 (dk_at dksX8_init_16 18 rfl rfl)
theorem dX8_init_402 : decode cX8_init 402 = .ok (.aload_n 0, 1) := dk_42 (dk_at dksX8_init_16 21 rfl rfl)
theorem dX8_init_403 : decode cX8_init 403 = .ok (.bipush 8, 2) := dk_16 8 (dk_at dksX8_init_16 22 rfl rfl)
theorem dX8_init_405 : decode cX8_init 405 = .ok (.newarray .int, 2) := dk_188_10 (dk_at dksX8_init_17 0 rfl rfl)
theorem dX8_init_407 : decode cX8_init 407 = .ok (.putfield 132, 3) := dk_181 0 132 (dk_at dksX8_init_17 2 rfl rfl)
theorem dX8_init_410 : decode cX8_init 410 = .ok (.aload_n 0, 1) := dk_42 (dk_at dksX8_init_17 5 rfl rfl)
theorem dX8_init_411 : decode cX8_init 411 = .ok (.bipush 8, 2) := dk_16 8 (dk_at dksX8_init_17 6 rfl rfl)
theorem dX8_init_413 : decode cX8_init 413 = .ok (.newarray .int, 2) := dk_188_10 (dk_at dksX8_init_17 8 rfl rfl)
theorem dX8_init_415 : decode cX8_init 415 = .ok (.putfield 135, 3) := dk_181 0 135 (dk_at dksX8_init_17 10 rfl rfl)
theorem dX8_init_418 : decode cX8_init 418 = .ok (.aload_n 0, 1) := dk_42 (dk_at dksX8_init_17 13 rfl rfl)
theorem dX8_init_419 : decode cX8_init 419 = .ok (.bipush 8, 2) := dk_16 8 (dk_at dksX8_init_17 14 rfl rfl)
theorem dX8_init_421 : decode cX8_init 421 = .ok (.newarray .int, 2) := dk_188_10 (dk_at dksX8_init_17 16 rfl rfl)
theorem dX8_init_423 : decode cX8_init 423 = .ok (.putfield 138, 3) := dk_181 0 138 (dk_at dksX8_init_17 18 rfl rfl)
theorem dX8_init_426 : decode cX8_init 426 = .ok (.aload_n 0, 1) := dk_42 (dk_at dksX8_init_17 21 rfl rfl)
theorem dX8_init_427 : decode cX8_init 427 = .ok (.bipush 18, 2) := dk_16 18 (dk_at dksX8_init_17 22 rfl rfl)
theorem dX8_init_429 : decode cX8_init 429 = .ok (.newarray .int, 2) := dk_188_10 (dk_at dksX8_init_18 0 rfl rfl)
theorem dX8_init_431 : decode cX8_init 431 = .ok (.putfield 141, 3) := dk_181 0 141 (dk_at dksX8_init_18 2 rfl rfl)
theorem dX8_init_434 : decode cX8_init 434 = .ok (.aload_n 0, 1) := dk_42 (dk_at dksX8_init_18 5 rfl rfl)
theorem dX8_init_435 : decode cX8_init 435 = .ok (.sipush 720, 3) := dk_17 2 208 (dk_at dksX8_init_18 6 rfl rfl)
theorem dX8_init_438 : decode cX8_init 438 = .ok (.newarray .int, 2) := dk_188_10 (dk_at dksX8_init_18 9 rfl rfl)
theorem dX8_init_440 : decode cX8_init 440 = .ok (.putfield 144, 3) := dk_181 0 144 (dk_at dksX8_init_18 11 rfl rfl)
theorem dX8_init_443 : decode cX8_init 443 = .ok (.aload_n 0, 1) := dk_42 (dk_at dksX8_init_18 14 rfl rfl)
theorem dX8_init_444 : decode cX8_init 444 = .ok (.bipush 8, 2) := dk_16 8 (dk_at dksX8_init_18 15 rfl rfl)
theorem dX8_init_446 : decode cX8_init 446 = .ok (.newarray .int, 2) := dk_188_10 (dk_at dksX8_init_18 17 rfl rfl)
theorem dX8_init_448 : decode cX8_init 448 = .ok (.putfield 147, 3) := dk_181 0 147 (dk_at dksX8_init_18 19 rfl rfl)
theorem dX8_init_451 : decode cX8_init 451 = .ok (.aload_n 0, 1) := dk_42 (dk_at dksX8_init_18 22 rfl rfl)
theorem dX8_init_452 : decode cX8_init 452 = .ok (.bipush 8, 2) := dk_16 8 (dk_at dksX8_init_19 0 rfl rfl)
theorem dX8_init_454 : decode cX8_init 454 = .ok (.newarray .int, 2) := dk_188_10 (dk_at dksX8_init_19 2 rfl rfl)
theorem dX8_init_456 : decode cX8_init 456 = .ok (.putfield 150, 3) := dk_181 0 150 (dk_at dksX8_init_19 4 rfl rfl)
theorem dX8_init_459 : decode cX8_init 459 = .ok (.aload_n 0, 1) := dk_42 (dk_at dksX8_init_19 7 rfl rfl)
theorem dX8_init_460 : decode cX8_init 460 = .ok (.bipush 8, 2) := dk_16 8 (dk_at dksX8_init_19 8 rfl rfl)
theorem dX8_init_462 : decode cX8_init 462 = .ok (.newarray .int, 2) := dk_188_10 (dk_at dksX8_init_19 10 rfl rfl)
theorem dX8_init_464 : decode cX8_init 464 = .ok (.putfield 153, 3) := dk_181 0 153 (dk_at dksX8_init_19 12 rfl rfl)
theorem dX8_init_467 : decode cX8_init 467 = .ok (.aload_n 0, 1) := dk_42 (dk_at dksX8_init_19 15 rfl rfl)
theorem dX8_init_468 : decode cX8_init 468 = .ok (.iconst 3, 1) := dk_6 (dk_at dksX8_init_19 16 rfl rfl)
theorem dX8_init_469 : decode cX8_init 469 = .ok (.newarray .int, 2) := dk_188_10 (dk_at dksX8_init_19 17 rfl rfl)
theorem dX8_init_471 : decode cX8_init 471 = .ok (.putfield 156, 3) := dk_181 0 156 (dk_at dksX8_init_19 19 rfl rfl)
theorem dX8_init_474 : decode cX8_init 474 = .ok (.return_, 1) := dk_177 (dk_at dksX8_init_19 22 rfl rfl)
abbrev cX8_thrown : ByteArray := prog_21_method_2_code
def yX8_thrown : MethodName := ⟨RX8, "thrown", "()I"⟩
theorem dX8_thrown_0 : decode cX8_thrown 0 = .ok (.aload_n 0, 1) := by decide +kernel
theorem dX8_thrown_1 : decode cX8_thrown 1 = .ok (.getfield 159, 3) := by decide +kernel
theorem dX8_thrown_4 : decode cX8_thrown 4 = .ok (.ireturn, 1) := by decide +kernel
abbrev cX8_feed : ByteArray := prog_21_method_6_code
def yX8_feed : MethodName := ⟨RX8, "feed", "(IIIII)I"⟩
def dkwX8_feed_5 : List UInt8 := [167, 255, 162, 42, 180, 0, 166, 172]
abbrev dktX8_feed_5 : List UInt8 := dkwX8_feed_5 ++ []
def dkwX8_feed_4 : List UInt8 := [112, 104, 100, 122, 17, 0, 255, 126, 79, 42, 89, 180, 0, 166, 4, 96, 181, 0, 166, 132, 6, 1]
abbrev dktX8_feed_4 : List UInt8 := dkwX8_feed_4 ++ dktX8_feed_5
def dkwX8_feed_3 : List UInt8 := [167, 0, 5, 21, 5, 54, 7, 42, 180, 0, 68, 42, 180, 0, 166, 21, 7, 16, 24, 16, 8, 21, 6, 7]
abbrev dktX8_feed_3 : List UInt8 := dkwX8_feed_3 ++ dktX8_feed_4
def dkwX8_feed_2 : List UInt8 := [28, 167, 0, 28, 21, 6, 16, 12, 162, 0, 7, 29, 167, 0, 17, 21, 6, 16, 16, 162, 0, 8, 21, 4]
abbrev dktX8_feed_2 : List UInt8 := dkwX8_feed_2 ++ dktX8_feed_3
def dkwX8_feed_1 : List UInt8 := [21, 6, 16, 20, 162, 0, 93, 21, 6, 7, 162, 0, 7, 27, 167, 0, 39, 21, 6, 16, 8, 162, 0, 7]
abbrev dktX8_feed_1 : List UInt8 := dkwX8_feed_1 ++ dktX8_feed_2
def dkwX8_feed_0 : List UInt8 := [42, 3, 181, 0, 159, 42, 180, 0, 166, 16, 20, 96, 17, 2, 88, 164, 0, 5, 2, 172, 3, 54, 6]
abbrev dktX8_feed_0 : List UInt8 := dkwX8_feed_0 ++ dktX8_feed_1
theorem dksX8_feed_0 : cX8_feed.data.toList.drop 0 = dktX8_feed_0 := by decide +kernel
theorem dksX8_feed_1 : cX8_feed.data.toList.drop 23 = dktX8_feed_1 := dk_seg dksX8_feed_0 23 rfl rfl
theorem dksX8_feed_2 : cX8_feed.data.toList.drop 47 = dktX8_feed_2 := dk_seg dksX8_feed_1 24 rfl rfl
theorem dksX8_feed_3 : cX8_feed.data.toList.drop 71 = dktX8_feed_3 := dk_seg dksX8_feed_2 24 rfl rfl
theorem dksX8_feed_4 : cX8_feed.data.toList.drop 95 = dktX8_feed_4 := dk_seg dksX8_feed_3 24 rfl rfl
theorem dksX8_feed_5 : cX8_feed.data.toList.drop 117 = dktX8_feed_5 := dk_seg dksX8_feed_4 22 rfl rfl
theorem dX8_feed_0 : decode cX8_feed 0 = .ok (.aload_n 0, 1) := dk_42 (dk_at dksX8_feed_0 0 rfl rfl)
theorem dX8_feed_1 : decode cX8_feed 1 = .ok (.iconst 0, 1) := dk_3 (dk_at dksX8_feed_0 1 rfl rfl)
theorem dX8_feed_2 : decode cX8_feed 2 = .ok (.putfield 159, 3) := dk_181 0 159 (dk_at dksX8_feed_0 2 rfl rfl)
theorem dX8_feed_5 : decode cX8_feed 5 = .ok (.aload_n 0, 1) := dk_42 (dk_at dksX8_feed_0 5 rfl rfl)
theorem dX8_feed_6 : decode cX8_feed 6 = .ok (.getfield 166, 3) := dk_180 0 166 (dk_at dksX8_feed_0 6 rfl rfl)
theorem dX8_feed_9 : decode cX8_feed 9 = .ok (.bipush 20, 2) := dk_16 20 (dk_at dksX8_feed_0 9 rfl rfl)
theorem dX8_feed_11 : decode cX8_feed 11 = .ok (.iadd, 1) := dk_96 (dk_at dksX8_feed_0 11 rfl rfl)
theorem dX8_feed_12 : decode cX8_feed 12 = .ok (.sipush 600, 3) := dk_17 2 88 (dk_at dksX8_feed_0 12 rfl rfl)
theorem dX8_feed_15 : decode cX8_feed 15 = .ok (.if_icmp .le 5, 3) := dk_164 0 5 (dk_at dksX8_feed_0 15 rfl rfl)
theorem dX8_feed_18 : decode cX8_feed 18 = .ok (.iconst (-1), 1) := dk_2 (dk_at dksX8_feed_0 18 rfl rfl)
theorem dX8_feed_19 : decode cX8_feed 19 = .ok (.ireturn, 1) := dk_172 (dk_at dksX8_feed_0 19 rfl rfl)
theorem dX8_feed_20 : decode cX8_feed 20 = .ok (.iconst 0, 1) := dk_3 (dk_at dksX8_feed_0 20 rfl rfl)
theorem dX8_feed_21 : decode cX8_feed 21 = .ok (.istore 6, 2) := dk_54 6 (dk_at dksX8_feed_0 21 rfl rfl)
theorem dX8_feed_23 : decode cX8_feed 23 = .ok (.iload 6, 2) := dk_21 6 (dk_at dksX8_feed_1 0 rfl rfl)
theorem dX8_feed_25 : decode cX8_feed 25 = .ok (.bipush 20, 2) := dk_16 20 (dk_at dksX8_feed_1 2 rfl rfl)
theorem dX8_feed_27 : decode cX8_feed 27 = .ok (.if_icmp .ge 93, 3) := dk_162 0 93 (dk_at dksX8_feed_1 4 rfl rfl)
theorem dX8_feed_30 : decode cX8_feed 30 = .ok (.iload 6, 2) := dk_21 6 (dk_at dksX8_feed_1 7 rfl rfl)
theorem dX8_feed_32 : decode cX8_feed 32 = .ok (.iconst 4, 1) := dk_7 (dk_at dksX8_feed_1 9 rfl rfl)
theorem dX8_feed_33 : decode cX8_feed 33 = .ok (.if_icmp .ge 7, 3) := dk_162 0 7 (dk_at dksX8_feed_1 10 rfl rfl)
theorem dX8_feed_36 : decode cX8_feed 36 = .ok (.iload_n 1, 1) := dk_27 (dk_at dksX8_feed_1 13 rfl rfl)
theorem dX8_feed_37 : decode cX8_feed 37 = .ok (.goto 39, 3) := dk_167 0 39 (dk_at dksX8_feed_1 14 rfl rfl)
theorem dX8_feed_40 : decode cX8_feed 40 = .ok (.iload 6, 2) := dk_21 6 (dk_at dksX8_feed_1 17 rfl rfl)
theorem dX8_feed_42 : decode cX8_feed 42 = .ok (.bipush 8, 2) := dk_16 8 (dk_at dksX8_feed_1 19 rfl rfl)
theorem dX8_feed_44 : decode cX8_feed 44 = .ok (.if_icmp .ge 7, 3) := dk_162 0 7 (dk_at dksX8_feed_1 21 rfl rfl)
theorem dX8_feed_47 : decode cX8_feed 47 = .ok (.iload_n 2, 1) := dk_28 (dk_at dksX8_feed_2 0 rfl rfl)
theorem dX8_feed_48 : decode cX8_feed 48 = .ok (.goto 28, 3) := dk_167 0 28 (dk_at dksX8_feed_2 1 rfl rfl)
theorem dX8_feed_51 : decode cX8_feed 51 = .ok (.iload 6, 2) := dk_21 6 (dk_at dksX8_feed_2 4 rfl rfl)
theorem dX8_feed_53 : decode cX8_feed 53 = .ok (.bipush 12, 2) := dk_16 12 (dk_at dksX8_feed_2 6 rfl rfl)
theorem dX8_feed_55 : decode cX8_feed 55 = .ok (.if_icmp .ge 7, 3) := dk_162 0 7 (dk_at dksX8_feed_2 8 rfl rfl)
theorem dX8_feed_58 : decode cX8_feed 58 = .ok (.iload_n 3, 1) := dk_29 (dk_at dksX8_feed_2 11 rfl rfl)
theorem dX8_feed_59 : decode cX8_feed 59 = .ok (.goto 17, 3) := dk_167 0 17 (dk_at dksX8_feed_2 12 rfl rfl)
theorem dX8_feed_62 : decode cX8_feed 62 = .ok (.iload 6, 2) := dk_21 6 (dk_at dksX8_feed_2 15 rfl rfl)
theorem dX8_feed_64 : decode cX8_feed 64 = .ok (.bipush 16, 2) := dk_16 16 (dk_at dksX8_feed_2 17 rfl rfl)
theorem dX8_feed_66 : decode cX8_feed 66 = .ok (.if_icmp .ge 8, 3) := dk_162 0 8 (dk_at dksX8_feed_2 19 rfl rfl)
theorem dX8_feed_69 : decode cX8_feed 69 = .ok (.iload 4, 2) := dk_21 4 (dk_at dksX8_feed_2 22 rfl rfl)
theorem dX8_feed_71 : decode cX8_feed 71 = .ok (.goto 5, 3) := dk_167 0 5 (dk_at dksX8_feed_3 0 rfl rfl)
theorem dX8_feed_74 : decode cX8_feed 74 = .ok (.iload 5, 2) := dk_21 5 (dk_at dksX8_feed_3 3 rfl rfl)
theorem dX8_feed_76 : decode cX8_feed 76 = .ok (.istore 7, 2) := dk_54 7 (dk_at dksX8_feed_3 5 rfl rfl)
theorem dX8_feed_78 : decode cX8_feed 78 = .ok (.aload_n 0, 1) := dk_42 (dk_at dksX8_feed_3 7 rfl rfl)
theorem dX8_feed_79 : decode cX8_feed 79 = .ok (.getfield 68, 3) := dk_180 0 68 (dk_at dksX8_feed_3 8 rfl rfl)
theorem dX8_feed_82 : decode cX8_feed 82 = .ok (.aload_n 0, 1) := dk_42 (dk_at dksX8_feed_3 11 rfl rfl)
theorem dX8_feed_83 : decode cX8_feed 83 = .ok (.getfield 166, 3) := dk_180 0 166 (dk_at dksX8_feed_3 12 rfl rfl)
theorem dX8_feed_86 : decode cX8_feed 86 = .ok (.iload 7, 2) := dk_21 7 (dk_at dksX8_feed_3 15 rfl rfl)
theorem dX8_feed_88 : decode cX8_feed 88 = .ok (.bipush 24, 2) := dk_16 24 (dk_at dksX8_feed_3 17 rfl rfl)
theorem dX8_feed_90 : decode cX8_feed 90 = .ok (.bipush 8, 2) := dk_16 8 (dk_at dksX8_feed_3 19 rfl rfl)
theorem dX8_feed_92 : decode cX8_feed 92 = .ok (.iload 6, 2) := dk_21 6 (dk_at dksX8_feed_3 21 rfl rfl)
theorem dX8_feed_94 : decode cX8_feed 94 = .ok (.iconst 4, 1) := dk_7 (dk_at dksX8_feed_3 23 rfl rfl)
theorem dX8_feed_95 : decode cX8_feed 95 = .ok (.irem, 1) := dk_112 (dk_at dksX8_feed_4 0 rfl rfl)
theorem dX8_feed_96 : decode cX8_feed 96 = .ok (.imul, 1) := dk_104 (dk_at dksX8_feed_4 1 rfl rfl)
theorem dX8_feed_97 : decode cX8_feed 97 = .ok (.isub, 1) := dk_100 (dk_at dksX8_feed_4 2 rfl rfl)
theorem dX8_feed_98 : decode cX8_feed 98 = .ok (.ishr, 1) := dk_122 (dk_at dksX8_feed_4 3 rfl rfl)
theorem dX8_feed_99 : decode cX8_feed 99 = .ok (.sipush 255, 3) := dk_17 0 255 (dk_at dksX8_feed_4 4 rfl rfl)
theorem dX8_feed_102 : decode cX8_feed 102 = .ok (.iand, 1) := dk_126 (dk_at dksX8_feed_4 7 rfl rfl)
theorem dX8_feed_103 : decode cX8_feed 103 = .ok (.iastore, 1) := dk_79 (dk_at dksX8_feed_4 8 rfl rfl)
theorem dX8_feed_104 : decode cX8_feed 104 = .ok (.aload_n 0, 1) := dk_42 (dk_at dksX8_feed_4 9 rfl rfl)
theorem dX8_feed_105 : decode cX8_feed 105 = .ok (.dup, 1) := dk_89 (dk_at dksX8_feed_4 10 rfl rfl)
theorem dX8_feed_106 : decode cX8_feed 106 = .ok (.getfield 166, 3) := dk_180 0 166 (dk_at dksX8_feed_4 11 rfl rfl)
theorem dX8_feed_109 : decode cX8_feed 109 = .ok (.iconst 1, 1) := dk_4 (dk_at dksX8_feed_4 14 rfl rfl)
theorem dX8_feed_110 : decode cX8_feed 110 = .ok (.iadd, 1) := dk_96 (dk_at dksX8_feed_4 15 rfl rfl)
theorem dX8_feed_111 : decode cX8_feed 111 = .ok (.putfield 166, 3) := dk_181 0 166 (dk_at dksX8_feed_4 16 rfl rfl)
theorem dX8_feed_114 : decode cX8_feed 114 = .ok (.iinc 6 1, 3) := dk_132 6 1 (dk_at dksX8_feed_4 19 rfl rfl)
theorem dX8_feed_117 : decode cX8_feed 117 = .ok (.goto (-94), 3) := dk_167 255 162 (dk_at dksX8_feed_5 0 rfl rfl)
theorem dX8_feed_120 : decode cX8_feed 120 = .ok (.aload_n 0, 1) := dk_42 (dk_at dksX8_feed_5 3 rfl rfl)
theorem dX8_feed_121 : decode cX8_feed 121 = .ok (.getfield 166, 3) := dk_180 0 166 (dk_at dksX8_feed_5 4 rfl rfl)
theorem dX8_feed_124 : decode cX8_feed 124 = .ok (.ireturn, 1) := dk_172 (dk_at dksX8_feed_5 7 rfl rfl)
abbrev cX8_bed : ByteArray := prog_21_method_31_code
def yX8_bed : MethodName := ⟨RX8, "bed", "(I)I"⟩
def dkwX8_bed_7 : List UInt8 := [42, 180, 0, 208, 172, 42, 182, 1, 52, 3, 172]
abbrev dktX8_bed_7 : List UInt8 := dkwX8_bed_7 ++ []
def dkwX8_bed_6 : List UInt8 := [180, 0, 208, 153, 0, 26, 42, 42, 180, 0, 211, 181, 0, 71, 42, 180, 0, 65, 3, 92, 46, 4, 96, 79]
abbrev dktX8_bed_6 : List UInt8 := dkwX8_bed_6 ++ dktX8_bed_7
def dkwX8_bed_5 : List UInt8 := [180, 0, 208, 154, 0, 19, 42, 180, 0, 182, 153, 0, 12, 42, 28, 182, 1, 49, 61, 167, 255, 236, 42]
abbrev dktX8_bed_5 : List UInt8 := dkwX8_bed_5 ++ dktX8_bed_6
def dkwX8_bed_4 : List UInt8 := [7, 160, 0, 8, 16, 15, 167, 0, 4, 3, 79, 132, 2, 1, 167, 255, 197, 42, 182, 0, 233, 3, 61, 42]
abbrev dktX8_bed_4 : List UInt8 := dkwX8_bed_4 ++ dktX8_bed_5
def dkwX8_bed_3 : List UInt8 := [167, 0, 34, 28, 5, 160, 0, 7, 6, 167, 0, 25, 28, 6, 160, 0, 9, 17, 1, 224, 167, 0, 14, 28]
abbrev dktX8_bed_3 : List UInt8 := dkwX8_bed_3 ++ dktX8_bed_4
def dkwX8_bed_2 : List UInt8 := [3, 61, 28, 16, 8, 162, 0, 59, 42, 180, 0, 38, 16, 8, 28, 96, 28, 4, 160, 0, 8, 16, 20]
abbrev dktX8_bed_2 : List UInt8 := dkwX8_bed_2 ++ dktX8_bed_3
def dkwX8_bed_1 : List UInt8 := [3, 181, 0, 166, 42, 27, 181, 0, 169, 42, 3, 181, 0, 172, 42, 3, 181, 0, 208, 42, 2, 181, 0, 71]
abbrev dktX8_bed_1 : List UInt8 := dkwX8_bed_1 ++ dktX8_bed_2
def dkwX8_bed_0 : List UInt8 := [42, 3, 181, 0, 159, 27, 155, 0, 11, 27, 42, 180, 0, 166, 164, 0, 9, 42, 4, 182, 1, 46, 172, 42]
abbrev dktX8_bed_0 : List UInt8 := dkwX8_bed_0 ++ dktX8_bed_1
theorem dksX8_bed_0 : cX8_bed.data.toList.drop 0 = dktX8_bed_0 := by decide +kernel
theorem dksX8_bed_1 : cX8_bed.data.toList.drop 24 = dktX8_bed_1 := dk_seg dksX8_bed_0 24 rfl rfl
theorem dksX8_bed_2 : cX8_bed.data.toList.drop 48 = dktX8_bed_2 := dk_seg dksX8_bed_1 24 rfl rfl
theorem dksX8_bed_3 : cX8_bed.data.toList.drop 71 = dktX8_bed_3 := dk_seg dksX8_bed_2 23 rfl rfl
theorem dksX8_bed_4 : cX8_bed.data.toList.drop 95 = dktX8_bed_4 := dk_seg dksX8_bed_3 24 rfl rfl
theorem dksX8_bed_5 : cX8_bed.data.toList.drop 119 = dktX8_bed_5 := dk_seg dksX8_bed_4 24 rfl rfl
theorem dksX8_bed_6 : cX8_bed.data.toList.drop 142 = dktX8_bed_6 := dk_seg dksX8_bed_5 23 rfl rfl
theorem dksX8_bed_7 : cX8_bed.data.toList.drop 166 = dktX8_bed_7 := dk_seg dksX8_bed_6 24 rfl rfl
theorem dX8_bed_0 : decode cX8_bed 0 = .ok (.aload_n 0, 1) := dk_42 (dk_at dksX8_bed_0 0 rfl rfl)
theorem dX8_bed_1 : decode cX8_bed 1 = .ok (.iconst 0, 1) := dk_3 (dk_at dksX8_bed_0 1 rfl rfl)
theorem dX8_bed_2 : decode cX8_bed 2 = .ok (.putfield 159, 3) := dk_181 0 159 (dk_at dksX8_bed_0 2 rfl rfl)
theorem dX8_bed_5 : decode cX8_bed 5 = .ok (.iload_n 1, 1) := dk_27 (dk_at dksX8_bed_0 5 rfl rfl)
theorem dX8_bed_6 : decode cX8_bed 6 = .ok (.ifCond .lt 11, 3) := dk_155 0 11 (dk_at dksX8_bed_0 6 rfl rfl)
theorem dX8_bed_9 : decode cX8_bed 9 = .ok (.iload_n 1, 1) := dk_27 (dk_at dksX8_bed_0 9 rfl rfl)
theorem dX8_bed_10 : decode cX8_bed 10 = .ok (.aload_n 0, 1) := dk_42 (dk_at dksX8_bed_0 10 rfl rfl)
theorem dX8_bed_11 : decode cX8_bed 11 = .ok (.getfield 166, 3) := dk_180 0 166 (dk_at dksX8_bed_0 11 rfl rfl)
theorem dX8_bed_14 : decode cX8_bed 14 = .ok (.if_icmp .le 9, 3) := dk_164 0 9 (dk_at dksX8_bed_0 14 rfl rfl)
theorem dX8_bed_17 : decode cX8_bed 17 = .ok (.aload_n 0, 1) := dk_42 (dk_at dksX8_bed_0 17 rfl rfl)
theorem dX8_bed_18 : decode cX8_bed 18 = .ok (.iconst 1, 1) := dk_4 (dk_at dksX8_bed_0 18 rfl rfl)
theorem dX8_bed_19 : decode cX8_bed 19 = .ok (.invokevirtual 302, 3) := dk_182 1 46 (dk_at dksX8_bed_0 19 rfl rfl)
theorem dX8_bed_22 : decode cX8_bed 22 = .ok (.ireturn, 1) := dk_172 (dk_at dksX8_bed_0 22 rfl rfl)
theorem dX8_bed_23 : decode cX8_bed 23 = .ok (.aload_n 0, 1) := dk_42 (dk_at dksX8_bed_0 23 rfl rfl)
theorem dX8_bed_24 : decode cX8_bed 24 = .ok (.iconst 0, 1) := dk_3 (dk_at dksX8_bed_1 0 rfl rfl)
theorem dX8_bed_25 : decode cX8_bed 25 = .ok (.putfield 166, 3) := dk_181 0 166 (dk_at dksX8_bed_1 1 rfl rfl)
theorem dX8_bed_28 : decode cX8_bed 28 = .ok (.aload_n 0, 1) := dk_42 (dk_at dksX8_bed_1 4 rfl rfl)
theorem dX8_bed_29 : decode cX8_bed 29 = .ok (.iload_n 1, 1) := dk_27 (dk_at dksX8_bed_1 5 rfl rfl)
theorem dX8_bed_30 : decode cX8_bed 30 = .ok (.putfield 169, 3) := dk_181 0 169 (dk_at dksX8_bed_1 6 rfl rfl)
theorem dX8_bed_33 : decode cX8_bed 33 = .ok (.aload_n 0, 1) := dk_42 (dk_at dksX8_bed_1 9 rfl rfl)
theorem dX8_bed_34 : decode cX8_bed 34 = .ok (.iconst 0, 1) := dk_3 (dk_at dksX8_bed_1 10 rfl rfl)
theorem dX8_bed_35 : decode cX8_bed 35 = .ok (.putfield 172, 3) := dk_181 0 172 (dk_at dksX8_bed_1 11 rfl rfl)
theorem dX8_bed_38 : decode cX8_bed 38 = .ok (.aload_n 0, 1) := dk_42 (dk_at dksX8_bed_1 14 rfl rfl)
theorem dX8_bed_39 : decode cX8_bed 39 = .ok (.iconst 0, 1) := dk_3 (dk_at dksX8_bed_1 15 rfl rfl)
theorem dX8_bed_40 : decode cX8_bed 40 = .ok (.putfield 208, 3) := dk_181 0 208 (dk_at dksX8_bed_1 16 rfl rfl)
theorem dX8_bed_43 : decode cX8_bed 43 = .ok (.aload_n 0, 1) := dk_42 (dk_at dksX8_bed_1 19 rfl rfl)
theorem dX8_bed_44 : decode cX8_bed 44 = .ok (.iconst (-1), 1) := dk_2 (dk_at dksX8_bed_1 20 rfl rfl)
theorem dX8_bed_45 : decode cX8_bed 45 = .ok (.putfield 71, 3) := dk_181 0 71 (dk_at dksX8_bed_1 21 rfl rfl)
theorem dX8_bed_48 : decode cX8_bed 48 = .ok (.iconst 0, 1) := dk_3 (dk_at dksX8_bed_2 0 rfl rfl)
theorem dX8_bed_49 : decode cX8_bed 49 = .ok (.istore_n 2, 1) := dk_61 (dk_at dksX8_bed_2 1 rfl rfl)
theorem dX8_bed_50 : decode cX8_bed 50 = .ok (.iload_n 2, 1) := dk_28 (dk_at dksX8_bed_2 2 rfl rfl)
theorem dX8_bed_51 : decode cX8_bed 51 = .ok (.bipush 8, 2) := dk_16 8 (dk_at dksX8_bed_2 3 rfl rfl)
theorem dX8_bed_53 : decode cX8_bed 53 = .ok (.if_icmp .ge 59, 3) := dk_162 0 59 (dk_at dksX8_bed_2 5 rfl rfl)
theorem dX8_bed_56 : decode cX8_bed 56 = .ok (.aload_n 0, 1) := dk_42 (dk_at dksX8_bed_2 8 rfl rfl)
theorem dX8_bed_57 : decode cX8_bed 57 = .ok (.getfield 38, 3) := dk_180 0 38 (dk_at dksX8_bed_2 9 rfl rfl)
theorem dX8_bed_60 : decode cX8_bed 60 = .ok (.bipush 8, 2) := dk_16 8 (dk_at dksX8_bed_2 12 rfl rfl)
theorem dX8_bed_62 : decode cX8_bed 62 = .ok (.iload_n 2, 1) := dk_28 (dk_at dksX8_bed_2 14 rfl rfl)
theorem dX8_bed_63 : decode cX8_bed 63 = .ok (.iadd, 1) := dk_96 (dk_at dksX8_bed_2 15 rfl rfl)
theorem dX8_bed_64 : decode cX8_bed 64 = .ok (.iload_n 2, 1) := dk_28 (dk_at dksX8_bed_2 16 rfl rfl)
theorem dX8_bed_65 : decode cX8_bed 65 = .ok (.iconst 1, 1) := dk_4 (dk_at dksX8_bed_2 17 rfl rfl)
theorem dX8_bed_66 : decode cX8_bed 66 = .ok (.if_icmp .ne 8, 3) := dk_160 0 8 (dk_at dksX8_bed_2 18 rfl rfl)
theorem dX8_bed_69 : decode cX8_bed 69 = .ok (.bipush 20, 2) := dk_16 20 (dk_at dksX8_bed_2 21 rfl rfl)
theorem dX8_bed_71 : decode cX8_bed 71 = .ok (.goto 34, 3) := dk_167 0 34 (dk_at dksX8_bed_3 0 rfl rfl)
theorem dX8_bed_74 : decode cX8_bed 74 = .ok (.iload_n 2, 1) := dk_28 (dk_at dksX8_bed_3 3 rfl rfl)
theorem dX8_bed_75 : decode cX8_bed 75 = .ok (.iconst 2, 1) := dk_5 (dk_at dksX8_bed_3 4 rfl rfl)
theorem dX8_bed_76 : decode cX8_bed 76 = .ok (.if_icmp .ne 7, 3) := dk_160 0 7 (dk_at dksX8_bed_3 5 rfl rfl)
theorem dX8_bed_79 : decode cX8_bed 79 = .ok (.iconst 3, 1) := dk_6 (dk_at dksX8_bed_3 8 rfl rfl)
theorem dX8_bed_80 : decode cX8_bed 80 = .ok (.goto 25, 3) := dk_167 0 25 (dk_at dksX8_bed_3 9 rfl rfl)
theorem dX8_bed_83 : decode cX8_bed 83 = .ok (.iload_n 2, 1) := dk_28 (dk_at dksX8_bed_3 12 rfl rfl)
theorem dX8_bed_84 : decode cX8_bed 84 = .ok (.iconst 3, 1) := dk_6 (dk_at dksX8_bed_3 13 rfl rfl)
theorem dX8_bed_85 : decode cX8_bed 85 = .ok (.if_icmp .ne 9, 3) := dk_160 0 9 (dk_at dksX8_bed_3 14 rfl rfl)
theorem dX8_bed_88 : decode cX8_bed 88 = .ok (.sipush 480, 3) := dk_17 1 224 (dk_at dksX8_bed_3 17 rfl rfl)
theorem dX8_bed_91 : decode cX8_bed 91 = .ok (.goto 14, 3) := dk_167 0 14 (dk_at dksX8_bed_3 20 rfl rfl)
theorem dX8_bed_94 : decode cX8_bed 94 = .ok (.iload_n 2, 1) := dk_28 (dk_at dksX8_bed_3 23 rfl rfl)
theorem dX8_bed_95 : decode cX8_bed 95 = .ok (.iconst 4, 1) := dk_7 (dk_at dksX8_bed_4 0 rfl rfl)
theorem dX8_bed_96 : decode cX8_bed 96 = .ok (.if_icmp .ne 8, 3) := dk_160 0 8 (dk_at dksX8_bed_4 1 rfl rfl)
theorem dX8_bed_99 : decode cX8_bed 99 = .ok (.bipush 15, 2) := dk_16 15 (dk_at dksX8_bed_4 4 rfl rfl)
theorem dX8_bed_101 : decode cX8_bed 101 = .ok (.goto 4, 3) := dk_167 0 4 (dk_at dksX8_bed_4 6 rfl rfl)
theorem dX8_bed_104 : decode cX8_bed 104 = .ok (.iconst 0, 1) := dk_3 (dk_at dksX8_bed_4 9 rfl rfl)
theorem dX8_bed_105 : decode cX8_bed 105 = .ok (.iastore, 1) := dk_79 (dk_at dksX8_bed_4 10 rfl rfl)
theorem dX8_bed_106 : decode cX8_bed 106 = .ok (.iinc 2 1, 3) := dk_132 2 1 (dk_at dksX8_bed_4 11 rfl rfl)
theorem dX8_bed_109 : decode cX8_bed 109 = .ok (.goto (-59), 3) := dk_167 255 197 (dk_at dksX8_bed_4 14 rfl rfl)
theorem dX8_bed_112 : decode cX8_bed 112 = .ok (.aload_n 0, 1) := dk_42 (dk_at dksX8_bed_4 17 rfl rfl)
theorem dX8_bed_113 : decode cX8_bed 113 = .ok (.invokevirtual 233, 3) := dk_182 0 233 (dk_at dksX8_bed_4 18 rfl rfl)
theorem dX8_bed_116 : decode cX8_bed 116 = .ok (.iconst 0, 1) := dk_3 (dk_at dksX8_bed_4 21 rfl rfl)
theorem dX8_bed_117 : decode cX8_bed 117 = .ok (.istore_n 2, 1) := dk_61 (dk_at dksX8_bed_4 22 rfl rfl)
theorem dX8_bed_118 : decode cX8_bed 118 = .ok (.aload_n 0, 1) := dk_42 (dk_at dksX8_bed_4 23 rfl rfl)
theorem dX8_bed_119 : decode cX8_bed 119 = .ok (.getfield 208, 3) := dk_180 0 208 (dk_at dksX8_bed_5 0 rfl rfl)
theorem dX8_bed_122 : decode cX8_bed 122 = .ok (.ifCond .ne 19, 3) := dk_154 0 19 (dk_at dksX8_bed_5 3 rfl rfl)
theorem dX8_bed_125 : decode cX8_bed 125 = .ok (.aload_n 0, 1) := dk_42 (dk_at dksX8_bed_5 6 rfl rfl)
theorem dX8_bed_126 : decode cX8_bed 126 = .ok (.getfield 182, 3) := dk_180 0 182 (dk_at dksX8_bed_5 7 rfl rfl)
theorem dX8_bed_129 : decode cX8_bed 129 = .ok (.ifCond .eq 12, 3) := dk_153 0 12 (dk_at dksX8_bed_5 10 rfl rfl)
theorem dX8_bed_132 : decode cX8_bed 132 = .ok (.aload_n 0, 1) := dk_42 (dk_at dksX8_bed_5 13 rfl rfl)
theorem dX8_bed_133 : decode cX8_bed 133 = .ok (.iload_n 2, 1) := dk_28 (dk_at dksX8_bed_5 14 rfl rfl)
theorem dX8_bed_134 : decode cX8_bed 134 = .ok (.invokevirtual 305, 3) := dk_182 1 49 (dk_at dksX8_bed_5 15 rfl rfl)
theorem dX8_bed_137 : decode cX8_bed 137 = .ok (.istore_n 2, 1) := dk_61 (dk_at dksX8_bed_5 18 rfl rfl)
theorem dX8_bed_138 : decode cX8_bed 138 = .ok (.goto (-20), 3) := dk_167 255 236 (dk_at dksX8_bed_5 19 rfl rfl)
theorem dX8_bed_141 : decode cX8_bed 141 = .ok (.aload_n 0, 1) := dk_42 (dk_at dksX8_bed_5 22 rfl rfl)
theorem dX8_bed_142 : decode cX8_bed 142 = .ok (.getfield 208, 3) := dk_180 0 208 (dk_at dksX8_bed_6 0 rfl rfl)
theorem dX8_bed_145 : decode cX8_bed 145 = .ok (.ifCond .eq 26, 3) := dk_153 0 26 (dk_at dksX8_bed_6 3 rfl rfl)
theorem dX8_bed_148 : decode cX8_bed 148 = .ok (.aload_n 0, 1) := dk_42 (dk_at dksX8_bed_6 6 rfl rfl)
theorem dX8_bed_149 : decode cX8_bed 149 = .ok (.aload_n 0, 1) := dk_42 (dk_at dksX8_bed_6 7 rfl rfl)
theorem dX8_bed_150 : decode cX8_bed 150 = .ok (.getfield 211, 3) := dk_180 0 211 (dk_at dksX8_bed_6 8 rfl rfl)
theorem dX8_bed_153 : decode cX8_bed 153 = .ok (.putfield 71, 3) := dk_181 0 71 (dk_at dksX8_bed_6 11 rfl rfl)
theorem dX8_bed_156 : decode cX8_bed 156 = .ok (.aload_n 0, 1) := dk_42 (dk_at dksX8_bed_6 14 rfl rfl)
theorem dX8_bed_157 : decode cX8_bed 157 = .ok (.getfield 65, 3) := dk_180 0 65 (dk_at dksX8_bed_6 15 rfl rfl)
theorem dX8_bed_160 : decode cX8_bed 160 = .ok (.iconst 0, 1) := dk_3 (dk_at dksX8_bed_6 18 rfl rfl)
theorem dX8_bed_161 : decode cX8_bed 161 = .ok (.dup2, 1) := dk_92 (dk_at dksX8_bed_6 19 rfl rfl)
theorem dX8_bed_162 : decode cX8_bed 162 = .ok (.iaload, 1) := dk_46 (dk_at dksX8_bed_6 20 rfl rfl)
theorem dX8_bed_163 : decode cX8_bed 163 = .ok (.iconst 1, 1) := dk_4 (dk_at dksX8_bed_6 21 rfl rfl)
theorem dX8_bed_164 : decode cX8_bed 164 = .ok (.iadd, 1) := dk_96 (dk_at dksX8_bed_6 22 rfl rfl)
theorem dX8_bed_165 : decode cX8_bed 165 = .ok (.iastore, 1) := dk_79 (dk_at dksX8_bed_6 23 rfl rfl)
theorem dX8_bed_166 : decode cX8_bed 166 = .ok (.aload_n 0, 1) := dk_42 (dk_at dksX8_bed_7 0 rfl rfl)
theorem dX8_bed_167 : decode cX8_bed 167 = .ok (.getfield 208, 3) := dk_180 0 208 (dk_at dksX8_bed_7 1 rfl rfl)
theorem dX8_bed_170 : decode cX8_bed 170 = .ok (.ireturn, 1) := dk_172 (dk_at dksX8_bed_7 4 rfl rfl)
theorem dX8_bed_171 : decode cX8_bed 171 = .ok (.aload_n 0, 1) := dk_42 (dk_at dksX8_bed_7 5 rfl rfl)
theorem dX8_bed_172 : decode cX8_bed 172 = .ok (.invokevirtual 308, 3) := dk_182 1 52 (dk_at dksX8_bed_7 6 rfl rfl)
theorem dX8_bed_175 : decode cX8_bed 175 = .ok (.iconst 0, 1) := dk_3 (dk_at dksX8_bed_7 9 rfl rfl)
theorem dX8_bed_176 : decode cX8_bed 176 = .ok (.ireturn, 1) := dk_172 (dk_at dksX8_bed_7 10 rfl rfl)
abbrev cX8_fail : ByteArray := prog_21_method_3_code
def yX8_fail : MethodName := ⟨RX8, "fail", "(I)I"⟩
def dkwX8_fail_0 : List UInt8 := [42, 27, 181, 0, 159, 3, 172]
abbrev dktX8_fail_0 : List UInt8 := dkwX8_fail_0 ++ []
theorem dksX8_fail_0 : cX8_fail.data.toList.drop 0 = dktX8_fail_0 := by decide +kernel
theorem dX8_fail_0 : decode cX8_fail 0 = .ok (.aload_n 0, 1) := dk_42 (dk_at dksX8_fail_0 0 rfl rfl)
theorem dX8_fail_1 : decode cX8_fail 1 = .ok (.iload_n 1, 1) := dk_27 (dk_at dksX8_fail_0 1 rfl rfl)
theorem dX8_fail_2 : decode cX8_fail 2 = .ok (.putfield 159, 3) := dk_181 0 159 (dk_at dksX8_fail_0 2 rfl rfl)
theorem dX8_fail_5 : decode cX8_fail 5 = .ok (.iconst 0, 1) := dk_3 (dk_at dksX8_fail_0 5 rfl rfl)
theorem dX8_fail_6 : decode cX8_fail 6 = .ok (.ireturn, 1) := dk_172 (dk_at dksX8_fail_0 6 rfl rfl)
abbrev cX8_stepOn : ByteArray := prog_21_method_11_code
def yX8_stepOn : MethodName := ⟨RX8, "stepOn", "()V"⟩
def dkwX8_stepOn_9 : List UInt8 := [181, 0, 182, 42, 42, 180, 0, 172, 181, 0, 205, 177]
abbrev dktX8_stepOn_9 : List UInt8 := dkwX8_stepOn_9 ++ []
def dkwX8_stepOn_8 : List UInt8 := [42, 89, 180, 0, 172, 4, 96, 181, 0, 172, 42, 27, 184, 0, 202, 153, 0, 7, 6, 167, 0, 4, 7]
abbrev dktX8_stepOn_8 : List UInt8 := dkwX8_stepOn_8 ++ dktX8_stepOn_9
def dkwX8_stepOn_7 : List UInt8 := [181, 0, 192, 42, 89, 180, 0, 172, 4, 96, 181, 0, 172, 167, 255, 204, 42, 5, 181, 0, 182, 167, 0, 29]
abbrev dktX8_stepOn_7 : List UInt8 := dkwX8_stepOn_7 ++ dktX8_stepOn_8
def dkwX8_stepOn_6 : List UInt8 := [18, 195, 16, 10, 42, 180, 0, 192, 104, 42, 42, 180, 0, 172, 182, 0, 175, 96, 16, 48, 100, 184, 0, 196]
abbrev dktX8_stepOn_6 : List UInt8 := dkwX8_stepOn_6 ++ dktX8_stepOn_7
def dkwX8_stepOn_5 : List UInt8 := [153, 0, 71, 42, 3, 181, 0, 192, 42, 42, 180, 0, 172, 182, 0, 175, 184, 0, 189, 153, 0, 44, 42]
abbrev dktX8_stepOn_5 : List UInt8 := dkwX8_stepOn_5 ++ dktX8_stepOn_6
def dkwX8_stepOn_4 : List UInt8 := [180, 0, 172, 4, 96, 181, 0, 172, 167, 255, 232, 42, 4, 181, 0, 182, 167, 0, 104, 27, 184, 0, 189]
abbrev dktX8_stepOn_4 : List UInt8 := dkwX8_stepOn_4 ++ dktX8_stepOn_5
def dkwX8_stepOn_3 : List UInt8 := [184, 0, 185, 153, 0, 38, 42, 42, 180, 0, 172, 182, 0, 175, 184, 0, 185, 153, 0, 16, 42, 89]
abbrev dktX8_stepOn_3 : List UInt8 := dkwX8_stepOn_3 ++ dktX8_stepOn_4
def dkwX8_stepOn_2 : List UInt8 := [42, 42, 180, 0, 172, 182, 0, 175, 60, 27, 2, 160, 0, 11, 42, 3, 181, 0, 182, 167, 0, 146, 27]
abbrev dktX8_stepOn_2 : List UInt8 := dkwX8_stepOn_2 ++ dktX8_stepOn_3
def dkwX8_stepOn_1 : List UInt8 := [160, 0, 16, 42, 89, 180, 0, 172, 4, 96, 181, 0, 172, 167, 255, 220, 42, 42, 180, 0, 172, 181, 0, 179]
abbrev dktX8_stepOn_1 : List UInt8 := dkwX8_stepOn_1 ++ dktX8_stepOn_2
def dkwX8_stepOn_0 : List UInt8 := [42, 42, 180, 0, 172, 182, 0, 175, 16, 32, 159, 0, 16, 42, 42, 180, 0, 172, 182, 0, 175, 16, 10]
abbrev dktX8_stepOn_0 : List UInt8 := dkwX8_stepOn_0 ++ dktX8_stepOn_1
theorem dksX8_stepOn_0 : cX8_stepOn.data.toList.drop 0 = dktX8_stepOn_0 := by decide +kernel
theorem dksX8_stepOn_1 : cX8_stepOn.data.toList.drop 23 = dktX8_stepOn_1 := dk_seg dksX8_stepOn_0 23 rfl rfl
theorem dksX8_stepOn_2 : cX8_stepOn.data.toList.drop 47 = dktX8_stepOn_2 := dk_seg dksX8_stepOn_1 24 rfl rfl
theorem dksX8_stepOn_3 : cX8_stepOn.data.toList.drop 70 = dktX8_stepOn_3 := dk_seg dksX8_stepOn_2 23 rfl rfl
theorem dksX8_stepOn_4 : cX8_stepOn.data.toList.drop 92 = dktX8_stepOn_4 := dk_seg dksX8_stepOn_3 22 rfl rfl
theorem dksX8_stepOn_5 : cX8_stepOn.data.toList.drop 115 = dktX8_stepOn_5 := dk_seg dksX8_stepOn_4 23 rfl rfl
theorem dksX8_stepOn_6 : cX8_stepOn.data.toList.drop 138 = dktX8_stepOn_6 := dk_seg dksX8_stepOn_5 23 rfl rfl
theorem dksX8_stepOn_7 : cX8_stepOn.data.toList.drop 162 = dktX8_stepOn_7 := dk_seg dksX8_stepOn_6 24 rfl rfl
theorem dksX8_stepOn_8 : cX8_stepOn.data.toList.drop 186 = dktX8_stepOn_8 := dk_seg dksX8_stepOn_7 24 rfl rfl
theorem dksX8_stepOn_9 : cX8_stepOn.data.toList.drop 209 = dktX8_stepOn_9 := dk_seg dksX8_stepOn_8 23 rfl rfl
theorem dX8_stepOn_0 : decode cX8_stepOn 0 = .ok (.aload_n 0, 1) := dk_42 (dk_at dksX8_stepOn_0 0 rfl rfl)
theorem dX8_stepOn_1 : decode cX8_stepOn 1 = .ok (.aload_n 0, 1) := dk_42 (dk_at dksX8_stepOn_0 1 rfl rfl)
theorem dX8_stepOn_2 : decode cX8_stepOn 2 = .ok (.getfield 172, 3) := dk_180 0 172 (dk_at dksX8_stepOn_0 2 rfl rfl)
theorem dX8_stepOn_5 : decode cX8_stepOn 5 = .ok (.invokevirtual 175, 3) := dk_182 0 175 (dk_at dksX8_stepOn_0 5 rfl rfl)
theorem dX8_stepOn_8 : decode cX8_stepOn 8 = .ok (.bipush 32, 2) := dk_16 32 (dk_at dksX8_stepOn_0 8 rfl rfl)
theorem dX8_stepOn_10 : decode cX8_stepOn 10 = .ok (.if_icmp .eq 16, 3) := dk_159 0 16 (dk_at dksX8_stepOn_0 10 rfl rfl)
theorem dX8_stepOn_13 : decode cX8_stepOn 13 = .ok (.aload_n 0, 1) := dk_42 (dk_at dksX8_stepOn_0 13 rfl rfl)
theorem dX8_stepOn_14 : decode cX8_stepOn 14 = .ok (.aload_n 0, 1) := dk_42 (dk_at dksX8_stepOn_0 14 rfl rfl)
theorem dX8_stepOn_15 : decode cX8_stepOn 15 = .ok (.getfield 172, 3) := dk_180 0 172 (dk_at dksX8_stepOn_0 15 rfl rfl)
theorem dX8_stepOn_18 : decode cX8_stepOn 18 = .ok (.invokevirtual 175, 3) := dk_182 0 175 (dk_at dksX8_stepOn_0 18 rfl rfl)
theorem dX8_stepOn_21 : decode cX8_stepOn 21 = .ok (.bipush 10, 2) := dk_16 10 (dk_at dksX8_stepOn_0 21 rfl rfl)
theorem dX8_stepOn_23 : decode cX8_stepOn 23 = .ok (.if_icmp .ne 16, 3) := dk_160 0 16 (dk_at dksX8_stepOn_1 0 rfl rfl)
theorem dX8_stepOn_26 : decode cX8_stepOn 26 = .ok (.aload_n 0, 1) := dk_42 (dk_at dksX8_stepOn_1 3 rfl rfl)
theorem dX8_stepOn_27 : decode cX8_stepOn 27 = .ok (.dup, 1) := dk_89 (dk_at dksX8_stepOn_1 4 rfl rfl)
theorem dX8_stepOn_28 : decode cX8_stepOn 28 = .ok (.getfield 172, 3) := dk_180 0 172 (dk_at dksX8_stepOn_1 5 rfl rfl)
theorem dX8_stepOn_31 : decode cX8_stepOn 31 = .ok (.iconst 1, 1) := dk_4 (dk_at dksX8_stepOn_1 8 rfl rfl)
theorem dX8_stepOn_32 : decode cX8_stepOn 32 = .ok (.iadd, 1) := dk_96 (dk_at dksX8_stepOn_1 9 rfl rfl)
theorem dX8_stepOn_33 : decode cX8_stepOn 33 = .ok (.putfield 172, 3) := dk_181 0 172 (dk_at dksX8_stepOn_1 10 rfl rfl)
theorem dX8_stepOn_36 : decode cX8_stepOn 36 = .ok (.goto (-36), 3) := dk_167 255 220 (dk_at dksX8_stepOn_1 13 rfl rfl)
theorem dX8_stepOn_39 : decode cX8_stepOn 39 = .ok (.aload_n 0, 1) := dk_42 (dk_at dksX8_stepOn_1 16 rfl rfl)
theorem dX8_stepOn_40 : decode cX8_stepOn 40 = .ok (.aload_n 0, 1) := dk_42 (dk_at dksX8_stepOn_1 17 rfl rfl)
theorem dX8_stepOn_41 : decode cX8_stepOn 41 = .ok (.getfield 172, 3) := dk_180 0 172 (dk_at dksX8_stepOn_1 18 rfl rfl)
theorem dX8_stepOn_44 : decode cX8_stepOn 44 = .ok (.putfield 179, 3) := dk_181 0 179 (dk_at dksX8_stepOn_1 21 rfl rfl)
theorem dX8_stepOn_47 : decode cX8_stepOn 47 = .ok (.aload_n 0, 1) := dk_42 (dk_at dksX8_stepOn_2 0 rfl rfl)
theorem dX8_stepOn_48 : decode cX8_stepOn 48 = .ok (.aload_n 0, 1) := dk_42 (dk_at dksX8_stepOn_2 1 rfl rfl)
theorem dX8_stepOn_49 : decode cX8_stepOn 49 = .ok (.getfield 172, 3) := dk_180 0 172 (dk_at dksX8_stepOn_2 2 rfl rfl)
theorem dX8_stepOn_52 : decode cX8_stepOn 52 = .ok (.invokevirtual 175, 3) := dk_182 0 175 (dk_at dksX8_stepOn_2 5 rfl rfl)
theorem dX8_stepOn_55 : decode cX8_stepOn 55 = .ok (.istore_n 1, 1) := dk_60 (dk_at dksX8_stepOn_2 8 rfl rfl)
theorem dX8_stepOn_56 : decode cX8_stepOn 56 = .ok (.iload_n 1, 1) := dk_27 (dk_at dksX8_stepOn_2 9 rfl rfl)
theorem dX8_stepOn_57 : decode cX8_stepOn 57 = .ok (.iconst (-1), 1) := dk_2 (dk_at dksX8_stepOn_2 10 rfl rfl)
theorem dX8_stepOn_58 : decode cX8_stepOn 58 = .ok (.if_icmp .ne 11, 3) := dk_160 0 11 (dk_at dksX8_stepOn_2 11 rfl rfl)
theorem dX8_stepOn_61 : decode cX8_stepOn 61 = .ok (.aload_n 0, 1) := dk_42 (dk_at dksX8_stepOn_2 14 rfl rfl)
theorem dX8_stepOn_62 : decode cX8_stepOn 62 = .ok (.iconst 0, 1) := dk_3 (dk_at dksX8_stepOn_2 15 rfl rfl)
theorem dX8_stepOn_63 : decode cX8_stepOn 63 = .ok (.putfield 182, 3) := dk_181 0 182 (dk_at dksX8_stepOn_2 16 rfl rfl)
theorem dX8_stepOn_66 : decode cX8_stepOn 66 = .ok (.goto 146, 3) := dk_167 0 146 (dk_at dksX8_stepOn_2 19 rfl rfl)
theorem dX8_stepOn_69 : decode cX8_stepOn 69 = .ok (.iload_n 1, 1) := dk_27 (dk_at dksX8_stepOn_2 22 rfl rfl)
theorem dX8_stepOn_70 : decode cX8_stepOn 70 = .ok (.invokestatic 185, 3) := dk_184 0 185 (dk_at dksX8_stepOn_3 0 rfl rfl)
theorem dX8_stepOn_73 : decode cX8_stepOn 73 = .ok (.ifCond .eq 38, 3) := dk_153 0 38 (dk_at dksX8_stepOn_3 3 rfl rfl)
theorem dX8_stepOn_76 : decode cX8_stepOn 76 = .ok (.aload_n 0, 1) := dk_42 (dk_at dksX8_stepOn_3 6 rfl rfl)
theorem dX8_stepOn_77 : decode cX8_stepOn 77 = .ok (.aload_n 0, 1) := dk_42 (dk_at dksX8_stepOn_3 7 rfl rfl)
theorem dX8_stepOn_78 : decode cX8_stepOn 78 = .ok (.getfield 172, 3) := dk_180 0 172 (dk_at dksX8_stepOn_3 8 rfl rfl)
theorem dX8_stepOn_81 : decode cX8_stepOn 81 = .ok (.invokevirtual 175, 3) := dk_182 0 175 (dk_at dksX8_stepOn_3 11 rfl rfl)
theorem dX8_stepOn_84 : decode cX8_stepOn 84 = .ok (.invokestatic 185, 3) := dk_184 0 185 (dk_at dksX8_stepOn_3 14 rfl rfl)
theorem dX8_stepOn_87 : decode cX8_stepOn 87 = .ok (.ifCond .eq 16, 3) := dk_153 0 16 (dk_at dksX8_stepOn_3 17 rfl rfl)
theorem dX8_stepOn_90 : decode cX8_stepOn 90 = .ok (.aload_n 0, 1) := dk_42 (dk_at dksX8_stepOn_3 20 rfl rfl)
theorem dX8_stepOn_91 : decode cX8_stepOn 91 = .ok (.dup, 1) := dk_89 (dk_at dksX8_stepOn_3 21 rfl rfl)
theorem dX8_stepOn_92 : decode cX8_stepOn 92 = .ok (.getfield 172, 3) := dk_180 0 172 (dk_at dksX8_stepOn_4 0 rfl rfl)
theorem dX8_stepOn_95 : decode cX8_stepOn 95 = .ok (.iconst 1, 1) := dk_4 (dk_at dksX8_stepOn_4 3 rfl rfl)
theorem dX8_stepOn_96 : decode cX8_stepOn 96 = .ok (.iadd, 1) := dk_96 (dk_at dksX8_stepOn_4 4 rfl rfl)
theorem dX8_stepOn_97 : decode cX8_stepOn 97 = .ok (.putfield 172, 3) := dk_181 0 172 (dk_at dksX8_stepOn_4 5 rfl rfl)
theorem dX8_stepOn_100 : decode cX8_stepOn 100 = .ok (.goto (-24), 3) := dk_167 255 232 (dk_at dksX8_stepOn_4 8 rfl rfl)
theorem dX8_stepOn_103 : decode cX8_stepOn 103 = .ok (.aload_n 0, 1) := dk_42 (dk_at dksX8_stepOn_4 11 rfl rfl)
theorem dX8_stepOn_104 : decode cX8_stepOn 104 = .ok (.iconst 1, 1) := dk_4 (dk_at dksX8_stepOn_4 12 rfl rfl)
theorem dX8_stepOn_105 : decode cX8_stepOn 105 = .ok (.putfield 182, 3) := dk_181 0 182 (dk_at dksX8_stepOn_4 13 rfl rfl)
theorem dX8_stepOn_108 : decode cX8_stepOn 108 = .ok (.goto 104, 3) := dk_167 0 104 (dk_at dksX8_stepOn_4 16 rfl rfl)
theorem dX8_stepOn_111 : decode cX8_stepOn 111 = .ok (.iload_n 1, 1) := dk_27 (dk_at dksX8_stepOn_4 19 rfl rfl)
theorem dX8_stepOn_112 : decode cX8_stepOn 112 = .ok (.invokestatic 189, 3) := dk_184 0 189 (dk_at dksX8_stepOn_4 20 rfl rfl)
theorem dX8_stepOn_115 : decode cX8_stepOn 115 = .ok (.ifCond .eq 71, 3) := dk_153 0 71 (dk_at dksX8_stepOn_5 0 rfl rfl)
theorem dX8_stepOn_118 : decode cX8_stepOn 118 = .ok (.aload_n 0, 1) := dk_42 (dk_at dksX8_stepOn_5 3 rfl rfl)
theorem dX8_stepOn_119 : decode cX8_stepOn 119 = .ok (.iconst 0, 1) := dk_3 (dk_at dksX8_stepOn_5 4 rfl rfl)
theorem dX8_stepOn_120 : decode cX8_stepOn 120 = .ok (.putfield 192, 3) := dk_181 0 192 (dk_at dksX8_stepOn_5 5 rfl rfl)
theorem dX8_stepOn_123 : decode cX8_stepOn 123 = .ok (.aload_n 0, 1) := dk_42 (dk_at dksX8_stepOn_5 8 rfl rfl)
theorem dX8_stepOn_124 : decode cX8_stepOn 124 = .ok (.aload_n 0, 1) := dk_42 (dk_at dksX8_stepOn_5 9 rfl rfl)
theorem dX8_stepOn_125 : decode cX8_stepOn 125 = .ok (.getfield 172, 3) := dk_180 0 172 (dk_at dksX8_stepOn_5 10 rfl rfl)
theorem dX8_stepOn_128 : decode cX8_stepOn 128 = .ok (.invokevirtual 175, 3) := dk_182 0 175 (dk_at dksX8_stepOn_5 13 rfl rfl)
theorem dX8_stepOn_131 : decode cX8_stepOn 131 = .ok (.invokestatic 189, 3) := dk_184 0 189 (dk_at dksX8_stepOn_5 16 rfl rfl)
theorem dX8_stepOn_134 : decode cX8_stepOn 134 = .ok (.ifCond .eq 44, 3) := dk_153 0 44 (dk_at dksX8_stepOn_5 19 rfl rfl)
theorem dX8_stepOn_137 : decode cX8_stepOn 137 = .ok (.aload_n 0, 1) := dk_42 (dk_at dksX8_stepOn_5 22 rfl rfl)
theorem dX8_stepOn_138 : decode cX8_stepOn 138 = .ok (.ldc 195, 2) := dk_18 195 (dk_at dksX8_stepOn_6 0 rfl rfl)
theorem dX8_stepOn_140 : decode cX8_stepOn 140 = .ok (.bipush 10, 2) := dk_16 10 (dk_at dksX8_stepOn_6 2 rfl rfl)
theorem dX8_stepOn_142 : decode cX8_stepOn 142 = .ok (.aload_n 0, 1) := dk_42 (dk_at dksX8_stepOn_6 4 rfl rfl)
theorem dX8_stepOn_143 : decode cX8_stepOn 143 = .ok (.getfield 192, 3) := dk_180 0 192 (dk_at dksX8_stepOn_6 5 rfl rfl)
theorem dX8_stepOn_146 : decode cX8_stepOn 146 = .ok (.imul, 1) := dk_104 (dk_at dksX8_stepOn_6 8 rfl rfl)
theorem dX8_stepOn_147 : decode cX8_stepOn 147 = .ok (.aload_n 0, 1) := dk_42 (dk_at dksX8_stepOn_6 9 rfl rfl)
theorem dX8_stepOn_148 : decode cX8_stepOn 148 = .ok (.aload_n 0, 1) := dk_42 (dk_at dksX8_stepOn_6 10 rfl rfl)
theorem dX8_stepOn_149 : decode cX8_stepOn 149 = .ok (.getfield 172, 3) := dk_180 0 172 (dk_at dksX8_stepOn_6 11 rfl rfl)
theorem dX8_stepOn_152 : decode cX8_stepOn 152 = .ok (.invokevirtual 175, 3) := dk_182 0 175 (dk_at dksX8_stepOn_6 14 rfl rfl)
theorem dX8_stepOn_155 : decode cX8_stepOn 155 = .ok (.iadd, 1) := dk_96 (dk_at dksX8_stepOn_6 17 rfl rfl)
theorem dX8_stepOn_156 : decode cX8_stepOn 156 = .ok (.bipush 48, 2) := dk_16 48 (dk_at dksX8_stepOn_6 18 rfl rfl)
theorem dX8_stepOn_158 : decode cX8_stepOn 158 = .ok (.isub, 1) := dk_100 (dk_at dksX8_stepOn_6 20 rfl rfl)
theorem dX8_stepOn_159 : decode cX8_stepOn 159 = .ok (.invokestatic 196, 3) := dk_184 0 196 (dk_at dksX8_stepOn_6 21 rfl rfl)
theorem dX8_stepOn_162 : decode cX8_stepOn 162 = .ok (.putfield 192, 3) := dk_181 0 192 (dk_at dksX8_stepOn_7 0 rfl rfl)
theorem dX8_stepOn_165 : decode cX8_stepOn 165 = .ok (.aload_n 0, 1) := dk_42 (dk_at dksX8_stepOn_7 3 rfl rfl)
theorem dX8_stepOn_166 : decode cX8_stepOn 166 = .ok (.dup, 1) := dk_89 (dk_at dksX8_stepOn_7 4 rfl rfl)
theorem dX8_stepOn_167 : decode cX8_stepOn 167 = .ok (.getfield 172, 3) := dk_180 0 172 (dk_at dksX8_stepOn_7 5 rfl rfl)
theorem dX8_stepOn_170 : decode cX8_stepOn 170 = .ok (.iconst 1, 1) := dk_4 (dk_at dksX8_stepOn_7 8 rfl rfl)
theorem dX8_stepOn_171 : decode cX8_stepOn 171 = .ok (.iadd, 1) := dk_96 (dk_at dksX8_stepOn_7 9 rfl rfl)
theorem dX8_stepOn_172 : decode cX8_stepOn 172 = .ok (.putfield 172, 3) := dk_181 0 172 (dk_at dksX8_stepOn_7 10 rfl rfl)
theorem dX8_stepOn_175 : decode cX8_stepOn 175 = .ok (.goto (-52), 3) := dk_167 255 204 (dk_at dksX8_stepOn_7 13 rfl rfl)
theorem dX8_stepOn_178 : decode cX8_stepOn 178 = .ok (.aload_n 0, 1) := dk_42 (dk_at dksX8_stepOn_7 16 rfl rfl)
theorem dX8_stepOn_179 : decode cX8_stepOn 179 = .ok (.iconst 2, 1) := dk_5 (dk_at dksX8_stepOn_7 17 rfl rfl)
theorem dX8_stepOn_180 : decode cX8_stepOn 180 = .ok (.putfield 182, 3) := dk_181 0 182 (dk_at dksX8_stepOn_7 18 rfl rfl)
theorem dX8_stepOn_183 : decode cX8_stepOn 183 = .ok (.goto 29, 3) := dk_167 0 29 (dk_at dksX8_stepOn_7 21 rfl rfl)
theorem dX8_stepOn_186 : decode cX8_stepOn 186 = .ok (.aload_n 0, 1) := dk_42 (dk_at dksX8_stepOn_8 0 rfl rfl)
theorem dX8_stepOn_187 : decode cX8_stepOn 187 = .ok (.dup, 1) := dk_89 (dk_at dksX8_stepOn_8 1 rfl rfl)
theorem dX8_stepOn_188 : decode cX8_stepOn 188 = .ok (.getfield 172, 3) := dk_180 0 172 (dk_at dksX8_stepOn_8 2 rfl rfl)
theorem dX8_stepOn_191 : decode cX8_stepOn 191 = .ok (.iconst 1, 1) := dk_4 (dk_at dksX8_stepOn_8 5 rfl rfl)
theorem dX8_stepOn_192 : decode cX8_stepOn 192 = .ok (.iadd, 1) := dk_96 (dk_at dksX8_stepOn_8 6 rfl rfl)
theorem dX8_stepOn_193 : decode cX8_stepOn 193 = .ok (.putfield 172, 3) := dk_181 0 172 (dk_at dksX8_stepOn_8 7 rfl rfl)
theorem dX8_stepOn_196 : decode cX8_stepOn 196 = .ok (.aload_n 0, 1) := dk_42 (dk_at dksX8_stepOn_8 10 rfl rfl)
theorem dX8_stepOn_197 : decode cX8_stepOn 197 = .ok (.iload_n 1, 1) := dk_27 (dk_at dksX8_stepOn_8 11 rfl rfl)
theorem dX8_stepOn_198 : decode cX8_stepOn 198 = .ok (.invokestatic 202, 3) := dk_184 0 202 (dk_at dksX8_stepOn_8 12 rfl rfl)
theorem dX8_stepOn_201 : decode cX8_stepOn 201 = .ok (.ifCond .eq 7, 3) := dk_153 0 7 (dk_at dksX8_stepOn_8 15 rfl rfl)
theorem dX8_stepOn_204 : decode cX8_stepOn 204 = .ok (.iconst 3, 1) := dk_6 (dk_at dksX8_stepOn_8 18 rfl rfl)
theorem dX8_stepOn_205 : decode cX8_stepOn 205 = .ok (.goto 4, 3) := dk_167 0 4 (dk_at dksX8_stepOn_8 19 rfl rfl)
theorem dX8_stepOn_208 : decode cX8_stepOn 208 = .ok (.iconst 4, 1) := dk_7 (dk_at dksX8_stepOn_8 22 rfl rfl)
theorem dX8_stepOn_209 : decode cX8_stepOn 209 = .ok (.putfield 182, 3) := dk_181 0 182 (dk_at dksX8_stepOn_9 0 rfl rfl)
theorem dX8_stepOn_212 : decode cX8_stepOn 212 = .ok (.aload_n 0, 1) := dk_42 (dk_at dksX8_stepOn_9 3 rfl rfl)
theorem dX8_stepOn_213 : decode cX8_stepOn 213 = .ok (.aload_n 0, 1) := dk_42 (dk_at dksX8_stepOn_9 4 rfl rfl)
theorem dX8_stepOn_214 : decode cX8_stepOn 214 = .ok (.getfield 172, 3) := dk_180 0 172 (dk_at dksX8_stepOn_9 5 rfl rfl)
theorem dX8_stepOn_217 : decode cX8_stepOn 217 = .ok (.putfield 205, 3) := dk_181 0 205 (dk_at dksX8_stepOn_9 8 rfl rfl)
theorem dX8_stepOn_220 : decode cX8_stepOn 220 = .ok (.return_, 1) := dk_177 (dk_at dksX8_stepOn_9 11 rfl rfl)
abbrev cX8_byteAt : ByteArray := prog_21_method_7_code
def yX8_byteAt : MethodName := ⟨RX8, "byteAt", "(I)I"⟩
def dkwX8_byteAt_0 : List UInt8 := [27, 42, 180, 0, 169, 162, 0, 12, 42, 180, 0, 68, 27, 46, 167, 0, 4, 2, 172]
abbrev dktX8_byteAt_0 : List UInt8 := dkwX8_byteAt_0 ++ []
theorem dksX8_byteAt_0 : cX8_byteAt.data.toList.drop 0 = dktX8_byteAt_0 := by decide +kernel
theorem dX8_byteAt_0 : decode cX8_byteAt 0 = .ok (.iload_n 1, 1) := dk_27 (dk_at dksX8_byteAt_0 0 rfl rfl)
theorem dX8_byteAt_1 : decode cX8_byteAt 1 = .ok (.aload_n 0, 1) := dk_42 (dk_at dksX8_byteAt_0 1 rfl rfl)
theorem dX8_byteAt_2 : decode cX8_byteAt 2 = .ok (.getfield 169, 3) := dk_180 0 169 (dk_at dksX8_byteAt_0 2 rfl rfl)
theorem dX8_byteAt_5 : decode cX8_byteAt 5 = .ok (.if_icmp .ge 12, 3) := dk_162 0 12 (dk_at dksX8_byteAt_0 5 rfl rfl)
theorem dX8_byteAt_8 : decode cX8_byteAt 8 = .ok (.aload_n 0, 1) := dk_42 (dk_at dksX8_byteAt_0 8 rfl rfl)
theorem dX8_byteAt_9 : decode cX8_byteAt 9 = .ok (.getfield 68, 3) := dk_180 0 68 (dk_at dksX8_byteAt_0 9 rfl rfl)
theorem dX8_byteAt_12 : decode cX8_byteAt 12 = .ok (.iload_n 1, 1) := dk_27 (dk_at dksX8_byteAt_0 12 rfl rfl)
theorem dX8_byteAt_13 : decode cX8_byteAt 13 = .ok (.iaload, 1) := dk_46 (dk_at dksX8_byteAt_0 13 rfl rfl)
theorem dX8_byteAt_14 : decode cX8_byteAt 14 = .ok (.goto 4, 3) := dk_167 0 4 (dk_at dksX8_byteAt_0 14 rfl rfl)
theorem dX8_byteAt_17 : decode cX8_byteAt 17 = .ok (.iconst (-1), 1) := dk_2 (dk_at dksX8_byteAt_0 17 rfl rfl)
theorem dX8_byteAt_18 : decode cX8_byteAt 18 = .ok (.ireturn, 1) := dk_172 (dk_at dksX8_byteAt_0 18 rfl rfl)
abbrev cX8_isLetter : ByteArray := prog_21_method_8_code
def yX8_isLetter : MethodName := ⟨RX8, "isLetter", "(I)Z"⟩
def dkwX8_isLetter_0 : List UInt8 := [26, 16, 97, 161, 0, 13, 26, 16, 122, 163, 0, 7, 4, 167, 0, 4, 3, 172]
abbrev dktX8_isLetter_0 : List UInt8 := dkwX8_isLetter_0 ++ []
theorem dksX8_isLetter_0 : cX8_isLetter.data.toList.drop 0 = dktX8_isLetter_0 := by decide +kernel
theorem dX8_isLetter_0 : decode cX8_isLetter 0 = .ok (.iload_n 0, 1) := dk_26 (dk_at dksX8_isLetter_0 0 rfl rfl)
theorem dX8_isLetter_1 : decode cX8_isLetter 1 = .ok (.bipush 97, 2) := dk_16 97 (dk_at dksX8_isLetter_0 1 rfl rfl)
theorem dX8_isLetter_3 : decode cX8_isLetter 3 = .ok (.if_icmp .lt 13, 3) := dk_161 0 13 (dk_at dksX8_isLetter_0 3 rfl rfl)
theorem dX8_isLetter_6 : decode cX8_isLetter 6 = .ok (.iload_n 0, 1) := dk_26 (dk_at dksX8_isLetter_0 6 rfl rfl)
theorem dX8_isLetter_7 : decode cX8_isLetter 7 = .ok (.bipush 122, 2) := dk_16 122 (dk_at dksX8_isLetter_0 7 rfl rfl)
theorem dX8_isLetter_9 : decode cX8_isLetter 9 = .ok (.if_icmp .gt 7, 3) := dk_163 0 7 (dk_at dksX8_isLetter_0 9 rfl rfl)
theorem dX8_isLetter_12 : decode cX8_isLetter 12 = .ok (.iconst 1, 1) := dk_4 (dk_at dksX8_isLetter_0 12 rfl rfl)
theorem dX8_isLetter_13 : decode cX8_isLetter 13 = .ok (.goto 4, 3) := dk_167 0 4 (dk_at dksX8_isLetter_0 13 rfl rfl)
theorem dX8_isLetter_16 : decode cX8_isLetter 16 = .ok (.iconst 0, 1) := dk_3 (dk_at dksX8_isLetter_0 16 rfl rfl)
theorem dX8_isLetter_17 : decode cX8_isLetter 17 = .ok (.ireturn, 1) := dk_172 (dk_at dksX8_isLetter_0 17 rfl rfl)
abbrev cX8_isDigit : ByteArray := prog_21_method_9_code
def yX8_isDigit : MethodName := ⟨RX8, "isDigit", "(I)Z"⟩
def dkwX8_isDigit_0 : List UInt8 := [26, 16, 48, 161, 0, 13, 26, 16, 57, 163, 0, 7, 4, 167, 0, 4, 3, 172]
abbrev dktX8_isDigit_0 : List UInt8 := dkwX8_isDigit_0 ++ []
theorem dksX8_isDigit_0 : cX8_isDigit.data.toList.drop 0 = dktX8_isDigit_0 := by decide +kernel
theorem dX8_isDigit_0 : decode cX8_isDigit 0 = .ok (.iload_n 0, 1) := dk_26 (dk_at dksX8_isDigit_0 0 rfl rfl)
theorem dX8_isDigit_1 : decode cX8_isDigit 1 = .ok (.bipush 48, 2) := dk_16 48 (dk_at dksX8_isDigit_0 1 rfl rfl)
theorem dX8_isDigit_3 : decode cX8_isDigit 3 = .ok (.if_icmp .lt 13, 3) := dk_161 0 13 (dk_at dksX8_isDigit_0 3 rfl rfl)
theorem dX8_isDigit_6 : decode cX8_isDigit 6 = .ok (.iload_n 0, 1) := dk_26 (dk_at dksX8_isDigit_0 6 rfl rfl)
theorem dX8_isDigit_7 : decode cX8_isDigit 7 = .ok (.bipush 57, 2) := dk_16 57 (dk_at dksX8_isDigit_0 7 rfl rfl)
theorem dX8_isDigit_9 : decode cX8_isDigit 9 = .ok (.if_icmp .gt 7, 3) := dk_163 0 7 (dk_at dksX8_isDigit_0 9 rfl rfl)
theorem dX8_isDigit_12 : decode cX8_isDigit 12 = .ok (.iconst 1, 1) := dk_4 (dk_at dksX8_isDigit_0 12 rfl rfl)
theorem dX8_isDigit_13 : decode cX8_isDigit 13 = .ok (.goto 4, 3) := dk_167 0 4 (dk_at dksX8_isDigit_0 13 rfl rfl)
theorem dX8_isDigit_16 : decode cX8_isDigit 16 = .ok (.iconst 0, 1) := dk_3 (dk_at dksX8_isDigit_0 16 rfl rfl)
theorem dX8_isDigit_17 : decode cX8_isDigit 17 = .ok (.ireturn, 1) := dk_172 (dk_at dksX8_isDigit_0 17 rfl rfl)
abbrev cX8_isMark : ByteArray := prog_21_method_10_code
def yX8_isMark : MethodName := ⟨RX8, "isMark", "(I)Z"⟩
def dkwX8_isMark_2 : List UInt8 := [26, 16, 61, 160, 0, 7, 4, 167, 0, 4, 3, 172]
abbrev dktX8_isMark_2 : List UInt8 := dkwX8_isMark_2 ++ []
def dkwX8_isMark_1 : List UInt8 := [26, 16, 45, 159, 0, 27, 26, 16, 42, 159, 0, 21, 26, 16, 47, 159, 0, 15, 26, 16, 60, 159, 0, 9]
abbrev dktX8_isMark_1 : List UInt8 := dkwX8_isMark_1 ++ dktX8_isMark_2
def dkwX8_isMark_0 : List UInt8 := [26, 16, 59, 159, 0, 51, 26, 16, 40, 159, 0, 45, 26, 16, 41, 159, 0, 39, 26, 16, 43, 159, 0, 33]
abbrev dktX8_isMark_0 : List UInt8 := dkwX8_isMark_0 ++ dktX8_isMark_1
theorem dksX8_isMark_0 : cX8_isMark.data.toList.drop 0 = dktX8_isMark_0 := by decide +kernel
theorem dksX8_isMark_1 : cX8_isMark.data.toList.drop 24 = dktX8_isMark_1 := dk_seg dksX8_isMark_0 24 rfl rfl
theorem dksX8_isMark_2 : cX8_isMark.data.toList.drop 48 = dktX8_isMark_2 := dk_seg dksX8_isMark_1 24 rfl rfl
theorem dX8_isMark_0 : decode cX8_isMark 0 = .ok (.iload_n 0, 1) := dk_26 (dk_at dksX8_isMark_0 0 rfl rfl)
theorem dX8_isMark_1 : decode cX8_isMark 1 = .ok (.bipush 59, 2) := dk_16 59 (dk_at dksX8_isMark_0 1 rfl rfl)
theorem dX8_isMark_3 : decode cX8_isMark 3 = .ok (.if_icmp .eq 51, 3) := dk_159 0 51 (dk_at dksX8_isMark_0 3 rfl rfl)
theorem dX8_isMark_6 : decode cX8_isMark 6 = .ok (.iload_n 0, 1) := dk_26 (dk_at dksX8_isMark_0 6 rfl rfl)
theorem dX8_isMark_7 : decode cX8_isMark 7 = .ok (.bipush 40, 2) := dk_16 40 (dk_at dksX8_isMark_0 7 rfl rfl)
theorem dX8_isMark_9 : decode cX8_isMark 9 = .ok (.if_icmp .eq 45, 3) := dk_159 0 45 (dk_at dksX8_isMark_0 9 rfl rfl)
theorem dX8_isMark_12 : decode cX8_isMark 12 = .ok (.iload_n 0, 1) := dk_26 (dk_at dksX8_isMark_0 12 rfl rfl)
theorem dX8_isMark_13 : decode cX8_isMark 13 = .ok (.bipush 41, 2) := dk_16 41 (dk_at dksX8_isMark_0 13 rfl rfl)
theorem dX8_isMark_15 : decode cX8_isMark 15 = .ok (.if_icmp .eq 39, 3) := dk_159 0 39 (dk_at dksX8_isMark_0 15 rfl rfl)
theorem dX8_isMark_18 : decode cX8_isMark 18 = .ok (.iload_n 0, 1) := dk_26 (dk_at dksX8_isMark_0 18 rfl rfl)
theorem dX8_isMark_19 : decode cX8_isMark 19 = .ok (.bipush 43, 2) := dk_16 43 (dk_at dksX8_isMark_0 19 rfl rfl)
theorem dX8_isMark_21 : decode cX8_isMark 21 = .ok (.if_icmp .eq 33, 3) := dk_159 0 33 (dk_at dksX8_isMark_0 21 rfl rfl)
theorem dX8_isMark_24 : decode cX8_isMark 24 = .ok (.iload_n 0, 1) := dk_26 (dk_at dksX8_isMark_1 0 rfl rfl)
theorem dX8_isMark_25 : decode cX8_isMark 25 = .ok (.bipush 45, 2) := dk_16 45 (dk_at dksX8_isMark_1 1 rfl rfl)
theorem dX8_isMark_27 : decode cX8_isMark 27 = .ok (.if_icmp .eq 27, 3) := dk_159 0 27 (dk_at dksX8_isMark_1 3 rfl rfl)
theorem dX8_isMark_30 : decode cX8_isMark 30 = .ok (.iload_n 0, 1) := dk_26 (dk_at dksX8_isMark_1 6 rfl rfl)
theorem dX8_isMark_31 : decode cX8_isMark 31 = .ok (.bipush 42, 2) := dk_16 42 (dk_at dksX8_isMark_1 7 rfl rfl)
theorem dX8_isMark_33 : decode cX8_isMark 33 = .ok (.if_icmp .eq 21, 3) := dk_159 0 21 (dk_at dksX8_isMark_1 9 rfl rfl)
theorem dX8_isMark_36 : decode cX8_isMark 36 = .ok (.iload_n 0, 1) := dk_26 (dk_at dksX8_isMark_1 12 rfl rfl)
theorem dX8_isMark_37 : decode cX8_isMark 37 = .ok (.bipush 47, 2) := dk_16 47 (dk_at dksX8_isMark_1 13 rfl rfl)
theorem dX8_isMark_39 : decode cX8_isMark 39 = .ok (.if_icmp .eq 15, 3) := dk_159 0 15 (dk_at dksX8_isMark_1 15 rfl rfl)
theorem dX8_isMark_42 : decode cX8_isMark 42 = .ok (.iload_n 0, 1) := dk_26 (dk_at dksX8_isMark_1 18 rfl rfl)
theorem dX8_isMark_43 : decode cX8_isMark 43 = .ok (.bipush 60, 2) := dk_16 60 (dk_at dksX8_isMark_1 19 rfl rfl)
theorem dX8_isMark_45 : decode cX8_isMark 45 = .ok (.if_icmp .eq 9, 3) := dk_159 0 9 (dk_at dksX8_isMark_1 21 rfl rfl)
theorem dX8_isMark_48 : decode cX8_isMark 48 = .ok (.iload_n 0, 1) := dk_26 (dk_at dksX8_isMark_2 0 rfl rfl)
theorem dX8_isMark_49 : decode cX8_isMark 49 = .ok (.bipush 61, 2) := dk_16 61 (dk_at dksX8_isMark_2 1 rfl rfl)
theorem dX8_isMark_51 : decode cX8_isMark 51 = .ok (.if_icmp .ne 7, 3) := dk_160 0 7 (dk_at dksX8_isMark_2 3 rfl rfl)
theorem dX8_isMark_54 : decode cX8_isMark 54 = .ok (.iconst 1, 1) := dk_4 (dk_at dksX8_isMark_2 6 rfl rfl)
theorem dX8_isMark_55 : decode cX8_isMark 55 = .ok (.goto 4, 3) := dk_167 0 4 (dk_at dksX8_isMark_2 7 rfl rfl)
theorem dX8_isMark_58 : decode cX8_isMark 58 = .ok (.iconst 0, 1) := dk_3 (dk_at dksX8_isMark_2 10 rfl rfl)
theorem dX8_isMark_59 : decode cX8_isMark 59 = .ok (.ireturn, 1) := dk_172 (dk_at dksX8_isMark_2 11 rfl rfl)
abbrev cX8_readLine : ByteArray := prog_21_method_30_code
def yX8_readLine : MethodName := ⟨RX8, "readLine", "(I)I"⟩
def dkwX8_readLine_11 : List UInt8 := [182, 0, 249, 27, 28, 128, 172]
abbrev dktX8_readLine_11 : List UInt8 := dkwX8_readLine_11 ++ []
def dkwX8_readLine_10 : List UInt8 := [154, 0, 8, 42, 4, 182, 0, 229, 42, 180, 0, 208, 154, 0, 7, 42, 182, 1, 43, 42, 16, 59]
abbrev dktX8_readLine_10 : List UInt8 := dkwX8_readLine_10 ++ dktX8_readLine_11
def dkwX8_readLine_9 : List UInt8 := [42, 19, 1, 36, 182, 0, 222, 153, 0, 10, 42, 182, 1, 38, 167, 0, 29, 42, 19, 1, 41, 182, 0, 222]
abbrev dktX8_readLine_9 : List UInt8 := dkwX8_readLine_9 ++ dktX8_readLine_10
def dkwX8_readLine_8 : List UInt8 := [167, 0, 67, 42, 3, 182, 0, 252, 167, 0, 59, 29, 2, 159, 0, 11, 42, 29, 182, 1, 33, 167, 0, 46]
abbrev dktX8_readLine_8 : List UInt8 := dkwX8_readLine_8 ++ dktX8_readLine_9
def dkwX8_readLine_7 : List UInt8 := [167, 0, 89, 28, 7, 160, 0, 20, 42, 180, 0, 38, 16, 12, 42, 3, 16, 60, 182, 0, 239, 79]
abbrev dktX8_readLine_7 : List UInt8 := dkwX8_readLine_7 ++ dktX8_readLine_8
def dkwX8_readLine_6 : List UInt8 := [167, 0, 112, 28, 5, 160, 0, 21, 42, 180, 0, 38, 16, 11, 42, 4, 17, 2, 88, 182, 0, 239, 79]
abbrev dktX8_readLine_6 : List UInt8 := dkwX8_readLine_6 ++ dktX8_readLine_7
def dkwX8_readLine_5 : List UInt8 := [16, 9, 42, 4, 16, 99, 182, 0, 239, 79, 42, 180, 0, 38, 16, 10, 42, 3, 16, 9, 182, 0, 239, 79]
abbrev dktX8_readLine_5 : List UInt8 := dkwX8_readLine_5 ++ dktX8_readLine_6
def dkwX8_readLine_4 : List UInt8 := [158, 0, 103, 42, 180, 0, 208, 154, 0, 7, 42, 182, 0, 233, 28, 4, 160, 0, 34, 42, 180, 0, 38]
abbrev dktX8_readLine_4 : List UInt8 := dkwX8_readLine_4 ++ dktX8_readLine_5
def dkwX8_readLine_3 : List UInt8 := [167, 0, 11, 42, 42, 180, 0, 17, 182, 0, 245, 62, 28, 27, 126, 153, 0, 8, 42, 8, 182, 0, 229, 28]
abbrev dktX8_readLine_3 : List UInt8 := dkwX8_readLine_3 ++ dktX8_readLine_4
def dkwX8_readLine_2 : List UInt8 := [182, 0, 222, 153, 0, 8, 16, 8, 167, 0, 4, 3, 61, 42, 19, 1, 31, 182, 0, 222, 153, 0, 7, 6]
abbrev dktX8_readLine_2 : List UInt8 := dkwX8_readLine_2 ++ dktX8_readLine_3
def dkwX8_readLine_1 : List UInt8 := [5, 167, 0, 33, 42, 19, 1, 27, 182, 0, 222, 153, 0, 7, 7, 167, 0, 19, 42, 19, 1, 29]
abbrev dktX8_readLine_1 : List UInt8 := dkwX8_readLine_1 ++ dktX8_readLine_2
def dkwX8_readLine_0 : List UInt8 := [42, 19, 1, 23, 182, 0, 222, 153, 0, 7, 4, 167, 0, 47, 42, 19, 1, 25, 182, 0, 222, 153, 0, 7]
abbrev dktX8_readLine_0 : List UInt8 := dkwX8_readLine_0 ++ dktX8_readLine_1
theorem dksX8_readLine_0 : cX8_readLine.data.toList.drop 0 = dktX8_readLine_0 := by decide +kernel
theorem dksX8_readLine_1 : cX8_readLine.data.toList.drop 24 = dktX8_readLine_1 := dk_seg dksX8_readLine_0 24 rfl rfl
theorem dksX8_readLine_2 : cX8_readLine.data.toList.drop 46 = dktX8_readLine_2 := dk_seg dksX8_readLine_1 22 rfl rfl
theorem dksX8_readLine_3 : cX8_readLine.data.toList.drop 70 = dktX8_readLine_3 := dk_seg dksX8_readLine_2 24 rfl rfl
theorem dksX8_readLine_4 : cX8_readLine.data.toList.drop 94 = dktX8_readLine_4 := dk_seg dksX8_readLine_3 24 rfl rfl
theorem dksX8_readLine_5 : cX8_readLine.data.toList.drop 117 = dktX8_readLine_5 := dk_seg dksX8_readLine_4 23 rfl rfl
theorem dksX8_readLine_6 : cX8_readLine.data.toList.drop 141 = dktX8_readLine_6 := dk_seg dksX8_readLine_5 24 rfl rfl
theorem dksX8_readLine_7 : cX8_readLine.data.toList.drop 164 = dktX8_readLine_7 := dk_seg dksX8_readLine_6 23 rfl rfl
theorem dksX8_readLine_8 : cX8_readLine.data.toList.drop 186 = dktX8_readLine_8 := dk_seg dksX8_readLine_7 22 rfl rfl
theorem dksX8_readLine_9 : cX8_readLine.data.toList.drop 210 = dktX8_readLine_9 := dk_seg dksX8_readLine_8 24 rfl rfl
theorem dksX8_readLine_10 : cX8_readLine.data.toList.drop 234 = dktX8_readLine_10 := dk_seg dksX8_readLine_9 24 rfl rfl
theorem dksX8_readLine_11 : cX8_readLine.data.toList.drop 256 = dktX8_readLine_11 := dk_seg dksX8_readLine_10 22 rfl rfl
theorem dX8_readLine_0 : decode cX8_readLine 0 = .ok (.aload_n 0, 1) := dk_42 (dk_at dksX8_readLine_0 0 rfl rfl)
theorem dX8_readLine_1 : decode cX8_readLine 1 = .ok (.ldc_w 279, 3) := dk_19 1 23 (dk_at dksX8_readLine_0 1 rfl rfl)
theorem dX8_readLine_4 : decode cX8_readLine 4 = .ok (.invokevirtual 222, 3) := dk_182 0 222 (dk_at dksX8_readLine_0 4 rfl rfl)
theorem dX8_readLine_7 : decode cX8_readLine 7 = .ok (.ifCond .eq 7, 3) := dk_153 0 7 (dk_at dksX8_readLine_0 7 rfl rfl)
theorem dX8_readLine_10 : decode cX8_readLine 10 = .ok (.iconst 1, 1) := dk_4 (dk_at dksX8_readLine_0 10 rfl rfl)
theorem dX8_readLine_11 : decode cX8_readLine 11 = .ok (.goto 47, 3) := dk_167 0 47 (dk_at dksX8_readLine_0 11 rfl rfl)
theorem dX8_readLine_14 : decode cX8_readLine 14 = .ok (.aload_n 0, 1) := dk_42 (dk_at dksX8_readLine_0 14 rfl rfl)
theorem dX8_readLine_15 : decode cX8_readLine 15 = .ok (.ldc_w 281, 3) := dk_19 1 25 (dk_at dksX8_readLine_0 15 rfl rfl)
theorem dX8_readLine_18 : decode cX8_readLine 18 = .ok (.invokevirtual 222, 3) := dk_182 0 222 (dk_at dksX8_readLine_0 18 rfl rfl)
theorem dX8_readLine_21 : decode cX8_readLine 21 = .ok (.ifCond .eq 7, 3) := dk_153 0 7 (dk_at dksX8_readLine_0 21 rfl rfl)
theorem dX8_readLine_24 : decode cX8_readLine 24 = .ok (.iconst 2, 1) := dk_5 (dk_at dksX8_readLine_1 0 rfl rfl)
theorem dX8_readLine_25 : decode cX8_readLine 25 = .ok (.goto 33, 3) := dk_167 0 33 (dk_at dksX8_readLine_1 1 rfl rfl)
theorem dX8_readLine_28 : decode cX8_readLine 28 = .ok (.aload_n 0, 1) := dk_42 (dk_at dksX8_readLine_1 4 rfl rfl)
theorem dX8_readLine_29 : decode cX8_readLine 29 = .ok (.ldc_w 283, 3) := dk_19 1 27 (dk_at dksX8_readLine_1 5 rfl rfl)
theorem dX8_readLine_32 : decode cX8_readLine 32 = .ok (.invokevirtual 222, 3) := dk_182 0 222 (dk_at dksX8_readLine_1 8 rfl rfl)
theorem dX8_readLine_35 : decode cX8_readLine 35 = .ok (.ifCond .eq 7, 3) := dk_153 0 7 (dk_at dksX8_readLine_1 11 rfl rfl)
theorem dX8_readLine_38 : decode cX8_readLine 38 = .ok (.iconst 4, 1) := dk_7 (dk_at dksX8_readLine_1 14 rfl rfl)
theorem dX8_readLine_39 : decode cX8_readLine 39 = .ok (.goto 19, 3) := dk_167 0 19 (dk_at dksX8_readLine_1 15 rfl rfl)
theorem dX8_readLine_42 : decode cX8_readLine 42 = .ok (.aload_n 0, 1) := dk_42 (dk_at dksX8_readLine_1 18 rfl rfl)
theorem dX8_readLine_43 : decode cX8_readLine 43 = .ok (.ldc_w 285, 3) := dk_19 1 29 (dk_at dksX8_readLine_1 19 rfl rfl)
theorem dX8_readLine_46 : decode cX8_readLine 46 = .ok (.invokevirtual 222, 3) := dk_182 0 222 (dk_at dksX8_readLine_2 0 rfl rfl)
theorem dX8_readLine_49 : decode cX8_readLine 49 = .ok (.ifCond .eq 8, 3) := dk_153 0 8 (dk_at dksX8_readLine_2 3 rfl rfl)
theorem dX8_readLine_52 : decode cX8_readLine 52 = .ok (.bipush 8, 2) := dk_16 8 (dk_at dksX8_readLine_2 6 rfl rfl)
theorem dX8_readLine_54 : decode cX8_readLine 54 = .ok (.goto 4, 3) := dk_167 0 4 (dk_at dksX8_readLine_2 8 rfl rfl)
theorem dX8_readLine_57 : decode cX8_readLine 57 = .ok (.iconst 0, 1) := dk_3 (dk_at dksX8_readLine_2 11 rfl rfl)
theorem dX8_readLine_58 : decode cX8_readLine 58 = .ok (.istore_n 2, 1) := dk_61 (dk_at dksX8_readLine_2 12 rfl rfl)
theorem dX8_readLine_59 : decode cX8_readLine 59 = .ok (.aload_n 0, 1) := dk_42 (dk_at dksX8_readLine_2 13 rfl rfl)
theorem dX8_readLine_60 : decode cX8_readLine 60 = .ok (.ldc_w 287, 3) := dk_19 1 31 (dk_at dksX8_readLine_2 14 rfl rfl)
theorem dX8_readLine_63 : decode cX8_readLine 63 = .ok (.invokevirtual 222, 3) := dk_182 0 222 (dk_at dksX8_readLine_2 17 rfl rfl)
theorem dX8_readLine_66 : decode cX8_readLine 66 = .ok (.ifCond .eq 7, 3) := dk_153 0 7 (dk_at dksX8_readLine_2 20 rfl rfl)
theorem dX8_readLine_69 : decode cX8_readLine 69 = .ok (.iconst 3, 1) := dk_6 (dk_at dksX8_readLine_2 23 rfl rfl)
theorem dX8_readLine_70 : decode cX8_readLine 70 = .ok (.goto 11, 3) := dk_167 0 11 (dk_at dksX8_readLine_3 0 rfl rfl)
theorem dX8_readLine_73 : decode cX8_readLine 73 = .ok (.aload_n 0, 1) := dk_42 (dk_at dksX8_readLine_3 3 rfl rfl)
theorem dX8_readLine_74 : decode cX8_readLine 74 = .ok (.aload_n 0, 1) := dk_42 (dk_at dksX8_readLine_3 4 rfl rfl)
theorem dX8_readLine_75 : decode cX8_readLine 75 = .ok (.getfield 17, 3) := dk_180 0 17 (dk_at dksX8_readLine_3 5 rfl rfl)
theorem dX8_readLine_78 : decode cX8_readLine 78 = .ok (.invokevirtual 245, 3) := dk_182 0 245 (dk_at dksX8_readLine_3 8 rfl rfl)
theorem dX8_readLine_81 : decode cX8_readLine 81 = .ok (.istore_n 3, 1) := dk_62 (dk_at dksX8_readLine_3 11 rfl rfl)
theorem dX8_readLine_82 : decode cX8_readLine 82 = .ok (.iload_n 2, 1) := dk_28 (dk_at dksX8_readLine_3 12 rfl rfl)
theorem dX8_readLine_83 : decode cX8_readLine 83 = .ok (.iload_n 1, 1) := dk_27 (dk_at dksX8_readLine_3 13 rfl rfl)
theorem dX8_readLine_84 : decode cX8_readLine 84 = .ok (.iand, 1) := dk_126 (dk_at dksX8_readLine_3 14 rfl rfl)
theorem dX8_readLine_85 : decode cX8_readLine 85 = .ok (.ifCond .eq 8, 3) := dk_153 0 8 (dk_at dksX8_readLine_3 15 rfl rfl)
theorem dX8_readLine_88 : decode cX8_readLine 88 = .ok (.aload_n 0, 1) := dk_42 (dk_at dksX8_readLine_3 18 rfl rfl)
theorem dX8_readLine_89 : decode cX8_readLine 89 = .ok (.iconst 5, 1) := dk_8 (dk_at dksX8_readLine_3 19 rfl rfl)
theorem dX8_readLine_90 : decode cX8_readLine 90 = .ok (.invokevirtual 229, 3) := dk_182 0 229 (dk_at dksX8_readLine_3 20 rfl rfl)
theorem dX8_readLine_93 : decode cX8_readLine 93 = .ok (.iload_n 2, 1) := dk_28 (dk_at dksX8_readLine_3 23 rfl rfl)
theorem dX8_readLine_94 : decode cX8_readLine 94 = .ok (.ifCond .le 103, 3) := dk_158 0 103 (dk_at dksX8_readLine_4 0 rfl rfl)
theorem dX8_readLine_97 : decode cX8_readLine 97 = .ok (.aload_n 0, 1) := dk_42 (dk_at dksX8_readLine_4 3 rfl rfl)
theorem dX8_readLine_98 : decode cX8_readLine 98 = .ok (.getfield 208, 3) := dk_180 0 208 (dk_at dksX8_readLine_4 4 rfl rfl)
theorem dX8_readLine_101 : decode cX8_readLine 101 = .ok (.ifCond .ne 7, 3) := dk_154 0 7 (dk_at dksX8_readLine_4 7 rfl rfl)
theorem dX8_readLine_104 : decode cX8_readLine 104 = .ok (.aload_n 0, 1) := dk_42 (dk_at dksX8_readLine_4 10 rfl rfl)
theorem dX8_readLine_105 : decode cX8_readLine 105 = .ok (.invokevirtual 233, 3) := dk_182 0 233 (dk_at dksX8_readLine_4 11 rfl rfl)
theorem dX8_readLine_108 : decode cX8_readLine 108 = .ok (.iload_n 2, 1) := dk_28 (dk_at dksX8_readLine_4 14 rfl rfl)
theorem dX8_readLine_109 : decode cX8_readLine 109 = .ok (.iconst 1, 1) := dk_4 (dk_at dksX8_readLine_4 15 rfl rfl)
theorem dX8_readLine_110 : decode cX8_readLine 110 = .ok (.if_icmp .ne 34, 3) := dk_160 0 34 (dk_at dksX8_readLine_4 16 rfl rfl)
theorem dX8_readLine_113 : decode cX8_readLine 113 = .ok (.aload_n 0, 1) := dk_42 (dk_at dksX8_readLine_4 19 rfl rfl)
theorem dX8_readLine_114 : decode cX8_readLine 114 = .ok (.getfield 38, 3) := dk_180 0 38 (dk_at dksX8_readLine_4 20 rfl rfl)
theorem dX8_readLine_117 : decode cX8_readLine 117 = .ok (.bipush 9, 2) := dk_16 9 (dk_at dksX8_readLine_5 0 rfl rfl)
theorem dX8_readLine_119 : decode cX8_readLine 119 = .ok (.aload_n 0, 1) := dk_42 (dk_at dksX8_readLine_5 2 rfl rfl)
theorem dX8_readLine_120 : decode cX8_readLine 120 = .ok (.iconst 1, 1) := dk_4 (dk_at dksX8_readLine_5 3 rfl rfl)
theorem dX8_readLine_121 : decode cX8_readLine 121 = .ok (.bipush 99, 2) := dk_16 99 (dk_at dksX8_readLine_5 4 rfl rfl)
theorem dX8_readLine_123 : decode cX8_readLine 123 = .ok (.invokevirtual 239, 3) := dk_182 0 239 (dk_at dksX8_readLine_5 6 rfl rfl)
theorem dX8_readLine_126 : decode cX8_readLine 126 = .ok (.iastore, 1) := dk_79 (dk_at dksX8_readLine_5 9 rfl rfl)
theorem dX8_readLine_127 : decode cX8_readLine 127 = .ok (.aload_n 0, 1) := dk_42 (dk_at dksX8_readLine_5 10 rfl rfl)
theorem dX8_readLine_128 : decode cX8_readLine 128 = .ok (.getfield 38, 3) := dk_180 0 38 (dk_at dksX8_readLine_5 11 rfl rfl)
theorem dX8_readLine_131 : decode cX8_readLine 131 = .ok (.bipush 10, 2) := dk_16 10 (dk_at dksX8_readLine_5 14 rfl rfl)
theorem dX8_readLine_133 : decode cX8_readLine 133 = .ok (.aload_n 0, 1) := dk_42 (dk_at dksX8_readLine_5 16 rfl rfl)
theorem dX8_readLine_134 : decode cX8_readLine 134 = .ok (.iconst 0, 1) := dk_3 (dk_at dksX8_readLine_5 17 rfl rfl)
theorem dX8_readLine_135 : decode cX8_readLine 135 = .ok (.bipush 9, 2) := dk_16 9 (dk_at dksX8_readLine_5 18 rfl rfl)
theorem dX8_readLine_137 : decode cX8_readLine 137 = .ok (.invokevirtual 239, 3) := dk_182 0 239 (dk_at dksX8_readLine_5 20 rfl rfl)
theorem dX8_readLine_140 : decode cX8_readLine 140 = .ok (.iastore, 1) := dk_79 (dk_at dksX8_readLine_5 23 rfl rfl)
theorem dX8_readLine_141 : decode cX8_readLine 141 = .ok (.goto 112, 3) := dk_167 0 112 (dk_at dksX8_readLine_6 0 rfl rfl)
theorem dX8_readLine_144 : decode cX8_readLine 144 = .ok (.iload_n 2, 1) := dk_28 (dk_at dksX8_readLine_6 3 rfl rfl)
theorem dX8_readLine_145 : decode cX8_readLine 145 = .ok (.iconst 2, 1) := dk_5 (dk_at dksX8_readLine_6 4 rfl rfl)
theorem dX8_readLine_146 : decode cX8_readLine 146 = .ok (.if_icmp .ne 21, 3) := dk_160 0 21 (dk_at dksX8_readLine_6 5 rfl rfl)
theorem dX8_readLine_149 : decode cX8_readLine 149 = .ok (.aload_n 0, 1) := dk_42 (dk_at dksX8_readLine_6 8 rfl rfl)
theorem dX8_readLine_150 : decode cX8_readLine 150 = .ok (.getfield 38, 3) := dk_180 0 38 (dk_at dksX8_readLine_6 9 rfl rfl)
theorem dX8_readLine_153 : decode cX8_readLine 153 = .ok (.bipush 11, 2) := dk_16 11 (dk_at dksX8_readLine_6 12 rfl rfl)
theorem dX8_readLine_155 : decode cX8_readLine 155 = .ok (.aload_n 0, 1) := dk_42 (dk_at dksX8_readLine_6 14 rfl rfl)
theorem dX8_readLine_156 : decode cX8_readLine 156 = .ok (.iconst 1, 1) := dk_4 (dk_at dksX8_readLine_6 15 rfl rfl)
theorem dX8_readLine_157 : decode cX8_readLine 157 = .ok (.sipush 600, 3) := dk_17 2 88 (dk_at dksX8_readLine_6 16 rfl rfl)
theorem dX8_readLine_160 : decode cX8_readLine 160 = .ok (.invokevirtual 239, 3) := dk_182 0 239 (dk_at dksX8_readLine_6 19 rfl rfl)
theorem dX8_readLine_163 : decode cX8_readLine 163 = .ok (.iastore, 1) := dk_79 (dk_at dksX8_readLine_6 22 rfl rfl)
theorem dX8_readLine_164 : decode cX8_readLine 164 = .ok (.goto 89, 3) := dk_167 0 89 (dk_at dksX8_readLine_7 0 rfl rfl)
theorem dX8_readLine_167 : decode cX8_readLine 167 = .ok (.iload_n 2, 1) := dk_28 (dk_at dksX8_readLine_7 3 rfl rfl)
theorem dX8_readLine_168 : decode cX8_readLine 168 = .ok (.iconst 4, 1) := dk_7 (dk_at dksX8_readLine_7 4 rfl rfl)
theorem dX8_readLine_169 : decode cX8_readLine 169 = .ok (.if_icmp .ne 20, 3) := dk_160 0 20 (dk_at dksX8_readLine_7 5 rfl rfl)
theorem dX8_readLine_172 : decode cX8_readLine 172 = .ok (.aload_n 0, 1) := dk_42 (dk_at dksX8_readLine_7 8 rfl rfl)
theorem dX8_readLine_173 : decode cX8_readLine 173 = .ok (.getfield 38, 3) := dk_180 0 38 (dk_at dksX8_readLine_7 9 rfl rfl)
theorem dX8_readLine_176 : decode cX8_readLine 176 = .ok (.bipush 12, 2) := dk_16 12 (dk_at dksX8_readLine_7 12 rfl rfl)
theorem dX8_readLine_178 : decode cX8_readLine 178 = .ok (.aload_n 0, 1) := dk_42 (dk_at dksX8_readLine_7 14 rfl rfl)
theorem dX8_readLine_179 : decode cX8_readLine 179 = .ok (.iconst 0, 1) := dk_3 (dk_at dksX8_readLine_7 15 rfl rfl)
theorem dX8_readLine_180 : decode cX8_readLine 180 = .ok (.bipush 60, 2) := dk_16 60 (dk_at dksX8_readLine_7 16 rfl rfl)
theorem dX8_readLine_182 : decode cX8_readLine 182 = .ok (.invokevirtual 239, 3) := dk_182 0 239 (dk_at dksX8_readLine_7 18 rfl rfl)
theorem dX8_readLine_185 : decode cX8_readLine 185 = .ok (.iastore, 1) := dk_79 (dk_at dksX8_readLine_7 21 rfl rfl)
theorem dX8_readLine_186 : decode cX8_readLine 186 = .ok (.goto 67, 3) := dk_167 0 67 (dk_at dksX8_readLine_8 0 rfl rfl)
theorem dX8_readLine_189 : decode cX8_readLine 189 = .ok (.aload_n 0, 1) := dk_42 (dk_at dksX8_readLine_8 3 rfl rfl)
theorem dX8_readLine_190 : decode cX8_readLine 190 = .ok (.iconst 0, 1) := dk_3 (dk_at dksX8_readLine_8 4 rfl rfl)
theorem dX8_readLine_191 : decode cX8_readLine 191 = .ok (.invokevirtual 252, 3) := dk_182 0 252 (dk_at dksX8_readLine_8 5 rfl rfl)
theorem dX8_readLine_194 : decode cX8_readLine 194 = .ok (.goto 59, 3) := dk_167 0 59 (dk_at dksX8_readLine_8 8 rfl rfl)
theorem dX8_readLine_197 : decode cX8_readLine 197 = .ok (.iload_n 3, 1) := dk_29 (dk_at dksX8_readLine_8 11 rfl rfl)
theorem dX8_readLine_198 : decode cX8_readLine 198 = .ok (.iconst (-1), 1) := dk_2 (dk_at dksX8_readLine_8 12 rfl rfl)
theorem dX8_readLine_199 : decode cX8_readLine 199 = .ok (.if_icmp .eq 11, 3) := dk_159 0 11 (dk_at dksX8_readLine_8 13 rfl rfl)
theorem dX8_readLine_202 : decode cX8_readLine 202 = .ok (.aload_n 0, 1) := dk_42 (dk_at dksX8_readLine_8 16 rfl rfl)
theorem dX8_readLine_203 : decode cX8_readLine 203 = .ok (.iload_n 3, 1) := dk_29 (dk_at dksX8_readLine_8 17 rfl rfl)
theorem dX8_readLine_204 : decode cX8_readLine 204 = .ok (.invokevirtual 289, 3) := dk_182 1 33 (dk_at dksX8_readLine_8 18 rfl rfl)
theorem dX8_readLine_207 : decode cX8_readLine 207 = .ok (.goto 46, 3) := dk_167 0 46 (dk_at dksX8_readLine_8 21 rfl rfl)
theorem dX8_readLine_210 : decode cX8_readLine 210 = .ok (.aload_n 0, 1) := dk_42 (dk_at dksX8_readLine_9 0 rfl rfl)
theorem dX8_readLine_211 : decode cX8_readLine 211 = .ok (.ldc_w 292, 3) := dk_19 1 36 (dk_at dksX8_readLine_9 1 rfl rfl)
theorem dX8_readLine_214 : decode cX8_readLine 214 = .ok (.invokevirtual 222, 3) := dk_182 0 222 (dk_at dksX8_readLine_9 4 rfl rfl)
theorem dX8_readLine_217 : decode cX8_readLine 217 = .ok (.ifCond .eq 10, 3) := dk_153 0 10 (dk_at dksX8_readLine_9 7 rfl rfl)
theorem dX8_readLine_220 : decode cX8_readLine 220 = .ok (.aload_n 0, 1) := dk_42 (dk_at dksX8_readLine_9 10 rfl rfl)
theorem dX8_readLine_221 : decode cX8_readLine 221 = .ok (.invokevirtual 294, 3) := dk_182 1 38 (dk_at dksX8_readLine_9 11 rfl rfl)
theorem dX8_readLine_224 : decode cX8_readLine 224 = .ok (.goto 29, 3) := dk_167 0 29 (dk_at dksX8_readLine_9 14 rfl rfl)
theorem dX8_readLine_227 : decode cX8_readLine 227 = .ok (.aload_n 0, 1) := dk_42 (dk_at dksX8_readLine_9 17 rfl rfl)
theorem dX8_readLine_228 : decode cX8_readLine 228 = .ok (.ldc_w 297, 3) := dk_19 1 41 (dk_at dksX8_readLine_9 18 rfl rfl)
theorem dX8_readLine_231 : decode cX8_readLine 231 = .ok (.invokevirtual 222, 3) := dk_182 0 222 (dk_at dksX8_readLine_9 21 rfl rfl)
theorem dX8_readLine_234 : decode cX8_readLine 234 = .ok (.ifCond .ne 8, 3) := dk_154 0 8 (dk_at dksX8_readLine_10 0 rfl rfl)
theorem dX8_readLine_237 : decode cX8_readLine 237 = .ok (.aload_n 0, 1) := dk_42 (dk_at dksX8_readLine_10 3 rfl rfl)
theorem dX8_readLine_238 : decode cX8_readLine 238 = .ok (.iconst 1, 1) := dk_4 (dk_at dksX8_readLine_10 4 rfl rfl)
theorem dX8_readLine_239 : decode cX8_readLine 239 = .ok (.invokevirtual 229, 3) := dk_182 0 229 (dk_at dksX8_readLine_10 5 rfl rfl)
theorem dX8_readLine_242 : decode cX8_readLine 242 = .ok (.aload_n 0, 1) := dk_42 (dk_at dksX8_readLine_10 8 rfl rfl)
theorem dX8_readLine_243 : decode cX8_readLine 243 = .ok (.getfield 208, 3) := dk_180 0 208 (dk_at dksX8_readLine_10 9 rfl rfl)
theorem dX8_readLine_246 : decode cX8_readLine 246 = .ok (.ifCond .ne 7, 3) := dk_154 0 7 (dk_at dksX8_readLine_10 12 rfl rfl)
theorem dX8_readLine_249 : decode cX8_readLine 249 = .ok (.aload_n 0, 1) := dk_42 (dk_at dksX8_readLine_10 15 rfl rfl)
theorem dX8_readLine_250 : decode cX8_readLine 250 = .ok (.invokevirtual 299, 3) := dk_182 1 43 (dk_at dksX8_readLine_10 16 rfl rfl)
theorem dX8_readLine_253 : decode cX8_readLine 253 = .ok (.aload_n 0, 1) := dk_42 (dk_at dksX8_readLine_10 19 rfl rfl)
theorem dX8_readLine_254 : decode cX8_readLine 254 = .ok (.bipush 59, 2) := dk_16 59 (dk_at dksX8_readLine_10 20 rfl rfl)
theorem dX8_readLine_256 : decode cX8_readLine 256 = .ok (.invokevirtual 249, 3) := dk_182 0 249 (dk_at dksX8_readLine_11 0 rfl rfl)
theorem dX8_readLine_259 : decode cX8_readLine 259 = .ok (.iload_n 1, 1) := dk_27 (dk_at dksX8_readLine_11 3 rfl rfl)
theorem dX8_readLine_260 : decode cX8_readLine 260 = .ok (.iload_n 2, 1) := dk_28 (dk_at dksX8_readLine_11 4 rfl rfl)
theorem dX8_readLine_261 : decode cX8_readLine 261 = .ok (.ior, 1) := dk_128 (dk_at dksX8_readLine_11 5 rfl rfl)
theorem dX8_readLine_262 : decode cX8_readLine 262 = .ok (.ireturn, 1) := dk_172 (dk_at dksX8_readLine_11 6 rfl rfl)
abbrev cX8_is : ByteArray := prog_21_method_13_code
def yX8_is : MethodName := ⟨RX8, "is", "(Ljava/lang/String;)Z"⟩
def dkwX8_is_3 : List UInt8 := [167, 0, 4, 3, 61, 132, 3, 1, 167, 255, 216, 28, 172]
abbrev dktX8_is_3 : List UInt8 := dkwX8_is_3 ++ []
def dkwX8_is_2 : List UInt8 := [162, 0, 34, 43, 29, 182, 0, 218, 42, 180, 0, 68, 42, 180, 0, 179, 29, 96, 46, 160, 0, 7, 4]
abbrev dktX8_is_2 : List UInt8 := dkwX8_is_2 ++ dktX8_is_3
def dkwX8_is_1 : List UInt8 := [180, 0, 179, 100, 160, 0, 7, 4, 167, 0, 4, 3, 61, 3, 62, 28, 153, 0, 42, 29, 43, 182, 0, 214]
abbrev dktX8_is_1 : List UInt8 := dkwX8_is_1 ++ dktX8_is_2
def dkwX8_is_0 : List UInt8 := [42, 180, 0, 208, 154, 0, 31, 42, 180, 0, 182, 4, 160, 0, 23, 43, 182, 0, 214, 42, 180, 0, 205, 42]
abbrev dktX8_is_0 : List UInt8 := dkwX8_is_0 ++ dktX8_is_1
theorem dksX8_is_0 : cX8_is.data.toList.drop 0 = dktX8_is_0 := by decide +kernel
theorem dksX8_is_1 : cX8_is.data.toList.drop 24 = dktX8_is_1 := dk_seg dksX8_is_0 24 rfl rfl
theorem dksX8_is_2 : cX8_is.data.toList.drop 48 = dktX8_is_2 := dk_seg dksX8_is_1 24 rfl rfl
theorem dksX8_is_3 : cX8_is.data.toList.drop 71 = dktX8_is_3 := dk_seg dksX8_is_2 23 rfl rfl
theorem dX8_is_0 : decode cX8_is 0 = .ok (.aload_n 0, 1) := dk_42 (dk_at dksX8_is_0 0 rfl rfl)
theorem dX8_is_1 : decode cX8_is 1 = .ok (.getfield 208, 3) := dk_180 0 208 (dk_at dksX8_is_0 1 rfl rfl)
theorem dX8_is_4 : decode cX8_is 4 = .ok (.ifCond .ne 31, 3) := dk_154 0 31 (dk_at dksX8_is_0 4 rfl rfl)
theorem dX8_is_7 : decode cX8_is 7 = .ok (.aload_n 0, 1) := dk_42 (dk_at dksX8_is_0 7 rfl rfl)
theorem dX8_is_8 : decode cX8_is 8 = .ok (.getfield 182, 3) := dk_180 0 182 (dk_at dksX8_is_0 8 rfl rfl)
theorem dX8_is_11 : decode cX8_is 11 = .ok (.iconst 1, 1) := dk_4 (dk_at dksX8_is_0 11 rfl rfl)
theorem dX8_is_12 : decode cX8_is 12 = .ok (.if_icmp .ne 23, 3) := dk_160 0 23 (dk_at dksX8_is_0 12 rfl rfl)
theorem dX8_is_15 : decode cX8_is 15 = .ok (.aload_n 1, 1) := dk_43 (dk_at dksX8_is_0 15 rfl rfl)
theorem dX8_is_16 : decode cX8_is 16 = .ok (.invokevirtual 214, 3) := dk_182 0 214 (dk_at dksX8_is_0 16 rfl rfl)
theorem dX8_is_19 : decode cX8_is 19 = .ok (.aload_n 0, 1) := dk_42 (dk_at dksX8_is_0 19 rfl rfl)
theorem dX8_is_20 : decode cX8_is 20 = .ok (.getfield 205, 3) := dk_180 0 205 (dk_at dksX8_is_0 20 rfl rfl)
theorem dX8_is_23 : decode cX8_is 23 = .ok (.aload_n 0, 1) := dk_42 (dk_at dksX8_is_0 23 rfl rfl)
theorem dX8_is_24 : decode cX8_is 24 = .ok (.getfield 179, 3) := dk_180 0 179 (dk_at dksX8_is_1 0 rfl rfl)
theorem dX8_is_27 : decode cX8_is 27 = .ok (.isub, 1) := dk_100 (dk_at dksX8_is_1 3 rfl rfl)
theorem dX8_is_28 : decode cX8_is 28 = .ok (.if_icmp .ne 7, 3) := dk_160 0 7 (dk_at dksX8_is_1 4 rfl rfl)
theorem dX8_is_31 : decode cX8_is 31 = .ok (.iconst 1, 1) := dk_4 (dk_at dksX8_is_1 7 rfl rfl)
theorem dX8_is_32 : decode cX8_is 32 = .ok (.goto 4, 3) := dk_167 0 4 (dk_at dksX8_is_1 8 rfl rfl)
theorem dX8_is_35 : decode cX8_is 35 = .ok (.iconst 0, 1) := dk_3 (dk_at dksX8_is_1 11 rfl rfl)
theorem dX8_is_36 : decode cX8_is 36 = .ok (.istore_n 2, 1) := dk_61 (dk_at dksX8_is_1 12 rfl rfl)
theorem dX8_is_37 : decode cX8_is 37 = .ok (.iconst 0, 1) := dk_3 (dk_at dksX8_is_1 13 rfl rfl)
theorem dX8_is_38 : decode cX8_is 38 = .ok (.istore_n 3, 1) := dk_62 (dk_at dksX8_is_1 14 rfl rfl)
theorem dX8_is_39 : decode cX8_is 39 = .ok (.iload_n 2, 1) := dk_28 (dk_at dksX8_is_1 15 rfl rfl)
theorem dX8_is_40 : decode cX8_is 40 = .ok (.ifCond .eq 42, 3) := dk_153 0 42 (dk_at dksX8_is_1 16 rfl rfl)
theorem dX8_is_43 : decode cX8_is 43 = .ok (.iload_n 3, 1) := dk_29 (dk_at dksX8_is_1 19 rfl rfl)
theorem dX8_is_44 : decode cX8_is 44 = .ok (.aload_n 1, 1) := dk_43 (dk_at dksX8_is_1 20 rfl rfl)
theorem dX8_is_45 : decode cX8_is 45 = .ok (.invokevirtual 214, 3) := dk_182 0 214 (dk_at dksX8_is_1 21 rfl rfl)
theorem dX8_is_48 : decode cX8_is 48 = .ok (.if_icmp .ge 34, 3) := dk_162 0 34 (dk_at dksX8_is_2 0 rfl rfl)
theorem dX8_is_51 : decode cX8_is 51 = .ok (.aload_n 1, 1) := dk_43 (dk_at dksX8_is_2 3 rfl rfl)
theorem dX8_is_52 : decode cX8_is 52 = .ok (.iload_n 3, 1) := dk_29 (dk_at dksX8_is_2 4 rfl rfl)
theorem dX8_is_53 : decode cX8_is 53 = .ok (.invokevirtual 218, 3) := dk_182 0 218 (dk_at dksX8_is_2 5 rfl rfl)
theorem dX8_is_56 : decode cX8_is 56 = .ok (.aload_n 0, 1) := dk_42 (dk_at dksX8_is_2 8 rfl rfl)
theorem dX8_is_57 : decode cX8_is 57 = .ok (.getfield 68, 3) := dk_180 0 68 (dk_at dksX8_is_2 9 rfl rfl)
theorem dX8_is_60 : decode cX8_is 60 = .ok (.aload_n 0, 1) := dk_42 (dk_at dksX8_is_2 12 rfl rfl)
theorem dX8_is_61 : decode cX8_is 61 = .ok (.getfield 179, 3) := dk_180 0 179 (dk_at dksX8_is_2 13 rfl rfl)
theorem dX8_is_64 : decode cX8_is 64 = .ok (.iload_n 3, 1) := dk_29 (dk_at dksX8_is_2 16 rfl rfl)
theorem dX8_is_65 : decode cX8_is 65 = .ok (.iadd, 1) := dk_96 (dk_at dksX8_is_2 17 rfl rfl)
theorem dX8_is_66 : decode cX8_is 66 = .ok (.iaload, 1) := dk_46 (dk_at dksX8_is_2 18 rfl rfl)
theorem dX8_is_67 : decode cX8_is 67 = .ok (.if_icmp .ne 7, 3) := dk_160 0 7 (dk_at dksX8_is_2 19 rfl rfl)
theorem dX8_is_70 : decode cX8_is 70 = .ok (.iconst 1, 1) := dk_4 (dk_at dksX8_is_2 22 rfl rfl)
theorem dX8_is_71 : decode cX8_is 71 = .ok (.goto 4, 3) := dk_167 0 4 (dk_at dksX8_is_3 0 rfl rfl)
theorem dX8_is_74 : decode cX8_is 74 = .ok (.iconst 0, 1) := dk_3 (dk_at dksX8_is_3 3 rfl rfl)
theorem dX8_is_75 : decode cX8_is 75 = .ok (.istore_n 2, 1) := dk_61 (dk_at dksX8_is_3 4 rfl rfl)
theorem dX8_is_76 : decode cX8_is 76 = .ok (.iinc 3 1, 3) := dk_132 3 1 (dk_at dksX8_is_3 5 rfl rfl)
theorem dX8_is_79 : decode cX8_is 79 = .ok (.goto (-40), 3) := dk_167 255 216 (dk_at dksX8_is_3 8 rfl rfl)
theorem dX8_is_82 : decode cX8_is 82 = .ok (.iload_n 2, 1) := dk_28 (dk_at dksX8_is_3 11 rfl rfl)
theorem dX8_is_83 : decode cX8_is 83 = .ok (.ireturn, 1) := dk_172 (dk_at dksX8_is_3 12 rfl rfl)
abbrev cX8_which : ByteArray := prog_21_method_14_code
def yX8_which : MethodName := ⟨RX8, "which", "([Ljava/lang/String;)I"⟩
def dkwX8_which_1 : List UInt8 := [167, 255, 235, 2, 172]
abbrev dktX8_which_1 : List UInt8 := dkwX8_which_1 ++ []
def dkwX8_which_0 : List UInt8 := [3, 61, 28, 43, 190, 162, 0, 21, 42, 43, 28, 50, 182, 0, 222, 153, 0, 5, 28, 172, 132, 2, 1]
abbrev dktX8_which_0 : List UInt8 := dkwX8_which_0 ++ dktX8_which_1
theorem dksX8_which_0 : cX8_which.data.toList.drop 0 = dktX8_which_0 := by decide +kernel
theorem dksX8_which_1 : cX8_which.data.toList.drop 23 = dktX8_which_1 := dk_seg dksX8_which_0 23 rfl rfl
theorem dX8_which_0 : decode cX8_which 0 = .ok (.iconst 0, 1) := dk_3 (dk_at dksX8_which_0 0 rfl rfl)
theorem dX8_which_1 : decode cX8_which 1 = .ok (.istore_n 2, 1) := dk_61 (dk_at dksX8_which_0 1 rfl rfl)
theorem dX8_which_2 : decode cX8_which 2 = .ok (.iload_n 2, 1) := dk_28 (dk_at dksX8_which_0 2 rfl rfl)
theorem dX8_which_3 : decode cX8_which 3 = .ok (.aload_n 1, 1) := dk_43 (dk_at dksX8_which_0 3 rfl rfl)
theorem dX8_which_4 : decode cX8_which 4 = .ok (.arraylength, 1) := dk_190 (dk_at dksX8_which_0 4 rfl rfl)
theorem dX8_which_5 : decode cX8_which 5 = .ok (.if_icmp .ge 21, 3) := dk_162 0 21 (dk_at dksX8_which_0 5 rfl rfl)
theorem dX8_which_8 : decode cX8_which 8 = .ok (.aload_n 0, 1) := dk_42 (dk_at dksX8_which_0 8 rfl rfl)
theorem dX8_which_9 : decode cX8_which 9 = .ok (.aload_n 1, 1) := dk_43 (dk_at dksX8_which_0 9 rfl rfl)
theorem dX8_which_10 : decode cX8_which 10 = .ok (.iload_n 2, 1) := dk_28 (dk_at dksX8_which_0 10 rfl rfl)
theorem dX8_which_11 : decode cX8_which 11 = .ok (.aaload, 1) := dk_50 (dk_at dksX8_which_0 11 rfl rfl)
theorem dX8_which_12 : decode cX8_which 12 = .ok (.invokevirtual 222, 3) := dk_182 0 222 (dk_at dksX8_which_0 12 rfl rfl)
theorem dX8_which_15 : decode cX8_which 15 = .ok (.ifCond .eq 5, 3) := dk_153 0 5 (dk_at dksX8_which_0 15 rfl rfl)
theorem dX8_which_18 : decode cX8_which 18 = .ok (.iload_n 2, 1) := dk_28 (dk_at dksX8_which_0 18 rfl rfl)
theorem dX8_which_19 : decode cX8_which 19 = .ok (.ireturn, 1) := dk_172 (dk_at dksX8_which_0 19 rfl rfl)
theorem dX8_which_20 : decode cX8_which 20 = .ok (.iinc 2 1, 3) := dk_132 2 1 (dk_at dksX8_which_0 20 rfl rfl)
theorem dX8_which_23 : decode cX8_which 23 = .ok (.goto (-21), 3) := dk_167 255 235 (dk_at dksX8_which_1 0 rfl rfl)
theorem dX8_which_26 : decode cX8_which 26 = .ok (.iconst (-1), 1) := dk_2 (dk_at dksX8_which_1 3 rfl rfl)
theorem dX8_which_27 : decode cX8_which 27 = .ok (.ireturn, 1) := dk_172 (dk_at dksX8_which_1 4 rfl rfl)
abbrev cX8_wrong : ByteArray := prog_21_method_12_code
def yX8_wrong : MethodName := ⟨RX8, "wrong", "(I)V"⟩
def dkwX8_wrong_0 : List UInt8 := [42, 180, 0, 208, 153, 0, 4, 177, 42, 27, 181, 0, 208, 42, 42, 180, 0, 179, 181, 0, 211, 177]
abbrev dktX8_wrong_0 : List UInt8 := dkwX8_wrong_0 ++ []
theorem dksX8_wrong_0 : cX8_wrong.data.toList.drop 0 = dktX8_wrong_0 := by decide +kernel
theorem dX8_wrong_0 : decode cX8_wrong 0 = .ok (.aload_n 0, 1) := dk_42 (dk_at dksX8_wrong_0 0 rfl rfl)
theorem dX8_wrong_1 : decode cX8_wrong 1 = .ok (.getfield 208, 3) := dk_180 0 208 (dk_at dksX8_wrong_0 1 rfl rfl)
theorem dX8_wrong_4 : decode cX8_wrong 4 = .ok (.ifCond .eq 4, 3) := dk_153 0 4 (dk_at dksX8_wrong_0 4 rfl rfl)
theorem dX8_wrong_7 : decode cX8_wrong 7 = .ok (.return_, 1) := dk_177 (dk_at dksX8_wrong_0 7 rfl rfl)
theorem dX8_wrong_8 : decode cX8_wrong 8 = .ok (.aload_n 0, 1) := dk_42 (dk_at dksX8_wrong_0 8 rfl rfl)
theorem dX8_wrong_9 : decode cX8_wrong 9 = .ok (.iload_n 1, 1) := dk_27 (dk_at dksX8_wrong_0 9 rfl rfl)
theorem dX8_wrong_10 : decode cX8_wrong 10 = .ok (.putfield 208, 3) := dk_181 0 208 (dk_at dksX8_wrong_0 10 rfl rfl)
theorem dX8_wrong_13 : decode cX8_wrong 13 = .ok (.aload_n 0, 1) := dk_42 (dk_at dksX8_wrong_0 13 rfl rfl)
theorem dX8_wrong_14 : decode cX8_wrong 14 = .ok (.aload_n 0, 1) := dk_42 (dk_at dksX8_wrong_0 14 rfl rfl)
theorem dX8_wrong_15 : decode cX8_wrong 15 = .ok (.getfield 179, 3) := dk_180 0 179 (dk_at dksX8_wrong_0 15 rfl rfl)
theorem dX8_wrong_18 : decode cX8_wrong 18 = .ok (.putfield 211, 3) := dk_181 0 211 (dk_at dksX8_wrong_0 18 rfl rfl)
theorem dX8_wrong_21 : decode cX8_wrong 21 = .ok (.return_, 1) := dk_177 (dk_at dksX8_wrong_0 21 rfl rfl)
abbrev cX8_readNumber : ByteArray := prog_21_method_18_code
def yX8_readNumber : MethodName := ⟨RX8, "readNumber", "(II)I"⟩
def dkwX8_readNumber_0 : List UInt8 := [42, 27, 28, 182, 0, 236, 62, 42, 180, 0, 208, 154, 0, 7, 42, 182, 0, 233, 29, 172]
abbrev dktX8_readNumber_0 : List UInt8 := dkwX8_readNumber_0 ++ []
theorem dksX8_readNumber_0 : cX8_readNumber.data.toList.drop 0 = dktX8_readNumber_0 := by decide +kernel
theorem dX8_readNumber_0 : decode cX8_readNumber 0 = .ok (.aload_n 0, 1) := dk_42 (dk_at dksX8_readNumber_0 0 rfl rfl)
theorem dX8_readNumber_1 : decode cX8_readNumber 1 = .ok (.iload_n 1, 1) := dk_27 (dk_at dksX8_readNumber_0 1 rfl rfl)
theorem dX8_readNumber_2 : decode cX8_readNumber 2 = .ok (.iload_n 2, 1) := dk_28 (dk_at dksX8_readNumber_0 2 rfl rfl)
theorem dX8_readNumber_3 : decode cX8_readNumber 3 = .ok (.invokevirtual 236, 3) := dk_182 0 236 (dk_at dksX8_readNumber_0 3 rfl rfl)
theorem dX8_readNumber_6 : decode cX8_readNumber 6 = .ok (.istore_n 3, 1) := dk_62 (dk_at dksX8_readNumber_0 6 rfl rfl)
theorem dX8_readNumber_7 : decode cX8_readNumber 7 = .ok (.aload_n 0, 1) := dk_42 (dk_at dksX8_readNumber_0 7 rfl rfl)
theorem dX8_readNumber_8 : decode cX8_readNumber 8 = .ok (.getfield 208, 3) := dk_180 0 208 (dk_at dksX8_readNumber_0 8 rfl rfl)
theorem dX8_readNumber_11 : decode cX8_readNumber 11 = .ok (.ifCond .ne 7, 3) := dk_154 0 7 (dk_at dksX8_readNumber_0 11 rfl rfl)
theorem dX8_readNumber_14 : decode cX8_readNumber 14 = .ok (.aload_n 0, 1) := dk_42 (dk_at dksX8_readNumber_0 14 rfl rfl)
theorem dX8_readNumber_15 : decode cX8_readNumber 15 = .ok (.invokevirtual 233, 3) := dk_182 0 233 (dk_at dksX8_readNumber_0 15 rfl rfl)
theorem dX8_readNumber_18 : decode cX8_readNumber 18 = .ok (.iload_n 3, 1) := dk_29 (dk_at dksX8_readNumber_0 18 rfl rfl)
theorem dX8_readNumber_19 : decode cX8_readNumber 19 = .ok (.ireturn, 1) := dk_172 (dk_at dksX8_readNumber_0 19 rfl rfl)
abbrev cX8_numberNow : ByteArray := prog_21_method_17_code
def yX8_numberNow : MethodName := ⟨RX8, "numberNow", "(II)I"⟩
def dkwX8_numberNow_3 : List UInt8 := [167, 0, 4, 3, 172]
abbrev dktX8_numberNow_3 : List UInt8 := dkwX8_numberNow_3 ++ []
def dkwX8_numberNow_2 : List UInt8 := [42, 180, 0, 192, 28, 164, 0, 8, 42, 5, 182, 0, 229, 42, 180, 0, 208, 154, 0, 10, 42, 180, 0, 192]
abbrev dktX8_numberNow_2 : List UInt8 := dkwX8_numberNow_2 ++ dktX8_numberNow_3
def dkwX8_numberNow_1 : List UInt8 := [167, 0, 37, 42, 180, 0, 205, 42, 180, 0, 179, 100, 7, 163, 0, 19, 42, 180, 0, 192, 27, 161, 0, 11]
abbrev dktX8_numberNow_1 : List UInt8 := dkwX8_numberNow_1 ++ dktX8_numberNow_2
def dkwX8_numberNow_0 : List UInt8 := [42, 180, 0, 208, 153, 0, 5, 3, 172, 42, 180, 0, 182, 5, 159, 0, 11, 42, 4, 182, 0, 229]
abbrev dktX8_numberNow_0 : List UInt8 := dkwX8_numberNow_0 ++ dktX8_numberNow_1
theorem dksX8_numberNow_0 : cX8_numberNow.data.toList.drop 0 = dktX8_numberNow_0 := by decide +kernel
theorem dksX8_numberNow_1 : cX8_numberNow.data.toList.drop 22 = dktX8_numberNow_1 := dk_seg dksX8_numberNow_0 22 rfl rfl
theorem dksX8_numberNow_2 : cX8_numberNow.data.toList.drop 46 = dktX8_numberNow_2 := dk_seg dksX8_numberNow_1 24 rfl rfl
theorem dksX8_numberNow_3 : cX8_numberNow.data.toList.drop 70 = dktX8_numberNow_3 := dk_seg dksX8_numberNow_2 24 rfl rfl
theorem dX8_numberNow_0 : decode cX8_numberNow 0 = .ok (.aload_n 0, 1) := dk_42 (dk_at dksX8_numberNow_0 0 rfl rfl)
theorem dX8_numberNow_1 : decode cX8_numberNow 1 = .ok (.getfield 208, 3) := dk_180 0 208 (dk_at dksX8_numberNow_0 1 rfl rfl)
theorem dX8_numberNow_4 : decode cX8_numberNow 4 = .ok (.ifCond .eq 5, 3) := dk_153 0 5 (dk_at dksX8_numberNow_0 4 rfl rfl)
theorem dX8_numberNow_7 : decode cX8_numberNow 7 = .ok (.iconst 0, 1) := dk_3 (dk_at dksX8_numberNow_0 7 rfl rfl)
theorem dX8_numberNow_8 : decode cX8_numberNow 8 = .ok (.ireturn, 1) := dk_172 (dk_at dksX8_numberNow_0 8 rfl rfl)
theorem dX8_numberNow_9 : decode cX8_numberNow 9 = .ok (.aload_n 0, 1) := dk_42 (dk_at dksX8_numberNow_0 9 rfl rfl)
theorem dX8_numberNow_10 : decode cX8_numberNow 10 = .ok (.getfield 182, 3) := dk_180 0 182 (dk_at dksX8_numberNow_0 10 rfl rfl)
theorem dX8_numberNow_13 : decode cX8_numberNow 13 = .ok (.iconst 2, 1) := dk_5 (dk_at dksX8_numberNow_0 13 rfl rfl)
theorem dX8_numberNow_14 : decode cX8_numberNow 14 = .ok (.if_icmp .eq 11, 3) := dk_159 0 11 (dk_at dksX8_numberNow_0 14 rfl rfl)
theorem dX8_numberNow_17 : decode cX8_numberNow 17 = .ok (.aload_n 0, 1) := dk_42 (dk_at dksX8_numberNow_0 17 rfl rfl)
theorem dX8_numberNow_18 : decode cX8_numberNow 18 = .ok (.iconst 1, 1) := dk_4 (dk_at dksX8_numberNow_0 18 rfl rfl)
theorem dX8_numberNow_19 : decode cX8_numberNow 19 = .ok (.invokevirtual 229, 3) := dk_182 0 229 (dk_at dksX8_numberNow_0 19 rfl rfl)
theorem dX8_numberNow_22 : decode cX8_numberNow 22 = .ok (.goto 37, 3) := dk_167 0 37 (dk_at dksX8_numberNow_1 0 rfl rfl)
theorem dX8_numberNow_25 : decode cX8_numberNow 25 = .ok (.aload_n 0, 1) := dk_42 (dk_at dksX8_numberNow_1 3 rfl rfl)
theorem dX8_numberNow_26 : decode cX8_numberNow 26 = .ok (.getfield 205, 3) := dk_180 0 205 (dk_at dksX8_numberNow_1 4 rfl rfl)
theorem dX8_numberNow_29 : decode cX8_numberNow 29 = .ok (.aload_n 0, 1) := dk_42 (dk_at dksX8_numberNow_1 7 rfl rfl)
theorem dX8_numberNow_30 : decode cX8_numberNow 30 = .ok (.getfield 179, 3) := dk_180 0 179 (dk_at dksX8_numberNow_1 8 rfl rfl)
theorem dX8_numberNow_33 : decode cX8_numberNow 33 = .ok (.isub, 1) := dk_100 (dk_at dksX8_numberNow_1 11 rfl rfl)
theorem dX8_numberNow_34 : decode cX8_numberNow 34 = .ok (.iconst 4, 1) := dk_7 (dk_at dksX8_numberNow_1 12 rfl rfl)
theorem dX8_numberNow_35 : decode cX8_numberNow 35 = .ok (.if_icmp .gt 19, 3) := dk_163 0 19 (dk_at dksX8_numberNow_1 13 rfl rfl)
theorem dX8_numberNow_38 : decode cX8_numberNow 38 = .ok (.aload_n 0, 1) := dk_42 (dk_at dksX8_numberNow_1 16 rfl rfl)
theorem dX8_numberNow_39 : decode cX8_numberNow 39 = .ok (.getfield 192, 3) := dk_180 0 192 (dk_at dksX8_numberNow_1 17 rfl rfl)
theorem dX8_numberNow_42 : decode cX8_numberNow 42 = .ok (.iload_n 1, 1) := dk_27 (dk_at dksX8_numberNow_1 20 rfl rfl)
theorem dX8_numberNow_43 : decode cX8_numberNow 43 = .ok (.if_icmp .lt 11, 3) := dk_161 0 11 (dk_at dksX8_numberNow_1 21 rfl rfl)
theorem dX8_numberNow_46 : decode cX8_numberNow 46 = .ok (.aload_n 0, 1) := dk_42 (dk_at dksX8_numberNow_2 0 rfl rfl)
theorem dX8_numberNow_47 : decode cX8_numberNow 47 = .ok (.getfield 192, 3) := dk_180 0 192 (dk_at dksX8_numberNow_2 1 rfl rfl)
theorem dX8_numberNow_50 : decode cX8_numberNow 50 = .ok (.iload_n 2, 1) := dk_28 (dk_at dksX8_numberNow_2 4 rfl rfl)
theorem dX8_numberNow_51 : decode cX8_numberNow 51 = .ok (.if_icmp .le 8, 3) := dk_164 0 8 (dk_at dksX8_numberNow_2 5 rfl rfl)
theorem dX8_numberNow_54 : decode cX8_numberNow 54 = .ok (.aload_n 0, 1) := dk_42 (dk_at dksX8_numberNow_2 8 rfl rfl)
theorem dX8_numberNow_55 : decode cX8_numberNow 55 = .ok (.iconst 2, 1) := dk_5 (dk_at dksX8_numberNow_2 9 rfl rfl)
theorem dX8_numberNow_56 : decode cX8_numberNow 56 = .ok (.invokevirtual 229, 3) := dk_182 0 229 (dk_at dksX8_numberNow_2 10 rfl rfl)
theorem dX8_numberNow_59 : decode cX8_numberNow 59 = .ok (.aload_n 0, 1) := dk_42 (dk_at dksX8_numberNow_2 13 rfl rfl)
theorem dX8_numberNow_60 : decode cX8_numberNow 60 = .ok (.getfield 208, 3) := dk_180 0 208 (dk_at dksX8_numberNow_2 14 rfl rfl)
theorem dX8_numberNow_63 : decode cX8_numberNow 63 = .ok (.ifCond .ne 10, 3) := dk_154 0 10 (dk_at dksX8_numberNow_2 17 rfl rfl)
theorem dX8_numberNow_66 : decode cX8_numberNow 66 = .ok (.aload_n 0, 1) := dk_42 (dk_at dksX8_numberNow_2 20 rfl rfl)
theorem dX8_numberNow_67 : decode cX8_numberNow 67 = .ok (.getfield 192, 3) := dk_180 0 192 (dk_at dksX8_numberNow_2 21 rfl rfl)
theorem dX8_numberNow_70 : decode cX8_numberNow 70 = .ok (.goto 4, 3) := dk_167 0 4 (dk_at dksX8_numberNow_3 0 rfl rfl)
theorem dX8_numberNow_73 : decode cX8_numberNow 73 = .ok (.iconst 0, 1) := dk_3 (dk_at dksX8_numberNow_3 3 rfl rfl)
theorem dX8_numberNow_74 : decode cX8_numberNow 74 = .ok (.ireturn, 1) := dk_172 (dk_at dksX8_numberNow_3 4 rfl rfl)
abbrev cX8_readExpression : ByteArray := prog_21_method_26_code
def yX8_readExpression : MethodName := ⟨RX8, "readExpression", "(I)V"⟩
def dkwX8_readExpression_4 : List UInt8 := [177]
abbrev dktX8_readExpression_4 : List UInt8 := dkwX8_readExpression_4 ++ []
def dkwX8_readExpression_3 : List UInt8 := [182, 0, 222, 153, 0, 21, 42, 182, 0, 233, 42, 27, 182, 1, 15, 42, 16, 229, 182, 0, 242, 167, 255, 231]
abbrev dktX8_readExpression_3 : List UInt8 := dkwX8_readExpression_3 ++ dktX8_readExpression_4
def dkwX8_readExpression_2 : List UInt8 := [167, 0, 14, 27, 16, 6, 160, 0, 8, 42, 5, 182, 0, 229, 42, 27, 182, 1, 15, 42, 19, 1, 18]
abbrev dktX8_readExpression_2 : List UInt8 := dkwX8_readExpression_2 ++ dktX8_readExpression_3
def dkwX8_readExpression_1 : List UInt8 := [42, 16, 40, 182, 0, 226, 153, 0, 7, 4, 167, 0, 4, 3, 61, 28, 154, 0, 11, 42, 4, 182, 0, 229]
abbrev dktX8_readExpression_1 : List UInt8 := dkwX8_readExpression_1 ++ dktX8_readExpression_2
def dkwX8_readExpression_0 : List UInt8 := [42, 180, 0, 208, 153, 0, 4, 177, 42, 180, 0, 182, 5, 159, 0, 20, 42, 180, 0, 182, 4, 159, 0, 12]
abbrev dktX8_readExpression_0 : List UInt8 := dkwX8_readExpression_0 ++ dktX8_readExpression_1
theorem dksX8_readExpression_0 : cX8_readExpression.data.toList.drop 0 = dktX8_readExpression_0 := by decide +kernel
theorem dksX8_readExpression_1 : cX8_readExpression.data.toList.drop 24 = dktX8_readExpression_1 := dk_seg dksX8_readExpression_0 24 rfl rfl
theorem dksX8_readExpression_2 : cX8_readExpression.data.toList.drop 48 = dktX8_readExpression_2 := dk_seg dksX8_readExpression_1 24 rfl rfl
theorem dksX8_readExpression_3 : cX8_readExpression.data.toList.drop 71 = dktX8_readExpression_3 := dk_seg dksX8_readExpression_2 23 rfl rfl
theorem dksX8_readExpression_4 : cX8_readExpression.data.toList.drop 95 = dktX8_readExpression_4 := dk_seg dksX8_readExpression_3 24 rfl rfl
theorem dX8_readExpression_0 : decode cX8_readExpression 0 = .ok (.aload_n 0, 1) := dk_42 (dk_at dksX8_readExpression_0 0 rfl rfl)
theorem dX8_readExpression_1 : decode cX8_readExpression 1 = .ok (.getfield 208, 3) := dk_180 0 208 (dk_at dksX8_readExpression_0 1 rfl rfl)
theorem dX8_readExpression_4 : decode cX8_readExpression 4 = .ok (.ifCond .eq 4, 3) := dk_153 0 4 (dk_at dksX8_readExpression_0 4 rfl rfl)
theorem dX8_readExpression_7 : decode cX8_readExpression 7 = .ok (.return_, 1) := dk_177 (dk_at dksX8_readExpression_0 7 rfl rfl)
theorem dX8_readExpression_8 : decode cX8_readExpression 8 = .ok (.aload_n 0, 1) := dk_42 (dk_at dksX8_readExpression_0 8 rfl rfl)
theorem dX8_readExpression_9 : decode cX8_readExpression 9 = .ok (.getfield 182, 3) := dk_180 0 182 (dk_at dksX8_readExpression_0 9 rfl rfl)
theorem dX8_readExpression_12 : decode cX8_readExpression 12 = .ok (.iconst 2, 1) := dk_5 (dk_at dksX8_readExpression_0 12 rfl rfl)
theorem dX8_readExpression_13 : decode cX8_readExpression 13 = .ok (.if_icmp .eq 20, 3) := dk_159 0 20 (dk_at dksX8_readExpression_0 13 rfl rfl)
theorem dX8_readExpression_16 : decode cX8_readExpression 16 = .ok (.aload_n 0, 1) := dk_42 (dk_at dksX8_readExpression_0 16 rfl rfl)
theorem dX8_readExpression_17 : decode cX8_readExpression 17 = .ok (.getfield 182, 3) := dk_180 0 182 (dk_at dksX8_readExpression_0 17 rfl rfl)
theorem dX8_readExpression_20 : decode cX8_readExpression 20 = .ok (.iconst 1, 1) := dk_4 (dk_at dksX8_readExpression_0 20 rfl rfl)
theorem dX8_readExpression_21 : decode cX8_readExpression 21 = .ok (.if_icmp .eq 12, 3) := dk_159 0 12 (dk_at dksX8_readExpression_0 21 rfl rfl)
theorem dX8_readExpression_24 : decode cX8_readExpression 24 = .ok (.aload_n 0, 1) := dk_42 (dk_at dksX8_readExpression_1 0 rfl rfl)
theorem dX8_readExpression_25 : decode cX8_readExpression 25 = .ok (.bipush 40, 2) := dk_16 40 (dk_at dksX8_readExpression_1 1 rfl rfl)
theorem dX8_readExpression_27 : decode cX8_readExpression 27 = .ok (.invokevirtual 226, 3) := dk_182 0 226 (dk_at dksX8_readExpression_1 3 rfl rfl)
theorem dX8_readExpression_30 : decode cX8_readExpression 30 = .ok (.ifCond .eq 7, 3) := dk_153 0 7 (dk_at dksX8_readExpression_1 6 rfl rfl)
theorem dX8_readExpression_33 : decode cX8_readExpression 33 = .ok (.iconst 1, 1) := dk_4 (dk_at dksX8_readExpression_1 9 rfl rfl)
theorem dX8_readExpression_34 : decode cX8_readExpression 34 = .ok (.goto 4, 3) := dk_167 0 4 (dk_at dksX8_readExpression_1 10 rfl rfl)
theorem dX8_readExpression_37 : decode cX8_readExpression 37 = .ok (.iconst 0, 1) := dk_3 (dk_at dksX8_readExpression_1 13 rfl rfl)
theorem dX8_readExpression_38 : decode cX8_readExpression 38 = .ok (.istore_n 2, 1) := dk_61 (dk_at dksX8_readExpression_1 14 rfl rfl)
theorem dX8_readExpression_39 : decode cX8_readExpression 39 = .ok (.iload_n 2, 1) := dk_28 (dk_at dksX8_readExpression_1 15 rfl rfl)
theorem dX8_readExpression_40 : decode cX8_readExpression 40 = .ok (.ifCond .ne 11, 3) := dk_154 0 11 (dk_at dksX8_readExpression_1 16 rfl rfl)
theorem dX8_readExpression_43 : decode cX8_readExpression 43 = .ok (.aload_n 0, 1) := dk_42 (dk_at dksX8_readExpression_1 19 rfl rfl)
theorem dX8_readExpression_44 : decode cX8_readExpression 44 = .ok (.iconst 1, 1) := dk_4 (dk_at dksX8_readExpression_1 20 rfl rfl)
theorem dX8_readExpression_45 : decode cX8_readExpression 45 = .ok (.invokevirtual 229, 3) := dk_182 0 229 (dk_at dksX8_readExpression_1 21 rfl rfl)
theorem dX8_readExpression_48 : decode cX8_readExpression 48 = .ok (.goto 14, 3) := dk_167 0 14 (dk_at dksX8_readExpression_2 0 rfl rfl)
theorem dX8_readExpression_51 : decode cX8_readExpression 51 = .ok (.iload_n 1, 1) := dk_27 (dk_at dksX8_readExpression_2 3 rfl rfl)
theorem dX8_readExpression_52 : decode cX8_readExpression 52 = .ok (.bipush 6, 2) := dk_16 6 (dk_at dksX8_readExpression_2 4 rfl rfl)
theorem dX8_readExpression_54 : decode cX8_readExpression 54 = .ok (.if_icmp .ne 8, 3) := dk_160 0 8 (dk_at dksX8_readExpression_2 6 rfl rfl)
theorem dX8_readExpression_57 : decode cX8_readExpression 57 = .ok (.aload_n 0, 1) := dk_42 (dk_at dksX8_readExpression_2 9 rfl rfl)
theorem dX8_readExpression_58 : decode cX8_readExpression 58 = .ok (.iconst 2, 1) := dk_5 (dk_at dksX8_readExpression_2 10 rfl rfl)
theorem dX8_readExpression_59 : decode cX8_readExpression 59 = .ok (.invokevirtual 229, 3) := dk_182 0 229 (dk_at dksX8_readExpression_2 11 rfl rfl)
theorem dX8_readExpression_62 : decode cX8_readExpression 62 = .ok (.aload_n 0, 1) := dk_42 (dk_at dksX8_readExpression_2 14 rfl rfl)
theorem dX8_readExpression_63 : decode cX8_readExpression 63 = .ok (.iload_n 1, 1) := dk_27 (dk_at dksX8_readExpression_2 15 rfl rfl)
theorem dX8_readExpression_64 : decode cX8_readExpression 64 = .ok (.invokevirtual 271, 3) := dk_182 1 15 (dk_at dksX8_readExpression_2 16 rfl rfl)
theorem dX8_readExpression_67 : decode cX8_readExpression 67 = .ok (.aload_n 0, 1) := dk_42 (dk_at dksX8_readExpression_2 19 rfl rfl)
theorem dX8_readExpression_68 : decode cX8_readExpression 68 = .ok (.ldc_w 274, 3) := dk_19 1 18 (dk_at dksX8_readExpression_2 20 rfl rfl)
theorem dX8_readExpression_71 : decode cX8_readExpression 71 = .ok (.invokevirtual 222, 3) := dk_182 0 222 (dk_at dksX8_readExpression_3 0 rfl rfl)
theorem dX8_readExpression_74 : decode cX8_readExpression 74 = .ok (.ifCond .eq 21, 3) := dk_153 0 21 (dk_at dksX8_readExpression_3 3 rfl rfl)
theorem dX8_readExpression_77 : decode cX8_readExpression 77 = .ok (.aload_n 0, 1) := dk_42 (dk_at dksX8_readExpression_3 6 rfl rfl)
theorem dX8_readExpression_78 : decode cX8_readExpression 78 = .ok (.invokevirtual 233, 3) := dk_182 0 233 (dk_at dksX8_readExpression_3 7 rfl rfl)
theorem dX8_readExpression_81 : decode cX8_readExpression 81 = .ok (.aload_n 0, 1) := dk_42 (dk_at dksX8_readExpression_3 10 rfl rfl)
theorem dX8_readExpression_82 : decode cX8_readExpression 82 = .ok (.iload_n 1, 1) := dk_27 (dk_at dksX8_readExpression_3 11 rfl rfl)
theorem dX8_readExpression_83 : decode cX8_readExpression 83 = .ok (.invokevirtual 271, 3) := dk_182 1 15 (dk_at dksX8_readExpression_3 12 rfl rfl)
theorem dX8_readExpression_86 : decode cX8_readExpression 86 = .ok (.aload_n 0, 1) := dk_42 (dk_at dksX8_readExpression_3 15 rfl rfl)
theorem dX8_readExpression_87 : decode cX8_readExpression 87 = .ok (.bipush (-27), 2) := dk_16 229 (dk_at dksX8_readExpression_3 16 rfl rfl)
theorem dX8_readExpression_89 : decode cX8_readExpression 89 = .ok (.invokevirtual 242, 3) := dk_182 0 242 (dk_at dksX8_readExpression_3 18 rfl rfl)
theorem dX8_readExpression_92 : decode cX8_readExpression 92 = .ok (.goto (-25), 3) := dk_167 255 231 (dk_at dksX8_readExpression_3 21 rfl rfl)
theorem dX8_readExpression_95 : decode cX8_readExpression 95 = .ok (.return_, 1) := dk_177 (dk_at dksX8_readExpression_4 0 rfl rfl)
abbrev cX8_isMarked : ByteArray := prog_21_method_15_code
def yX8_isMarked : MethodName := ⟨RX8, "isMarked", "(I)Z"⟩
def dkwX8_isMarked_1 : List UInt8 := [27, 160, 0, 7, 4, 167, 0, 4, 3, 172]
abbrev dktX8_isMarked_1 : List UInt8 := dkwX8_isMarked_1 ++ []
def dkwX8_isMarked_0 : List UInt8 := [42, 180, 0, 208, 154, 0, 28, 42, 180, 0, 182, 6, 160, 0, 20, 42, 180, 0, 68, 42, 180, 0, 179, 46]
abbrev dktX8_isMarked_0 : List UInt8 := dkwX8_isMarked_0 ++ dktX8_isMarked_1
theorem dksX8_isMarked_0 : cX8_isMarked.data.toList.drop 0 = dktX8_isMarked_0 := by decide +kernel
theorem dksX8_isMarked_1 : cX8_isMarked.data.toList.drop 24 = dktX8_isMarked_1 := dk_seg dksX8_isMarked_0 24 rfl rfl
theorem dX8_isMarked_0 : decode cX8_isMarked 0 = .ok (.aload_n 0, 1) := dk_42 (dk_at dksX8_isMarked_0 0 rfl rfl)
theorem dX8_isMarked_1 : decode cX8_isMarked 1 = .ok (.getfield 208, 3) := dk_180 0 208 (dk_at dksX8_isMarked_0 1 rfl rfl)
theorem dX8_isMarked_4 : decode cX8_isMarked 4 = .ok (.ifCond .ne 28, 3) := dk_154 0 28 (dk_at dksX8_isMarked_0 4 rfl rfl)
theorem dX8_isMarked_7 : decode cX8_isMarked 7 = .ok (.aload_n 0, 1) := dk_42 (dk_at dksX8_isMarked_0 7 rfl rfl)
theorem dX8_isMarked_8 : decode cX8_isMarked 8 = .ok (.getfield 182, 3) := dk_180 0 182 (dk_at dksX8_isMarked_0 8 rfl rfl)
theorem dX8_isMarked_11 : decode cX8_isMarked 11 = .ok (.iconst 3, 1) := dk_6 (dk_at dksX8_isMarked_0 11 rfl rfl)
theorem dX8_isMarked_12 : decode cX8_isMarked 12 = .ok (.if_icmp .ne 20, 3) := dk_160 0 20 (dk_at dksX8_isMarked_0 12 rfl rfl)
theorem dX8_isMarked_15 : decode cX8_isMarked 15 = .ok (.aload_n 0, 1) := dk_42 (dk_at dksX8_isMarked_0 15 rfl rfl)
theorem dX8_isMarked_16 : decode cX8_isMarked 16 = .ok (.getfield 68, 3) := dk_180 0 68 (dk_at dksX8_isMarked_0 16 rfl rfl)
theorem dX8_isMarked_19 : decode cX8_isMarked 19 = .ok (.aload_n 0, 1) := dk_42 (dk_at dksX8_isMarked_0 19 rfl rfl)
theorem dX8_isMarked_20 : decode cX8_isMarked 20 = .ok (.getfield 179, 3) := dk_180 0 179 (dk_at dksX8_isMarked_0 20 rfl rfl)
theorem dX8_isMarked_23 : decode cX8_isMarked 23 = .ok (.iaload, 1) := dk_46 (dk_at dksX8_isMarked_0 23 rfl rfl)
theorem dX8_isMarked_24 : decode cX8_isMarked 24 = .ok (.iload_n 1, 1) := dk_27 (dk_at dksX8_isMarked_1 0 rfl rfl)
theorem dX8_isMarked_25 : decode cX8_isMarked 25 = .ok (.if_icmp .ne 7, 3) := dk_160 0 7 (dk_at dksX8_isMarked_1 1 rfl rfl)
theorem dX8_isMarked_28 : decode cX8_isMarked 28 = .ok (.iconst 1, 1) := dk_4 (dk_at dksX8_isMarked_1 4 rfl rfl)
theorem dX8_isMarked_29 : decode cX8_isMarked 29 = .ok (.goto 4, 3) := dk_167 0 4 (dk_at dksX8_isMarked_1 5 rfl rfl)
theorem dX8_isMarked_32 : decode cX8_isMarked 32 = .ok (.iconst 0, 1) := dk_3 (dk_at dksX8_isMarked_1 8 rfl rfl)
theorem dX8_isMarked_33 : decode cX8_isMarked 33 = .ok (.ireturn, 1) := dk_172 (dk_at dksX8_isMarked_1 9 rfl rfl)
abbrev cX8_readAnd : ByteArray := prog_21_method_25_code
def yX8_readAnd : MethodName := ⟨RX8, "readAnd", "(I)V"⟩
def dkwX8_readAnd_1 : List UInt8 := [42, 16, 230, 182, 0, 242, 167, 255, 231, 177]
abbrev dktX8_readAnd_1 : List UInt8 := dkwX8_readAnd_1 ++ []
def dkwX8_readAnd_0 : List UInt8 := [42, 27, 182, 1, 10, 42, 19, 1, 13, 182, 0, 222, 153, 0, 21, 42, 182, 0, 233, 42, 27, 182, 1, 10]
abbrev dktX8_readAnd_0 : List UInt8 := dkwX8_readAnd_0 ++ dktX8_readAnd_1
theorem dksX8_readAnd_0 : cX8_readAnd.data.toList.drop 0 = dktX8_readAnd_0 := by decide +kernel
theorem dksX8_readAnd_1 : cX8_readAnd.data.toList.drop 24 = dktX8_readAnd_1 := dk_seg dksX8_readAnd_0 24 rfl rfl
theorem dX8_readAnd_0 : decode cX8_readAnd 0 = .ok (.aload_n 0, 1) := dk_42 (dk_at dksX8_readAnd_0 0 rfl rfl)
theorem dX8_readAnd_1 : decode cX8_readAnd 1 = .ok (.iload_n 1, 1) := dk_27 (dk_at dksX8_readAnd_0 1 rfl rfl)
theorem dX8_readAnd_2 : decode cX8_readAnd 2 = .ok (.invokevirtual 266, 3) := dk_182 1 10 (dk_at dksX8_readAnd_0 2 rfl rfl)
theorem dX8_readAnd_5 : decode cX8_readAnd 5 = .ok (.aload_n 0, 1) := dk_42 (dk_at dksX8_readAnd_0 5 rfl rfl)
theorem dX8_readAnd_6 : decode cX8_readAnd 6 = .ok (.ldc_w 269, 3) := dk_19 1 13 (dk_at dksX8_readAnd_0 6 rfl rfl)
theorem dX8_readAnd_9 : decode cX8_readAnd 9 = .ok (.invokevirtual 222, 3) := dk_182 0 222 (dk_at dksX8_readAnd_0 9 rfl rfl)
theorem dX8_readAnd_12 : decode cX8_readAnd 12 = .ok (.ifCond .eq 21, 3) := dk_153 0 21 (dk_at dksX8_readAnd_0 12 rfl rfl)
theorem dX8_readAnd_15 : decode cX8_readAnd 15 = .ok (.aload_n 0, 1) := dk_42 (dk_at dksX8_readAnd_0 15 rfl rfl)
theorem dX8_readAnd_16 : decode cX8_readAnd 16 = .ok (.invokevirtual 233, 3) := dk_182 0 233 (dk_at dksX8_readAnd_0 16 rfl rfl)
theorem dX8_readAnd_19 : decode cX8_readAnd 19 = .ok (.aload_n 0, 1) := dk_42 (dk_at dksX8_readAnd_0 19 rfl rfl)
theorem dX8_readAnd_20 : decode cX8_readAnd 20 = .ok (.iload_n 1, 1) := dk_27 (dk_at dksX8_readAnd_0 20 rfl rfl)
theorem dX8_readAnd_21 : decode cX8_readAnd 21 = .ok (.invokevirtual 266, 3) := dk_182 1 10 (dk_at dksX8_readAnd_0 21 rfl rfl)
theorem dX8_readAnd_24 : decode cX8_readAnd 24 = .ok (.aload_n 0, 1) := dk_42 (dk_at dksX8_readAnd_1 0 rfl rfl)
theorem dX8_readAnd_25 : decode cX8_readAnd 25 = .ok (.bipush (-26), 2) := dk_16 230 (dk_at dksX8_readAnd_1 1 rfl rfl)
theorem dX8_readAnd_27 : decode cX8_readAnd 27 = .ok (.invokevirtual 242, 3) := dk_182 0 242 (dk_at dksX8_readAnd_1 3 rfl rfl)
theorem dX8_readAnd_30 : decode cX8_readAnd 30 = .ok (.goto (-25), 3) := dk_167 255 231 (dk_at dksX8_readAnd_1 6 rfl rfl)
theorem dX8_readAnd_33 : decode cX8_readAnd 33 = .ok (.return_, 1) := dk_177 (dk_at dksX8_readAnd_1 9 rfl rfl)
abbrev cX8_readNot : ByteArray := prog_21_method_24_code
def yX8_readNot : MethodName := ⟨RX8, "readNot", "(I)V"⟩
def dkwX8_readNot_4 : List UInt8 := [182, 0, 242, 3, 62, 29, 28, 162, 0, 15, 42, 16, 228, 182, 0, 242, 132, 3, 1, 167, 255, 242, 177]
abbrev dktX8_readNot_4 : List UInt8 := dkwX8_readNot_4 ++ []
def dkwX8_readNot_3 : List UInt8 := [153, 0, 8, 16, 232, 167, 0, 5, 16, 231, 62, 42, 182, 0, 233, 42, 27, 182, 1, 7, 42, 29]
abbrev dktX8_readNot_3 : List UInt8 := dkwX8_readNot_3 ++ dktX8_readNot_4
def dkwX8_readNot_2 : List UInt8 := [16, 60, 182, 0, 226, 154, 0, 12, 42, 16, 61, 182, 0, 226, 153, 0, 34, 42, 16, 60, 182, 0, 226]
abbrev dktX8_readNot_2 : List UInt8 := dkwX8_readNot_2 ++ dktX8_readNot_3
def dkwX8_readNot_1 : List UInt8 := [132, 2, 1, 42, 180, 0, 208, 154, 255, 228, 42, 182, 0, 233, 167, 255, 221, 42, 27, 182, 1, 7, 42]
abbrev dktX8_readNot_1 : List UInt8 := dkwX8_readNot_1 ++ dktX8_readNot_2
def dkwX8_readNot_0 : List UInt8 := [3, 61, 42, 19, 1, 5, 182, 0, 222, 153, 0, 31, 28, 16, 6, 160, 0, 8, 42, 5, 182, 0, 229]
abbrev dktX8_readNot_0 : List UInt8 := dkwX8_readNot_0 ++ dktX8_readNot_1
theorem dksX8_readNot_0 : cX8_readNot.data.toList.drop 0 = dktX8_readNot_0 := by decide +kernel
theorem dksX8_readNot_1 : cX8_readNot.data.toList.drop 23 = dktX8_readNot_1 := dk_seg dksX8_readNot_0 23 rfl rfl
theorem dksX8_readNot_2 : cX8_readNot.data.toList.drop 46 = dktX8_readNot_2 := dk_seg dksX8_readNot_1 23 rfl rfl
theorem dksX8_readNot_3 : cX8_readNot.data.toList.drop 69 = dktX8_readNot_3 := dk_seg dksX8_readNot_2 23 rfl rfl
theorem dksX8_readNot_4 : cX8_readNot.data.toList.drop 91 = dktX8_readNot_4 := dk_seg dksX8_readNot_3 22 rfl rfl
theorem dX8_readNot_0 : decode cX8_readNot 0 = .ok (.iconst 0, 1) := dk_3 (dk_at dksX8_readNot_0 0 rfl rfl)
theorem dX8_readNot_1 : decode cX8_readNot 1 = .ok (.istore_n 2, 1) := dk_61 (dk_at dksX8_readNot_0 1 rfl rfl)
theorem dX8_readNot_2 : decode cX8_readNot 2 = .ok (.aload_n 0, 1) := dk_42 (dk_at dksX8_readNot_0 2 rfl rfl)
theorem dX8_readNot_3 : decode cX8_readNot 3 = .ok (.ldc_w 261, 3) := dk_19 1 5 (dk_at dksX8_readNot_0 3 rfl rfl)
theorem dX8_readNot_6 : decode cX8_readNot 6 = .ok (.invokevirtual 222, 3) := dk_182 0 222 (dk_at dksX8_readNot_0 6 rfl rfl)
theorem dX8_readNot_9 : decode cX8_readNot 9 = .ok (.ifCond .eq 31, 3) := dk_153 0 31 (dk_at dksX8_readNot_0 9 rfl rfl)
theorem dX8_readNot_12 : decode cX8_readNot 12 = .ok (.iload_n 2, 1) := dk_28 (dk_at dksX8_readNot_0 12 rfl rfl)
theorem dX8_readNot_13 : decode cX8_readNot 13 = .ok (.bipush 6, 2) := dk_16 6 (dk_at dksX8_readNot_0 13 rfl rfl)
theorem dX8_readNot_15 : decode cX8_readNot 15 = .ok (.if_icmp .ne 8, 3) := dk_160 0 8 (dk_at dksX8_readNot_0 15 rfl rfl)
theorem dX8_readNot_18 : decode cX8_readNot 18 = .ok (.aload_n 0, 1) := dk_42 (dk_at dksX8_readNot_0 18 rfl rfl)
theorem dX8_readNot_19 : decode cX8_readNot 19 = .ok (.iconst 2, 1) := dk_5 (dk_at dksX8_readNot_0 19 rfl rfl)
theorem dX8_readNot_20 : decode cX8_readNot 20 = .ok (.invokevirtual 229, 3) := dk_182 0 229 (dk_at dksX8_readNot_0 20 rfl rfl)
theorem dX8_readNot_23 : decode cX8_readNot 23 = .ok (.iinc 2 1, 3) := dk_132 2 1 (dk_at dksX8_readNot_1 0 rfl rfl)
theorem dX8_readNot_26 : decode cX8_readNot 26 = .ok (.aload_n 0, 1) := dk_42 (dk_at dksX8_readNot_1 3 rfl rfl)
theorem dX8_readNot_27 : decode cX8_readNot 27 = .ok (.getfield 208, 3) := dk_180 0 208 (dk_at dksX8_readNot_1 4 rfl rfl)
theorem dX8_readNot_30 : decode cX8_readNot 30 = .ok (.ifCond .ne (-28), 3) := dk_154 255 228 (dk_at dksX8_readNot_1 7 rfl rfl)
theorem dX8_readNot_33 : decode cX8_readNot 33 = .ok (.aload_n 0, 1) := dk_42 (dk_at dksX8_readNot_1 10 rfl rfl)
theorem dX8_readNot_34 : decode cX8_readNot 34 = .ok (.invokevirtual 233, 3) := dk_182 0 233 (dk_at dksX8_readNot_1 11 rfl rfl)
theorem dX8_readNot_37 : decode cX8_readNot 37 = .ok (.goto (-35), 3) := dk_167 255 221 (dk_at dksX8_readNot_1 14 rfl rfl)
theorem dX8_readNot_40 : decode cX8_readNot 40 = .ok (.aload_n 0, 1) := dk_42 (dk_at dksX8_readNot_1 17 rfl rfl)
theorem dX8_readNot_41 : decode cX8_readNot 41 = .ok (.iload_n 1, 1) := dk_27 (dk_at dksX8_readNot_1 18 rfl rfl)
theorem dX8_readNot_42 : decode cX8_readNot 42 = .ok (.invokevirtual 263, 3) := dk_182 1 7 (dk_at dksX8_readNot_1 19 rfl rfl)
theorem dX8_readNot_45 : decode cX8_readNot 45 = .ok (.aload_n 0, 1) := dk_42 (dk_at dksX8_readNot_1 22 rfl rfl)
theorem dX8_readNot_46 : decode cX8_readNot 46 = .ok (.bipush 60, 2) := dk_16 60 (dk_at dksX8_readNot_2 0 rfl rfl)
theorem dX8_readNot_48 : decode cX8_readNot 48 = .ok (.invokevirtual 226, 3) := dk_182 0 226 (dk_at dksX8_readNot_2 2 rfl rfl)
theorem dX8_readNot_51 : decode cX8_readNot 51 = .ok (.ifCond .ne 12, 3) := dk_154 0 12 (dk_at dksX8_readNot_2 5 rfl rfl)
theorem dX8_readNot_54 : decode cX8_readNot 54 = .ok (.aload_n 0, 1) := dk_42 (dk_at dksX8_readNot_2 8 rfl rfl)
theorem dX8_readNot_55 : decode cX8_readNot 55 = .ok (.bipush 61, 2) := dk_16 61 (dk_at dksX8_readNot_2 9 rfl rfl)
theorem dX8_readNot_57 : decode cX8_readNot 57 = .ok (.invokevirtual 226, 3) := dk_182 0 226 (dk_at dksX8_readNot_2 11 rfl rfl)
theorem dX8_readNot_60 : decode cX8_readNot 60 = .ok (.ifCond .eq 34, 3) := dk_153 0 34 (dk_at dksX8_readNot_2 14 rfl rfl)
theorem dX8_readNot_63 : decode cX8_readNot 63 = .ok (.aload_n 0, 1) := dk_42 (dk_at dksX8_readNot_2 17 rfl rfl)
theorem dX8_readNot_64 : decode cX8_readNot 64 = .ok (.bipush 60, 2) := dk_16 60 (dk_at dksX8_readNot_2 18 rfl rfl)
theorem dX8_readNot_66 : decode cX8_readNot 66 = .ok (.invokevirtual 226, 3) := dk_182 0 226 (dk_at dksX8_readNot_2 20 rfl rfl)
theorem dX8_readNot_69 : decode cX8_readNot 69 = .ok (.ifCond .eq 8, 3) := dk_153 0 8 (dk_at dksX8_readNot_3 0 rfl rfl)
theorem dX8_readNot_72 : decode cX8_readNot 72 = .ok (.bipush (-24), 2) := dk_16 232 (dk_at dksX8_readNot_3 3 rfl rfl)
theorem dX8_readNot_74 : decode cX8_readNot 74 = .ok (.goto 5, 3) := dk_167 0 5 (dk_at dksX8_readNot_3 5 rfl rfl)
theorem dX8_readNot_77 : decode cX8_readNot 77 = .ok (.bipush (-25), 2) := dk_16 231 (dk_at dksX8_readNot_3 8 rfl rfl)
theorem dX8_readNot_79 : decode cX8_readNot 79 = .ok (.istore_n 3, 1) := dk_62 (dk_at dksX8_readNot_3 10 rfl rfl)
theorem dX8_readNot_80 : decode cX8_readNot 80 = .ok (.aload_n 0, 1) := dk_42 (dk_at dksX8_readNot_3 11 rfl rfl)
theorem dX8_readNot_81 : decode cX8_readNot 81 = .ok (.invokevirtual 233, 3) := dk_182 0 233 (dk_at dksX8_readNot_3 12 rfl rfl)
theorem dX8_readNot_84 : decode cX8_readNot 84 = .ok (.aload_n 0, 1) := dk_42 (dk_at dksX8_readNot_3 15 rfl rfl)
theorem dX8_readNot_85 : decode cX8_readNot 85 = .ok (.iload_n 1, 1) := dk_27 (dk_at dksX8_readNot_3 16 rfl rfl)
theorem dX8_readNot_86 : decode cX8_readNot 86 = .ok (.invokevirtual 263, 3) := dk_182 1 7 (dk_at dksX8_readNot_3 17 rfl rfl)
theorem dX8_readNot_89 : decode cX8_readNot 89 = .ok (.aload_n 0, 1) := dk_42 (dk_at dksX8_readNot_3 20 rfl rfl)
theorem dX8_readNot_90 : decode cX8_readNot 90 = .ok (.iload_n 3, 1) := dk_29 (dk_at dksX8_readNot_3 21 rfl rfl)
theorem dX8_readNot_91 : decode cX8_readNot 91 = .ok (.invokevirtual 242, 3) := dk_182 0 242 (dk_at dksX8_readNot_4 0 rfl rfl)
theorem dX8_readNot_94 : decode cX8_readNot 94 = .ok (.iconst 0, 1) := dk_3 (dk_at dksX8_readNot_4 3 rfl rfl)
theorem dX8_readNot_95 : decode cX8_readNot 95 = .ok (.istore_n 3, 1) := dk_62 (dk_at dksX8_readNot_4 4 rfl rfl)
theorem dX8_readNot_96 : decode cX8_readNot 96 = .ok (.iload_n 3, 1) := dk_29 (dk_at dksX8_readNot_4 5 rfl rfl)
theorem dX8_readNot_97 : decode cX8_readNot 97 = .ok (.iload_n 2, 1) := dk_28 (dk_at dksX8_readNot_4 6 rfl rfl)
theorem dX8_readNot_98 : decode cX8_readNot 98 = .ok (.if_icmp .ge 15, 3) := dk_162 0 15 (dk_at dksX8_readNot_4 7 rfl rfl)
theorem dX8_readNot_101 : decode cX8_readNot 101 = .ok (.aload_n 0, 1) := dk_42 (dk_at dksX8_readNot_4 10 rfl rfl)
theorem dX8_readNot_102 : decode cX8_readNot 102 = .ok (.bipush (-28), 2) := dk_16 228 (dk_at dksX8_readNot_4 11 rfl rfl)
theorem dX8_readNot_104 : decode cX8_readNot 104 = .ok (.invokevirtual 242, 3) := dk_182 0 242 (dk_at dksX8_readNot_4 13 rfl rfl)
theorem dX8_readNot_107 : decode cX8_readNot 107 = .ok (.iinc 3 1, 3) := dk_132 3 1 (dk_at dksX8_readNot_4 16 rfl rfl)
theorem dX8_readNot_110 : decode cX8_readNot 110 = .ok (.goto (-14), 3) := dk_167 255 242 (dk_at dksX8_readNot_4 19 rfl rfl)
theorem dX8_readNot_113 : decode cX8_readNot 113 = .ok (.return_, 1) := dk_177 (dk_at dksX8_readNot_4 22 rfl rfl)
abbrev cX8_readSum : ByteArray := prog_21_method_23_code
def yX8_readSum : MethodName := ⟨RX8, "readSum", "(I)V"⟩
def dkwX8_readSum_2 : List UInt8 := [182, 1, 2, 42, 28, 182, 0, 242, 167, 255, 207, 177]
abbrev dktX8_readSum_2 : List UInt8 := dkwX8_readSum_2 ++ []
def dkwX8_readSum_1 : List UInt8 := [16, 43, 182, 0, 226, 153, 0, 8, 16, 236, 167, 0, 5, 16, 235, 61, 42, 182, 0, 233, 42, 27]
abbrev dktX8_readSum_1 : List UInt8 := dkwX8_readSum_1 ++ dktX8_readSum_2
def dkwX8_readSum_0 : List UInt8 := [42, 27, 182, 1, 2, 42, 16, 43, 182, 0, 226, 154, 0, 12, 42, 16, 45, 182, 0, 226, 153, 0, 37, 42]
abbrev dktX8_readSum_0 : List UInt8 := dkwX8_readSum_0 ++ dktX8_readSum_1
theorem dksX8_readSum_0 : cX8_readSum.data.toList.drop 0 = dktX8_readSum_0 := by decide +kernel
theorem dksX8_readSum_1 : cX8_readSum.data.toList.drop 24 = dktX8_readSum_1 := dk_seg dksX8_readSum_0 24 rfl rfl
theorem dksX8_readSum_2 : cX8_readSum.data.toList.drop 46 = dktX8_readSum_2 := dk_seg dksX8_readSum_1 22 rfl rfl
theorem dX8_readSum_0 : decode cX8_readSum 0 = .ok (.aload_n 0, 1) := dk_42 (dk_at dksX8_readSum_0 0 rfl rfl)
theorem dX8_readSum_1 : decode cX8_readSum 1 = .ok (.iload_n 1, 1) := dk_27 (dk_at dksX8_readSum_0 1 rfl rfl)
theorem dX8_readSum_2 : decode cX8_readSum 2 = .ok (.invokevirtual 258, 3) := dk_182 1 2 (dk_at dksX8_readSum_0 2 rfl rfl)
theorem dX8_readSum_5 : decode cX8_readSum 5 = .ok (.aload_n 0, 1) := dk_42 (dk_at dksX8_readSum_0 5 rfl rfl)
theorem dX8_readSum_6 : decode cX8_readSum 6 = .ok (.bipush 43, 2) := dk_16 43 (dk_at dksX8_readSum_0 6 rfl rfl)
theorem dX8_readSum_8 : decode cX8_readSum 8 = .ok (.invokevirtual 226, 3) := dk_182 0 226 (dk_at dksX8_readSum_0 8 rfl rfl)
theorem dX8_readSum_11 : decode cX8_readSum 11 = .ok (.ifCond .ne 12, 3) := dk_154 0 12 (dk_at dksX8_readSum_0 11 rfl rfl)
theorem dX8_readSum_14 : decode cX8_readSum 14 = .ok (.aload_n 0, 1) := dk_42 (dk_at dksX8_readSum_0 14 rfl rfl)
theorem dX8_readSum_15 : decode cX8_readSum 15 = .ok (.bipush 45, 2) := dk_16 45 (dk_at dksX8_readSum_0 15 rfl rfl)
theorem dX8_readSum_17 : decode cX8_readSum 17 = .ok (.invokevirtual 226, 3) := dk_182 0 226 (dk_at dksX8_readSum_0 17 rfl rfl)
theorem dX8_readSum_20 : decode cX8_readSum 20 = .ok (.ifCond .eq 37, 3) := dk_153 0 37 (dk_at dksX8_readSum_0 20 rfl rfl)
theorem dX8_readSum_23 : decode cX8_readSum 23 = .ok (.aload_n 0, 1) := dk_42 (dk_at dksX8_readSum_0 23 rfl rfl)
theorem dX8_readSum_24 : decode cX8_readSum 24 = .ok (.bipush 43, 2) := dk_16 43 (dk_at dksX8_readSum_1 0 rfl rfl)
theorem dX8_readSum_26 : decode cX8_readSum 26 = .ok (.invokevirtual 226, 3) := dk_182 0 226 (dk_at dksX8_readSum_1 2 rfl rfl)
theorem dX8_readSum_29 : decode cX8_readSum 29 = .ok (.ifCond .eq 8, 3) := dk_153 0 8 (dk_at dksX8_readSum_1 5 rfl rfl)
theorem dX8_readSum_32 : decode cX8_readSum 32 = .ok (.bipush (-20), 2) := dk_16 236 (dk_at dksX8_readSum_1 8 rfl rfl)
theorem dX8_readSum_34 : decode cX8_readSum 34 = .ok (.goto 5, 3) := dk_167 0 5 (dk_at dksX8_readSum_1 10 rfl rfl)
theorem dX8_readSum_37 : decode cX8_readSum 37 = .ok (.bipush (-21), 2) := dk_16 235 (dk_at dksX8_readSum_1 13 rfl rfl)
theorem dX8_readSum_39 : decode cX8_readSum 39 = .ok (.istore_n 2, 1) := dk_61 (dk_at dksX8_readSum_1 15 rfl rfl)
theorem dX8_readSum_40 : decode cX8_readSum 40 = .ok (.aload_n 0, 1) := dk_42 (dk_at dksX8_readSum_1 16 rfl rfl)
theorem dX8_readSum_41 : decode cX8_readSum 41 = .ok (.invokevirtual 233, 3) := dk_182 0 233 (dk_at dksX8_readSum_1 17 rfl rfl)
theorem dX8_readSum_44 : decode cX8_readSum 44 = .ok (.aload_n 0, 1) := dk_42 (dk_at dksX8_readSum_1 20 rfl rfl)
theorem dX8_readSum_45 : decode cX8_readSum 45 = .ok (.iload_n 1, 1) := dk_27 (dk_at dksX8_readSum_1 21 rfl rfl)
theorem dX8_readSum_46 : decode cX8_readSum 46 = .ok (.invokevirtual 258, 3) := dk_182 1 2 (dk_at dksX8_readSum_2 0 rfl rfl)
theorem dX8_readSum_49 : decode cX8_readSum 49 = .ok (.aload_n 0, 1) := dk_42 (dk_at dksX8_readSum_2 3 rfl rfl)
theorem dX8_readSum_50 : decode cX8_readSum 50 = .ok (.iload_n 2, 1) := dk_28 (dk_at dksX8_readSum_2 4 rfl rfl)
theorem dX8_readSum_51 : decode cX8_readSum 51 = .ok (.invokevirtual 242, 3) := dk_182 0 242 (dk_at dksX8_readSum_2 5 rfl rfl)
theorem dX8_readSum_54 : decode cX8_readSum 54 = .ok (.goto (-49), 3) := dk_167 255 207 (dk_at dksX8_readSum_2 8 rfl rfl)
theorem dX8_readSum_57 : decode cX8_readSum 57 = .ok (.return_, 1) := dk_177 (dk_at dksX8_readSum_2 11 rfl rfl)
abbrev cX8_readProduct : ByteArray := prog_21_method_22_code
def yX8_readProduct : MethodName := ⟨RX8, "readProduct", "(I)V"⟩
def dkwX8_readProduct_2 : List UInt8 := [182, 0, 255, 42, 28, 182, 0, 242, 167, 255, 207, 177]
abbrev dktX8_readProduct_2 : List UInt8 := dkwX8_readProduct_2 ++ []
def dkwX8_readProduct_1 : List UInt8 := [16, 42, 182, 0, 226, 153, 0, 8, 16, 234, 167, 0, 5, 16, 233, 61, 42, 182, 0, 233, 42, 27]
abbrev dktX8_readProduct_1 : List UInt8 := dkwX8_readProduct_1 ++ dktX8_readProduct_2
def dkwX8_readProduct_0 : List UInt8 := [42, 27, 182, 0, 255, 42, 16, 42, 182, 0, 226, 154, 0, 12, 42, 16, 47, 182, 0, 226, 153, 0, 37, 42]
abbrev dktX8_readProduct_0 : List UInt8 := dkwX8_readProduct_0 ++ dktX8_readProduct_1
theorem dksX8_readProduct_0 : cX8_readProduct.data.toList.drop 0 = dktX8_readProduct_0 := by decide +kernel
theorem dksX8_readProduct_1 : cX8_readProduct.data.toList.drop 24 = dktX8_readProduct_1 := dk_seg dksX8_readProduct_0 24 rfl rfl
theorem dksX8_readProduct_2 : cX8_readProduct.data.toList.drop 46 = dktX8_readProduct_2 := dk_seg dksX8_readProduct_1 22 rfl rfl
theorem dX8_readProduct_0 : decode cX8_readProduct 0 = .ok (.aload_n 0, 1) := dk_42 (dk_at dksX8_readProduct_0 0 rfl rfl)
theorem dX8_readProduct_1 : decode cX8_readProduct 1 = .ok (.iload_n 1, 1) := dk_27 (dk_at dksX8_readProduct_0 1 rfl rfl)
theorem dX8_readProduct_2 : decode cX8_readProduct 2 = .ok (.invokevirtual 255, 3) := dk_182 0 255 (dk_at dksX8_readProduct_0 2 rfl rfl)
theorem dX8_readProduct_5 : decode cX8_readProduct 5 = .ok (.aload_n 0, 1) := dk_42 (dk_at dksX8_readProduct_0 5 rfl rfl)
theorem dX8_readProduct_6 : decode cX8_readProduct 6 = .ok (.bipush 42, 2) := dk_16 42 (dk_at dksX8_readProduct_0 6 rfl rfl)
theorem dX8_readProduct_8 : decode cX8_readProduct 8 = .ok (.invokevirtual 226, 3) := dk_182 0 226 (dk_at dksX8_readProduct_0 8 rfl rfl)
theorem dX8_readProduct_11 : decode cX8_readProduct 11 = .ok (.ifCond .ne 12, 3) := dk_154 0 12 (dk_at dksX8_readProduct_0 11 rfl rfl)
theorem dX8_readProduct_14 : decode cX8_readProduct 14 = .ok (.aload_n 0, 1) := dk_42 (dk_at dksX8_readProduct_0 14 rfl rfl)
theorem dX8_readProduct_15 : decode cX8_readProduct 15 = .ok (.bipush 47, 2) := dk_16 47 (dk_at dksX8_readProduct_0 15 rfl rfl)
theorem dX8_readProduct_17 : decode cX8_readProduct 17 = .ok (.invokevirtual 226, 3) := dk_182 0 226 (dk_at dksX8_readProduct_0 17 rfl rfl)
theorem dX8_readProduct_20 : decode cX8_readProduct 20 = .ok (.ifCond .eq 37, 3) := dk_153 0 37 (dk_at dksX8_readProduct_0 20 rfl rfl)
theorem dX8_readProduct_23 : decode cX8_readProduct 23 = .ok (.aload_n 0, 1) := dk_42 (dk_at dksX8_readProduct_0 23 rfl rfl)
theorem dX8_readProduct_24 : decode cX8_readProduct 24 = .ok (.bipush 42, 2) := dk_16 42 (dk_at dksX8_readProduct_1 0 rfl rfl)
theorem dX8_readProduct_26 : decode cX8_readProduct 26 = .ok (.invokevirtual 226, 3) := dk_182 0 226 (dk_at dksX8_readProduct_1 2 rfl rfl)
theorem dX8_readProduct_29 : decode cX8_readProduct 29 = .ok (.ifCond .eq 8, 3) := dk_153 0 8 (dk_at dksX8_readProduct_1 5 rfl rfl)
theorem dX8_readProduct_32 : decode cX8_readProduct 32 = .ok (.bipush (-22), 2) := dk_16 234 (dk_at dksX8_readProduct_1 8 rfl rfl)
theorem dX8_readProduct_34 : decode cX8_readProduct 34 = .ok (.goto 5, 3) := dk_167 0 5 (dk_at dksX8_readProduct_1 10 rfl rfl)
theorem dX8_readProduct_37 : decode cX8_readProduct 37 = .ok (.bipush (-23), 2) := dk_16 233 (dk_at dksX8_readProduct_1 13 rfl rfl)
theorem dX8_readProduct_39 : decode cX8_readProduct 39 = .ok (.istore_n 2, 1) := dk_61 (dk_at dksX8_readProduct_1 15 rfl rfl)
theorem dX8_readProduct_40 : decode cX8_readProduct 40 = .ok (.aload_n 0, 1) := dk_42 (dk_at dksX8_readProduct_1 16 rfl rfl)
theorem dX8_readProduct_41 : decode cX8_readProduct 41 = .ok (.invokevirtual 233, 3) := dk_182 0 233 (dk_at dksX8_readProduct_1 17 rfl rfl)
theorem dX8_readProduct_44 : decode cX8_readProduct 44 = .ok (.aload_n 0, 1) := dk_42 (dk_at dksX8_readProduct_1 20 rfl rfl)
theorem dX8_readProduct_45 : decode cX8_readProduct 45 = .ok (.iload_n 1, 1) := dk_27 (dk_at dksX8_readProduct_1 21 rfl rfl)
theorem dX8_readProduct_46 : decode cX8_readProduct 46 = .ok (.invokevirtual 255, 3) := dk_182 0 255 (dk_at dksX8_readProduct_2 0 rfl rfl)
theorem dX8_readProduct_49 : decode cX8_readProduct 49 = .ok (.aload_n 0, 1) := dk_42 (dk_at dksX8_readProduct_2 3 rfl rfl)
theorem dX8_readProduct_50 : decode cX8_readProduct 50 = .ok (.iload_n 2, 1) := dk_28 (dk_at dksX8_readProduct_2 4 rfl rfl)
theorem dX8_readProduct_51 : decode cX8_readProduct 51 = .ok (.invokevirtual 242, 3) := dk_182 0 242 (dk_at dksX8_readProduct_2 5 rfl rfl)
theorem dX8_readProduct_54 : decode cX8_readProduct 54 = .ok (.goto (-49), 3) := dk_167 255 207 (dk_at dksX8_readProduct_2 8 rfl rfl)
theorem dX8_readProduct_57 : decode cX8_readProduct 57 = .ok (.return_, 1) := dk_177 (dk_at dksX8_readProduct_2 11 rfl rfl)
abbrev cX8_readPart : ByteArray := prog_21_method_21_code
def yX8_readPart : MethodName := ⟨RX8, "readPart", "(I)V"⟩
def dkwX8_readPart_4 : List UInt8 := [177]
abbrev dktX8_readPart_4 : List UInt8 := dkwX8_readPart_4 ++ []
def dkwX8_readPart_3 : List UInt8 := [42, 182, 0, 233, 177, 42, 16, 40, 182, 0, 249, 42, 27, 4, 96, 182, 0, 252, 42, 16, 41, 182, 0, 249]
abbrev dktX8_readPart_3 : List UInt8 := dkwX8_readPart_3 ++ dktX8_readPart_4
def dkwX8_readPart_2 : List UInt8 := [28, 2, 160, 0, 8, 42, 6, 182, 0, 229, 42, 2, 28, 100, 182, 0, 242, 42, 180, 0, 208, 154, 0, 7]
abbrev dktX8_readPart_2 : List UInt8 := dkwX8_readPart_2 ++ dktX8_readPart_3
def dkwX8_readPart_1 : List UInt8 := [182, 0, 239, 182, 0, 242, 177, 42, 180, 0, 182, 4, 160, 0, 41, 42, 42, 180, 0, 35, 182, 0, 245, 61]
abbrev dktX8_readPart_1 : List UInt8 := dkwX8_readPart_1 ++ dktX8_readPart_2
def dkwX8_readPart_0 : List UInt8 := [42, 180, 0, 208, 153, 0, 4, 177, 42, 180, 0, 182, 5, 160, 0, 16, 42, 42, 3, 17, 39, 15]
abbrev dktX8_readPart_0 : List UInt8 := dkwX8_readPart_0 ++ dktX8_readPart_1
theorem dksX8_readPart_0 : cX8_readPart.data.toList.drop 0 = dktX8_readPart_0 := by decide +kernel
theorem dksX8_readPart_1 : cX8_readPart.data.toList.drop 22 = dktX8_readPart_1 := dk_seg dksX8_readPart_0 22 rfl rfl
theorem dksX8_readPart_2 : cX8_readPart.data.toList.drop 46 = dktX8_readPart_2 := dk_seg dksX8_readPart_1 24 rfl rfl
theorem dksX8_readPart_3 : cX8_readPart.data.toList.drop 70 = dktX8_readPart_3 := dk_seg dksX8_readPart_2 24 rfl rfl
theorem dksX8_readPart_4 : cX8_readPart.data.toList.drop 94 = dktX8_readPart_4 := dk_seg dksX8_readPart_3 24 rfl rfl
theorem dX8_readPart_0 : decode cX8_readPart 0 = .ok (.aload_n 0, 1) := dk_42 (dk_at dksX8_readPart_0 0 rfl rfl)
theorem dX8_readPart_1 : decode cX8_readPart 1 = .ok (.getfield 208, 3) := dk_180 0 208 (dk_at dksX8_readPart_0 1 rfl rfl)
theorem dX8_readPart_4 : decode cX8_readPart 4 = .ok (.ifCond .eq 4, 3) := dk_153 0 4 (dk_at dksX8_readPart_0 4 rfl rfl)
theorem dX8_readPart_7 : decode cX8_readPart 7 = .ok (.return_, 1) := dk_177 (dk_at dksX8_readPart_0 7 rfl rfl)
theorem dX8_readPart_8 : decode cX8_readPart 8 = .ok (.aload_n 0, 1) := dk_42 (dk_at dksX8_readPart_0 8 rfl rfl)
theorem dX8_readPart_9 : decode cX8_readPart 9 = .ok (.getfield 182, 3) := dk_180 0 182 (dk_at dksX8_readPart_0 9 rfl rfl)
theorem dX8_readPart_12 : decode cX8_readPart 12 = .ok (.iconst 2, 1) := dk_5 (dk_at dksX8_readPart_0 12 rfl rfl)
theorem dX8_readPart_13 : decode cX8_readPart 13 = .ok (.if_icmp .ne 16, 3) := dk_160 0 16 (dk_at dksX8_readPart_0 13 rfl rfl)
theorem dX8_readPart_16 : decode cX8_readPart 16 = .ok (.aload_n 0, 1) := dk_42 (dk_at dksX8_readPart_0 16 rfl rfl)
theorem dX8_readPart_17 : decode cX8_readPart 17 = .ok (.aload_n 0, 1) := dk_42 (dk_at dksX8_readPart_0 17 rfl rfl)
theorem dX8_readPart_18 : decode cX8_readPart 18 = .ok (.iconst 0, 1) := dk_3 (dk_at dksX8_readPart_0 18 rfl rfl)
theorem dX8_readPart_19 : decode cX8_readPart 19 = .ok (.sipush 9999, 3) := dk_17 39 15 (dk_at dksX8_readPart_0 19 rfl rfl)
theorem dX8_readPart_22 : decode cX8_readPart 22 = .ok (.invokevirtual 239, 3) := dk_182 0 239 (dk_at dksX8_readPart_1 0 rfl rfl)
theorem dX8_readPart_25 : decode cX8_readPart 25 = .ok (.invokevirtual 242, 3) := dk_182 0 242 (dk_at dksX8_readPart_1 3 rfl rfl)
theorem dX8_readPart_28 : decode cX8_readPart 28 = .ok (.return_, 1) := dk_177 (dk_at dksX8_readPart_1 6 rfl rfl)
theorem dX8_readPart_29 : decode cX8_readPart 29 = .ok (.aload_n 0, 1) := dk_42 (dk_at dksX8_readPart_1 7 rfl rfl)
theorem dX8_readPart_30 : decode cX8_readPart 30 = .ok (.getfield 182, 3) := dk_180 0 182 (dk_at dksX8_readPart_1 8 rfl rfl)
theorem dX8_readPart_33 : decode cX8_readPart 33 = .ok (.iconst 1, 1) := dk_4 (dk_at dksX8_readPart_1 11 rfl rfl)
theorem dX8_readPart_34 : decode cX8_readPart 34 = .ok (.if_icmp .ne 41, 3) := dk_160 0 41 (dk_at dksX8_readPart_1 12 rfl rfl)
theorem dX8_readPart_37 : decode cX8_readPart 37 = .ok (.aload_n 0, 1) := dk_42 (dk_at dksX8_readPart_1 15 rfl rfl)
theorem dX8_readPart_38 : decode cX8_readPart 38 = .ok (.aload_n 0, 1) := dk_42 (dk_at dksX8_readPart_1 16 rfl rfl)
theorem dX8_readPart_39 : decode cX8_readPart 39 = .ok (.getfield 35, 3) := dk_180 0 35 (dk_at dksX8_readPart_1 17 rfl rfl)
theorem dX8_readPart_42 : decode cX8_readPart 42 = .ok (.invokevirtual 245, 3) := dk_182 0 245 (dk_at dksX8_readPart_1 20 rfl rfl)
theorem dX8_readPart_45 : decode cX8_readPart 45 = .ok (.istore_n 2, 1) := dk_61 (dk_at dksX8_readPart_1 23 rfl rfl)
theorem dX8_readPart_46 : decode cX8_readPart 46 = .ok (.iload_n 2, 1) := dk_28 (dk_at dksX8_readPart_2 0 rfl rfl)
theorem dX8_readPart_47 : decode cX8_readPart 47 = .ok (.iconst (-1), 1) := dk_2 (dk_at dksX8_readPart_2 1 rfl rfl)
theorem dX8_readPart_48 : decode cX8_readPart 48 = .ok (.if_icmp .ne 8, 3) := dk_160 0 8 (dk_at dksX8_readPart_2 2 rfl rfl)
theorem dX8_readPart_51 : decode cX8_readPart 51 = .ok (.aload_n 0, 1) := dk_42 (dk_at dksX8_readPart_2 5 rfl rfl)
theorem dX8_readPart_52 : decode cX8_readPart 52 = .ok (.iconst 3, 1) := dk_6 (dk_at dksX8_readPart_2 6 rfl rfl)
theorem dX8_readPart_53 : decode cX8_readPart 53 = .ok (.invokevirtual 229, 3) := dk_182 0 229 (dk_at dksX8_readPart_2 7 rfl rfl)
theorem dX8_readPart_56 : decode cX8_readPart 56 = .ok (.aload_n 0, 1) := dk_42 (dk_at dksX8_readPart_2 10 rfl rfl)
theorem dX8_readPart_57 : decode cX8_readPart 57 = .ok (.iconst (-1), 1) := dk_2 (dk_at dksX8_readPart_2 11 rfl rfl)
theorem dX8_readPart_58 : decode cX8_readPart 58 = .ok (.iload_n 2, 1) := dk_28 (dk_at dksX8_readPart_2 12 rfl rfl)
theorem dX8_readPart_59 : decode cX8_readPart 59 = .ok (.isub, 1) := dk_100 (dk_at dksX8_readPart_2 13 rfl rfl)
theorem dX8_readPart_60 : decode cX8_readPart 60 = .ok (.invokevirtual 242, 3) := dk_182 0 242 (dk_at dksX8_readPart_2 14 rfl rfl)
theorem dX8_readPart_63 : decode cX8_readPart 63 = .ok (.aload_n 0, 1) := dk_42 (dk_at dksX8_readPart_2 17 rfl rfl)
theorem dX8_readPart_64 : decode cX8_readPart 64 = .ok (.getfield 208, 3) := dk_180 0 208 (dk_at dksX8_readPart_2 18 rfl rfl)
theorem dX8_readPart_67 : decode cX8_readPart 67 = .ok (.ifCond .ne 7, 3) := dk_154 0 7 (dk_at dksX8_readPart_2 21 rfl rfl)
theorem dX8_readPart_70 : decode cX8_readPart 70 = .ok (.aload_n 0, 1) := dk_42 (dk_at dksX8_readPart_3 0 rfl rfl)
theorem dX8_readPart_71 : decode cX8_readPart 71 = .ok (.invokevirtual 233, 3) := dk_182 0 233 (dk_at dksX8_readPart_3 1 rfl rfl)
theorem dX8_readPart_74 : decode cX8_readPart 74 = .ok (.return_, 1) := dk_177 (dk_at dksX8_readPart_3 4 rfl rfl)
theorem dX8_readPart_75 : decode cX8_readPart 75 = .ok (.aload_n 0, 1) := dk_42 (dk_at dksX8_readPart_3 5 rfl rfl)
theorem dX8_readPart_76 : decode cX8_readPart 76 = .ok (.bipush 40, 2) := dk_16 40 (dk_at dksX8_readPart_3 6 rfl rfl)
theorem dX8_readPart_78 : decode cX8_readPart 78 = .ok (.invokevirtual 249, 3) := dk_182 0 249 (dk_at dksX8_readPart_3 8 rfl rfl)
theorem dX8_readPart_81 : decode cX8_readPart 81 = .ok (.aload_n 0, 1) := dk_42 (dk_at dksX8_readPart_3 11 rfl rfl)
theorem dX8_readPart_82 : decode cX8_readPart 82 = .ok (.iload_n 1, 1) := dk_27 (dk_at dksX8_readPart_3 12 rfl rfl)
theorem dX8_readPart_83 : decode cX8_readPart 83 = .ok (.iconst 1, 1) := dk_4 (dk_at dksX8_readPart_3 13 rfl rfl)
theorem dX8_readPart_84 : decode cX8_readPart 84 = .ok (.iadd, 1) := dk_96 (dk_at dksX8_readPart_3 14 rfl rfl)
theorem dX8_readPart_85 : decode cX8_readPart 85 = .ok (.invokevirtual 252, 3) := dk_182 0 252 (dk_at dksX8_readPart_3 15 rfl rfl)
theorem dX8_readPart_88 : decode cX8_readPart 88 = .ok (.aload_n 0, 1) := dk_42 (dk_at dksX8_readPart_3 18 rfl rfl)
theorem dX8_readPart_89 : decode cX8_readPart 89 = .ok (.bipush 41, 2) := dk_16 41 (dk_at dksX8_readPart_3 19 rfl rfl)
theorem dX8_readPart_91 : decode cX8_readPart 91 = .ok (.invokevirtual 249, 3) := dk_182 0 249 (dk_at dksX8_readPart_3 21 rfl rfl)
theorem dX8_readPart_94 : decode cX8_readPart 94 = .ok (.return_, 1) := dk_177 (dk_at dksX8_readPart_4 0 rfl rfl)
abbrev cX8_lay : ByteArray := prog_21_method_20_code
def yX8_lay : MethodName := ⟨RX8, "lay", "(I)V"⟩
def dkwX8_lay_1 : List UInt8 := [79, 42, 180, 0, 38, 16, 15, 92, 46, 4, 96, 79, 177]
abbrev dktX8_lay_1 : List UInt8 := dkwX8_lay_1 ++ []
def dkwX8_lay_0 : List UInt8 := [42, 180, 0, 208, 153, 0, 4, 177, 42, 180, 0, 62, 17, 2, 88, 42, 180, 0, 38, 16, 15, 46, 96, 27]
abbrev dktX8_lay_0 : List UInt8 := dkwX8_lay_0 ++ dktX8_lay_1
theorem dksX8_lay_0 : cX8_lay.data.toList.drop 0 = dktX8_lay_0 := by decide +kernel
theorem dksX8_lay_1 : cX8_lay.data.toList.drop 24 = dktX8_lay_1 := dk_seg dksX8_lay_0 24 rfl rfl
theorem dX8_lay_0 : decode cX8_lay 0 = .ok (.aload_n 0, 1) := dk_42 (dk_at dksX8_lay_0 0 rfl rfl)
theorem dX8_lay_1 : decode cX8_lay 1 = .ok (.getfield 208, 3) := dk_180 0 208 (dk_at dksX8_lay_0 1 rfl rfl)
theorem dX8_lay_4 : decode cX8_lay 4 = .ok (.ifCond .eq 4, 3) := dk_153 0 4 (dk_at dksX8_lay_0 4 rfl rfl)
theorem dX8_lay_7 : decode cX8_lay 7 = .ok (.return_, 1) := dk_177 (dk_at dksX8_lay_0 7 rfl rfl)
theorem dX8_lay_8 : decode cX8_lay 8 = .ok (.aload_n 0, 1) := dk_42 (dk_at dksX8_lay_0 8 rfl rfl)
theorem dX8_lay_9 : decode cX8_lay 9 = .ok (.getfield 62, 3) := dk_180 0 62 (dk_at dksX8_lay_0 9 rfl rfl)
theorem dX8_lay_12 : decode cX8_lay 12 = .ok (.sipush 600, 3) := dk_17 2 88 (dk_at dksX8_lay_0 12 rfl rfl)
theorem dX8_lay_15 : decode cX8_lay 15 = .ok (.aload_n 0, 1) := dk_42 (dk_at dksX8_lay_0 15 rfl rfl)
theorem dX8_lay_16 : decode cX8_lay 16 = .ok (.getfield 38, 3) := dk_180 0 38 (dk_at dksX8_lay_0 16 rfl rfl)
theorem dX8_lay_19 : decode cX8_lay 19 = .ok (.bipush 15, 2) := dk_16 15 (dk_at dksX8_lay_0 19 rfl rfl)
theorem dX8_lay_21 : decode cX8_lay 21 = .ok (.iaload, 1) := dk_46 (dk_at dksX8_lay_0 21 rfl rfl)
theorem dX8_lay_22 : decode cX8_lay 22 = .ok (.iadd, 1) := dk_96 (dk_at dksX8_lay_0 22 rfl rfl)
theorem dX8_lay_23 : decode cX8_lay 23 = .ok (.iload_n 1, 1) := dk_27 (dk_at dksX8_lay_0 23 rfl rfl)
theorem dX8_lay_24 : decode cX8_lay 24 = .ok (.iastore, 1) := dk_79 (dk_at dksX8_lay_1 0 rfl rfl)
theorem dX8_lay_25 : decode cX8_lay 25 = .ok (.aload_n 0, 1) := dk_42 (dk_at dksX8_lay_1 1 rfl rfl)
theorem dX8_lay_26 : decode cX8_lay 26 = .ok (.getfield 38, 3) := dk_180 0 38 (dk_at dksX8_lay_1 2 rfl rfl)
theorem dX8_lay_29 : decode cX8_lay 29 = .ok (.bipush 15, 2) := dk_16 15 (dk_at dksX8_lay_1 5 rfl rfl)
theorem dX8_lay_31 : decode cX8_lay 31 = .ok (.dup2, 1) := dk_92 (dk_at dksX8_lay_1 7 rfl rfl)
theorem dX8_lay_32 : decode cX8_lay 32 = .ok (.iaload, 1) := dk_46 (dk_at dksX8_lay_1 8 rfl rfl)
theorem dX8_lay_33 : decode cX8_lay 33 = .ok (.iconst 1, 1) := dk_4 (dk_at dksX8_lay_1 9 rfl rfl)
theorem dX8_lay_34 : decode cX8_lay 34 = .ok (.iadd, 1) := dk_96 (dk_at dksX8_lay_1 10 rfl rfl)
theorem dX8_lay_35 : decode cX8_lay 35 = .ok (.iastore, 1) := dk_79 (dk_at dksX8_lay_1 11 rfl rfl)
theorem dX8_lay_36 : decode cX8_lay 36 = .ok (.return_, 1) := dk_177 (dk_at dksX8_lay_1 12 rfl rfl)
abbrev cX8_mark : ByteArray := prog_21_method_16_code
def yX8_mark : MethodName := ⟨RX8, "mark", "(I)V"⟩
def dkwX8_mark_1 : List UInt8 := [154, 0, 7, 42, 182, 0, 233, 177]
abbrev dktX8_mark_1 : List UInt8 := dkwX8_mark_1 ++ []
def dkwX8_mark_0 : List UInt8 := [42, 180, 0, 208, 154, 0, 16, 42, 27, 182, 0, 226, 154, 0, 8, 42, 4, 182, 0, 229, 42, 180, 0, 208]
abbrev dktX8_mark_0 : List UInt8 := dkwX8_mark_0 ++ dktX8_mark_1
theorem dksX8_mark_0 : cX8_mark.data.toList.drop 0 = dktX8_mark_0 := by decide +kernel
theorem dksX8_mark_1 : cX8_mark.data.toList.drop 24 = dktX8_mark_1 := dk_seg dksX8_mark_0 24 rfl rfl
theorem dX8_mark_0 : decode cX8_mark 0 = .ok (.aload_n 0, 1) := dk_42 (dk_at dksX8_mark_0 0 rfl rfl)
theorem dX8_mark_1 : decode cX8_mark 1 = .ok (.getfield 208, 3) := dk_180 0 208 (dk_at dksX8_mark_0 1 rfl rfl)
theorem dX8_mark_4 : decode cX8_mark 4 = .ok (.ifCond .ne 16, 3) := dk_154 0 16 (dk_at dksX8_mark_0 4 rfl rfl)
theorem dX8_mark_7 : decode cX8_mark 7 = .ok (.aload_n 0, 1) := dk_42 (dk_at dksX8_mark_0 7 rfl rfl)
theorem dX8_mark_8 : decode cX8_mark 8 = .ok (.iload_n 1, 1) := dk_27 (dk_at dksX8_mark_0 8 rfl rfl)
theorem dX8_mark_9 : decode cX8_mark 9 = .ok (.invokevirtual 226, 3) := dk_182 0 226 (dk_at dksX8_mark_0 9 rfl rfl)
theorem dX8_mark_12 : decode cX8_mark 12 = .ok (.ifCond .ne 8, 3) := dk_154 0 8 (dk_at dksX8_mark_0 12 rfl rfl)
theorem dX8_mark_15 : decode cX8_mark 15 = .ok (.aload_n 0, 1) := dk_42 (dk_at dksX8_mark_0 15 rfl rfl)
theorem dX8_mark_16 : decode cX8_mark 16 = .ok (.iconst 1, 1) := dk_4 (dk_at dksX8_mark_0 16 rfl rfl)
theorem dX8_mark_17 : decode cX8_mark 17 = .ok (.invokevirtual 229, 3) := dk_182 0 229 (dk_at dksX8_mark_0 17 rfl rfl)
theorem dX8_mark_20 : decode cX8_mark 20 = .ok (.aload_n 0, 1) := dk_42 (dk_at dksX8_mark_0 20 rfl rfl)
theorem dX8_mark_21 : decode cX8_mark 21 = .ok (.getfield 208, 3) := dk_180 0 208 (dk_at dksX8_mark_0 21 rfl rfl)
theorem dX8_mark_24 : decode cX8_mark 24 = .ok (.ifCond .ne 7, 3) := dk_154 0 7 (dk_at dksX8_mark_1 0 rfl rfl)
theorem dX8_mark_27 : decode cX8_mark 27 = .ok (.aload_n 0, 1) := dk_42 (dk_at dksX8_mark_1 3 rfl rfl)
theorem dX8_mark_28 : decode cX8_mark 28 = .ok (.invokevirtual 233, 3) := dk_182 0 233 (dk_at dksX8_mark_1 4 rfl rfl)
theorem dX8_mark_31 : decode cX8_mark 31 = .ok (.return_, 1) := dk_177 (dk_at dksX8_mark_1 7 rfl rfl)
abbrev cX8_readSleeper : ByteArray := prog_21_method_27_code
def yX8_readSleeper : MethodName := ⟨RX8, "readSleeper", "(I)V"⟩
def dkwX8_readSleeper_8 : List UInt8 := [79, 42, 180, 0, 59, 28, 3, 79, 42, 180, 0, 38, 16, 8, 92, 46, 4, 96, 79, 177]
abbrev dktX8_readSleeper_8 : List UInt8 := dkwX8_readSleeper_8 ++ []
def dkwX8_readSleeper_7 : List UInt8 := [182, 0, 239, 79, 42, 180, 0, 56, 28, 29, 153, 0, 7, 3, 167, 0, 10, 42, 3, 16, 10, 182, 0, 239]
abbrev dktX8_readSleeper_7 : List UInt8 := dkwX8_readSleeper_7 ++ dktX8_readSleeper_8
def dkwX8_readSleeper_6 : List UInt8 := [182, 0, 239, 79, 42, 180, 0, 53, 28, 29, 153, 0, 7, 3, 167, 0, 11, 42, 3, 17, 2, 88]
abbrev dktX8_readSleeper_6 : List UInt8 := dkwX8_readSleeper_6 ++ dktX8_readSleeper_7
def dkwX8_readSleeper_5 : List UInt8 := [153, 0, 7, 3, 167, 0, 10, 42, 3, 16, 9, 182, 0, 239, 79, 42, 180, 0, 50, 28, 42, 4, 16, 9]
abbrev dktX8_readSleeper_5 : List UInt8 := dkwX8_readSleeper_5 ++ dktX8_readSleeper_6
def dkwX8_readSleeper_4 : List UInt8 := [153, 0, 7, 3, 167, 0, 11, 42, 4, 17, 0, 240, 182, 0, 239, 79, 42, 180, 0, 48, 28, 29]
abbrev dktX8_readSleeper_4 : List UInt8 := dkwX8_readSleeper_4 ++ dktX8_readSleeper_5
def dkwX8_readSleeper_3 : List UInt8 := [167, 0, 11, 42, 4, 17, 0, 240, 182, 0, 239, 79, 42, 180, 0, 45, 5, 28, 104, 4, 96, 29]
abbrev dktX8_readSleeper_3 : List UInt8 := dkwX8_readSleeper_3 ++ dktX8_readSleeper_4
def dkwX8_readSleeper_2 : List UInt8 := [167, 0, 4, 3, 62, 42, 180, 0, 42, 28, 27, 79, 42, 180, 0, 45, 5, 28, 104, 29, 153, 0, 7, 3]
abbrev dktX8_readSleeper_2 : List UInt8 := dkwX8_readSleeper_2 ++ dktX8_readSleeper_3
def dkwX8_readSleeper_1 : List UInt8 := [177, 42, 182, 0, 233, 16, 7, 42, 180, 0, 38, 16, 8, 46, 96, 61, 27, 6, 160, 0, 7, 4]
abbrev dktX8_readSleeper_1 : List UInt8 := dkwX8_readSleeper_1 ++ dktX8_readSleeper_2
def dkwX8_readSleeper_0 : List UInt8 := [42, 180, 0, 38, 16, 8, 46, 16, 7, 160, 0, 8, 42, 5, 182, 0, 229, 42, 180, 0, 208, 153, 0, 4]
abbrev dktX8_readSleeper_0 : List UInt8 := dkwX8_readSleeper_0 ++ dktX8_readSleeper_1
theorem dksX8_readSleeper_0 : cX8_readSleeper.data.toList.drop 0 = dktX8_readSleeper_0 := by decide +kernel
theorem dksX8_readSleeper_1 : cX8_readSleeper.data.toList.drop 24 = dktX8_readSleeper_1 := dk_seg dksX8_readSleeper_0 24 rfl rfl
theorem dksX8_readSleeper_2 : cX8_readSleeper.data.toList.drop 46 = dktX8_readSleeper_2 := dk_seg dksX8_readSleeper_1 22 rfl rfl
theorem dksX8_readSleeper_3 : cX8_readSleeper.data.toList.drop 70 = dktX8_readSleeper_3 := dk_seg dksX8_readSleeper_2 24 rfl rfl
theorem dksX8_readSleeper_4 : cX8_readSleeper.data.toList.drop 92 = dktX8_readSleeper_4 := dk_seg dksX8_readSleeper_3 22 rfl rfl
theorem dksX8_readSleeper_5 : cX8_readSleeper.data.toList.drop 114 = dktX8_readSleeper_5 := dk_seg dksX8_readSleeper_4 22 rfl rfl
theorem dksX8_readSleeper_6 : cX8_readSleeper.data.toList.drop 138 = dktX8_readSleeper_6 := dk_seg dksX8_readSleeper_5 24 rfl rfl
theorem dksX8_readSleeper_7 : cX8_readSleeper.data.toList.drop 160 = dktX8_readSleeper_7 := dk_seg dksX8_readSleeper_6 22 rfl rfl
theorem dksX8_readSleeper_8 : cX8_readSleeper.data.toList.drop 184 = dktX8_readSleeper_8 := dk_seg dksX8_readSleeper_7 24 rfl rfl
theorem dX8_readSleeper_0 : decode cX8_readSleeper 0 = .ok (.aload_n 0, 1) := dk_42 (dk_at dksX8_readSleeper_0 0 rfl rfl)
theorem dX8_readSleeper_1 : decode cX8_readSleeper 1 = .ok (.getfield 38, 3) := dk_180 0 38 (dk_at dksX8_readSleeper_0 1 rfl rfl)
theorem dX8_readSleeper_4 : decode cX8_readSleeper 4 = .ok (.bipush 8, 2) := dk_16 8 (dk_at dksX8_readSleeper_0 4 rfl rfl)
theorem dX8_readSleeper_6 : decode cX8_readSleeper 6 = .ok (.iaload, 1) := dk_46 (dk_at dksX8_readSleeper_0 6 rfl rfl)
theorem dX8_readSleeper_7 : decode cX8_readSleeper 7 = .ok (.bipush 7, 2) := dk_16 7 (dk_at dksX8_readSleeper_0 7 rfl rfl)
theorem dX8_readSleeper_9 : decode cX8_readSleeper 9 = .ok (.if_icmp .ne 8, 3) := dk_160 0 8 (dk_at dksX8_readSleeper_0 9 rfl rfl)
theorem dX8_readSleeper_12 : decode cX8_readSleeper 12 = .ok (.aload_n 0, 1) := dk_42 (dk_at dksX8_readSleeper_0 12 rfl rfl)
theorem dX8_readSleeper_13 : decode cX8_readSleeper 13 = .ok (.iconst 2, 1) := dk_5 (dk_at dksX8_readSleeper_0 13 rfl rfl)
theorem dX8_readSleeper_14 : decode cX8_readSleeper 14 = .ok (.invokevirtual 229, 3) := dk_182 0 229 (dk_at dksX8_readSleeper_0 14 rfl rfl)
theorem dX8_readSleeper_17 : decode cX8_readSleeper 17 = .ok (.aload_n 0, 1) := dk_42 (dk_at dksX8_readSleeper_0 17 rfl rfl)
theorem dX8_readSleeper_18 : decode cX8_readSleeper 18 = .ok (.getfield 208, 3) := dk_180 0 208 (dk_at dksX8_readSleeper_0 18 rfl rfl)
theorem dX8_readSleeper_21 : decode cX8_readSleeper 21 = .ok (.ifCond .eq 4, 3) := dk_153 0 4 (dk_at dksX8_readSleeper_0 21 rfl rfl)
theorem dX8_readSleeper_24 : decode cX8_readSleeper 24 = .ok (.return_, 1) := dk_177 (dk_at dksX8_readSleeper_1 0 rfl rfl)
theorem dX8_readSleeper_25 : decode cX8_readSleeper 25 = .ok (.aload_n 0, 1) := dk_42 (dk_at dksX8_readSleeper_1 1 rfl rfl)
theorem dX8_readSleeper_26 : decode cX8_readSleeper 26 = .ok (.invokevirtual 233, 3) := dk_182 0 233 (dk_at dksX8_readSleeper_1 2 rfl rfl)
theorem dX8_readSleeper_29 : decode cX8_readSleeper 29 = .ok (.bipush 7, 2) := dk_16 7 (dk_at dksX8_readSleeper_1 5 rfl rfl)
theorem dX8_readSleeper_31 : decode cX8_readSleeper 31 = .ok (.aload_n 0, 1) := dk_42 (dk_at dksX8_readSleeper_1 7 rfl rfl)
theorem dX8_readSleeper_32 : decode cX8_readSleeper 32 = .ok (.getfield 38, 3) := dk_180 0 38 (dk_at dksX8_readSleeper_1 8 rfl rfl)
theorem dX8_readSleeper_35 : decode cX8_readSleeper 35 = .ok (.bipush 8, 2) := dk_16 8 (dk_at dksX8_readSleeper_1 11 rfl rfl)
theorem dX8_readSleeper_37 : decode cX8_readSleeper 37 = .ok (.iaload, 1) := dk_46 (dk_at dksX8_readSleeper_1 13 rfl rfl)
theorem dX8_readSleeper_38 : decode cX8_readSleeper 38 = .ok (.iadd, 1) := dk_96 (dk_at dksX8_readSleeper_1 14 rfl rfl)
theorem dX8_readSleeper_39 : decode cX8_readSleeper 39 = .ok (.istore_n 2, 1) := dk_61 (dk_at dksX8_readSleeper_1 15 rfl rfl)
theorem dX8_readSleeper_40 : decode cX8_readSleeper 40 = .ok (.iload_n 1, 1) := dk_27 (dk_at dksX8_readSleeper_1 16 rfl rfl)
theorem dX8_readSleeper_41 : decode cX8_readSleeper 41 = .ok (.iconst 3, 1) := dk_6 (dk_at dksX8_readSleeper_1 17 rfl rfl)
theorem dX8_readSleeper_42 : decode cX8_readSleeper 42 = .ok (.if_icmp .ne 7, 3) := dk_160 0 7 (dk_at dksX8_readSleeper_1 18 rfl rfl)
theorem dX8_readSleeper_45 : decode cX8_readSleeper 45 = .ok (.iconst 1, 1) := dk_4 (dk_at dksX8_readSleeper_1 21 rfl rfl)
theorem dX8_readSleeper_46 : decode cX8_readSleeper 46 = .ok (.goto 4, 3) := dk_167 0 4 (dk_at dksX8_readSleeper_2 0 rfl rfl)
theorem dX8_readSleeper_49 : decode cX8_readSleeper 49 = .ok (.iconst 0, 1) := dk_3 (dk_at dksX8_readSleeper_2 3 rfl rfl)
theorem dX8_readSleeper_50 : decode cX8_readSleeper 50 = .ok (.istore_n 3, 1) := dk_62 (dk_at dksX8_readSleeper_2 4 rfl rfl)
theorem dX8_readSleeper_51 : decode cX8_readSleeper 51 = .ok (.aload_n 0, 1) := dk_42 (dk_at dksX8_readSleeper_2 5 rfl rfl)
theorem dX8_readSleeper_52 : decode cX8_readSleeper 52 = .ok (.getfield 42, 3) := dk_180 0 42 (dk_at dksX8_readSleeper_2 6 rfl rfl)
theorem dX8_readSleeper_55 : decode cX8_readSleeper 55 = .ok (.iload_n 2, 1) := dk_28 (dk_at dksX8_readSleeper_2 9 rfl rfl)
theorem dX8_readSleeper_56 : decode cX8_readSleeper 56 = .ok (.iload_n 1, 1) := dk_27 (dk_at dksX8_readSleeper_2 10 rfl rfl)
theorem dX8_readSleeper_57 : decode cX8_readSleeper 57 = .ok (.iastore, 1) := dk_79 (dk_at dksX8_readSleeper_2 11 rfl rfl)
theorem dX8_readSleeper_58 : decode cX8_readSleeper 58 = .ok (.aload_n 0, 1) := dk_42 (dk_at dksX8_readSleeper_2 12 rfl rfl)
theorem dX8_readSleeper_59 : decode cX8_readSleeper 59 = .ok (.getfield 45, 3) := dk_180 0 45 (dk_at dksX8_readSleeper_2 13 rfl rfl)
theorem dX8_readSleeper_62 : decode cX8_readSleeper 62 = .ok (.iconst 2, 1) := dk_5 (dk_at dksX8_readSleeper_2 16 rfl rfl)
theorem dX8_readSleeper_63 : decode cX8_readSleeper 63 = .ok (.iload_n 2, 1) := dk_28 (dk_at dksX8_readSleeper_2 17 rfl rfl)
theorem dX8_readSleeper_64 : decode cX8_readSleeper 64 = .ok (.imul, 1) := dk_104 (dk_at dksX8_readSleeper_2 18 rfl rfl)
theorem dX8_readSleeper_65 : decode cX8_readSleeper 65 = .ok (.iload_n 3, 1) := dk_29 (dk_at dksX8_readSleeper_2 19 rfl rfl)
theorem dX8_readSleeper_66 : decode cX8_readSleeper 66 = .ok (.ifCond .eq 7, 3) := dk_153 0 7 (dk_at dksX8_readSleeper_2 20 rfl rfl)
theorem dX8_readSleeper_69 : decode cX8_readSleeper 69 = .ok (.iconst 0, 1) := dk_3 (dk_at dksX8_readSleeper_2 23 rfl rfl)
theorem dX8_readSleeper_70 : decode cX8_readSleeper 70 = .ok (.goto 11, 3) := dk_167 0 11 (dk_at dksX8_readSleeper_3 0 rfl rfl)
theorem dX8_readSleeper_73 : decode cX8_readSleeper 73 = .ok (.aload_n 0, 1) := dk_42 (dk_at dksX8_readSleeper_3 3 rfl rfl)
theorem dX8_readSleeper_74 : decode cX8_readSleeper 74 = .ok (.iconst 1, 1) := dk_4 (dk_at dksX8_readSleeper_3 4 rfl rfl)
theorem dX8_readSleeper_75 : decode cX8_readSleeper 75 = .ok (.sipush 240, 3) := dk_17 0 240 (dk_at dksX8_readSleeper_3 5 rfl rfl)
theorem dX8_readSleeper_78 : decode cX8_readSleeper 78 = .ok (.invokevirtual 239, 3) := dk_182 0 239 (dk_at dksX8_readSleeper_3 8 rfl rfl)
theorem dX8_readSleeper_81 : decode cX8_readSleeper 81 = .ok (.iastore, 1) := dk_79 (dk_at dksX8_readSleeper_3 11 rfl rfl)
theorem dX8_readSleeper_82 : decode cX8_readSleeper 82 = .ok (.aload_n 0, 1) := dk_42 (dk_at dksX8_readSleeper_3 12 rfl rfl)
theorem dX8_readSleeper_83 : decode cX8_readSleeper 83 = .ok (.getfield 45, 3) := dk_180 0 45 (dk_at dksX8_readSleeper_3 13 rfl rfl)
theorem dX8_readSleeper_86 : decode cX8_readSleeper 86 = .ok (.iconst 2, 1) := dk_5 (dk_at dksX8_readSleeper_3 16 rfl rfl)
theorem dX8_readSleeper_87 : decode cX8_readSleeper 87 = .ok (.iload_n 2, 1) := dk_28 (dk_at dksX8_readSleeper_3 17 rfl rfl)
theorem dX8_readSleeper_88 : decode cX8_readSleeper 88 = .ok (.imul, 1) := dk_104 (dk_at dksX8_readSleeper_3 18 rfl rfl)
theorem dX8_readSleeper_89 : decode cX8_readSleeper 89 = .ok (.iconst 1, 1) := dk_4 (dk_at dksX8_readSleeper_3 19 rfl rfl)
theorem dX8_readSleeper_90 : decode cX8_readSleeper 90 = .ok (.iadd, 1) := dk_96 (dk_at dksX8_readSleeper_3 20 rfl rfl)
theorem dX8_readSleeper_91 : decode cX8_readSleeper 91 = .ok (.iload_n 3, 1) := dk_29 (dk_at dksX8_readSleeper_3 21 rfl rfl)
theorem dX8_readSleeper_92 : decode cX8_readSleeper 92 = .ok (.ifCond .eq 7, 3) := dk_153 0 7 (dk_at dksX8_readSleeper_4 0 rfl rfl)
theorem dX8_readSleeper_95 : decode cX8_readSleeper 95 = .ok (.iconst 0, 1) := dk_3 (dk_at dksX8_readSleeper_4 3 rfl rfl)
theorem dX8_readSleeper_96 : decode cX8_readSleeper 96 = .ok (.goto 11, 3) := dk_167 0 11 (dk_at dksX8_readSleeper_4 4 rfl rfl)
theorem dX8_readSleeper_99 : decode cX8_readSleeper 99 = .ok (.aload_n 0, 1) := dk_42 (dk_at dksX8_readSleeper_4 7 rfl rfl)
theorem dX8_readSleeper_100 : decode cX8_readSleeper 100 = .ok (.iconst 1, 1) := dk_4 (dk_at dksX8_readSleeper_4 8 rfl rfl)
theorem dX8_readSleeper_101 : decode cX8_readSleeper 101 = .ok (.sipush 240, 3) := dk_17 0 240 (dk_at dksX8_readSleeper_4 9 rfl rfl)
theorem dX8_readSleeper_104 : decode cX8_readSleeper 104 = .ok (.invokevirtual 239, 3) := dk_182 0 239 (dk_at dksX8_readSleeper_4 12 rfl rfl)
theorem dX8_readSleeper_107 : decode cX8_readSleeper 107 = .ok (.iastore, 1) := dk_79 (dk_at dksX8_readSleeper_4 15 rfl rfl)
theorem dX8_readSleeper_108 : decode cX8_readSleeper 108 = .ok (.aload_n 0, 1) := dk_42 (dk_at dksX8_readSleeper_4 16 rfl rfl)
theorem dX8_readSleeper_109 : decode cX8_readSleeper 109 = .ok (.getfield 48, 3) := dk_180 0 48 (dk_at dksX8_readSleeper_4 17 rfl rfl)
theorem dX8_readSleeper_112 : decode cX8_readSleeper 112 = .ok (.iload_n 2, 1) := dk_28 (dk_at dksX8_readSleeper_4 20 rfl rfl)
theorem dX8_readSleeper_113 : decode cX8_readSleeper 113 = .ok (.iload_n 3, 1) := dk_29 (dk_at dksX8_readSleeper_4 21 rfl rfl)
theorem dX8_readSleeper_114 : decode cX8_readSleeper 114 = .ok (.ifCond .eq 7, 3) := dk_153 0 7 (dk_at dksX8_readSleeper_5 0 rfl rfl)
theorem dX8_readSleeper_117 : decode cX8_readSleeper 117 = .ok (.iconst 0, 1) := dk_3 (dk_at dksX8_readSleeper_5 3 rfl rfl)
theorem dX8_readSleeper_118 : decode cX8_readSleeper 118 = .ok (.goto 10, 3) := dk_167 0 10 (dk_at dksX8_readSleeper_5 4 rfl rfl)
theorem dX8_readSleeper_121 : decode cX8_readSleeper 121 = .ok (.aload_n 0, 1) := dk_42 (dk_at dksX8_readSleeper_5 7 rfl rfl)
theorem dX8_readSleeper_122 : decode cX8_readSleeper 122 = .ok (.iconst 0, 1) := dk_3 (dk_at dksX8_readSleeper_5 8 rfl rfl)
theorem dX8_readSleeper_123 : decode cX8_readSleeper 123 = .ok (.bipush 9, 2) := dk_16 9 (dk_at dksX8_readSleeper_5 9 rfl rfl)
theorem dX8_readSleeper_125 : decode cX8_readSleeper 125 = .ok (.invokevirtual 239, 3) := dk_182 0 239 (dk_at dksX8_readSleeper_5 11 rfl rfl)
theorem dX8_readSleeper_128 : decode cX8_readSleeper 128 = .ok (.iastore, 1) := dk_79 (dk_at dksX8_readSleeper_5 14 rfl rfl)
theorem dX8_readSleeper_129 : decode cX8_readSleeper 129 = .ok (.aload_n 0, 1) := dk_42 (dk_at dksX8_readSleeper_5 15 rfl rfl)
theorem dX8_readSleeper_130 : decode cX8_readSleeper 130 = .ok (.getfield 50, 3) := dk_180 0 50 (dk_at dksX8_readSleeper_5 16 rfl rfl)
theorem dX8_readSleeper_133 : decode cX8_readSleeper 133 = .ok (.iload_n 2, 1) := dk_28 (dk_at dksX8_readSleeper_5 19 rfl rfl)
theorem dX8_readSleeper_134 : decode cX8_readSleeper 134 = .ok (.aload_n 0, 1) := dk_42 (dk_at dksX8_readSleeper_5 20 rfl rfl)
theorem dX8_readSleeper_135 : decode cX8_readSleeper 135 = .ok (.iconst 1, 1) := dk_4 (dk_at dksX8_readSleeper_5 21 rfl rfl)
theorem dX8_readSleeper_136 : decode cX8_readSleeper 136 = .ok (.bipush 9, 2) := dk_16 9 (dk_at dksX8_readSleeper_5 22 rfl rfl)
theorem dX8_readSleeper_138 : decode cX8_readSleeper 138 = .ok (.invokevirtual 239, 3) := dk_182 0 239 (dk_at dksX8_readSleeper_6 0 rfl rfl)
theorem dX8_readSleeper_141 : decode cX8_readSleeper 141 = .ok (.iastore, 1) := dk_79 (dk_at dksX8_readSleeper_6 3 rfl rfl)
theorem dX8_readSleeper_142 : decode cX8_readSleeper 142 = .ok (.aload_n 0, 1) := dk_42 (dk_at dksX8_readSleeper_6 4 rfl rfl)
theorem dX8_readSleeper_143 : decode cX8_readSleeper 143 = .ok (.getfield 53, 3) := dk_180 0 53 (dk_at dksX8_readSleeper_6 5 rfl rfl)
theorem dX8_readSleeper_146 : decode cX8_readSleeper 146 = .ok (.iload_n 2, 1) := dk_28 (dk_at dksX8_readSleeper_6 8 rfl rfl)
theorem dX8_readSleeper_147 : decode cX8_readSleeper 147 = .ok (.iload_n 3, 1) := dk_29 (dk_at dksX8_readSleeper_6 9 rfl rfl)
theorem dX8_readSleeper_148 : decode cX8_readSleeper 148 = .ok (.ifCond .eq 7, 3) := dk_153 0 7 (dk_at dksX8_readSleeper_6 10 rfl rfl)
theorem dX8_readSleeper_151 : decode cX8_readSleeper 151 = .ok (.iconst 0, 1) := dk_3 (dk_at dksX8_readSleeper_6 13 rfl rfl)
theorem dX8_readSleeper_152 : decode cX8_readSleeper 152 = .ok (.goto 11, 3) := dk_167 0 11 (dk_at dksX8_readSleeper_6 14 rfl rfl)
theorem dX8_readSleeper_155 : decode cX8_readSleeper 155 = .ok (.aload_n 0, 1) := dk_42 (dk_at dksX8_readSleeper_6 17 rfl rfl)
theorem dX8_readSleeper_156 : decode cX8_readSleeper 156 = .ok (.iconst 0, 1) := dk_3 (dk_at dksX8_readSleeper_6 18 rfl rfl)
theorem dX8_readSleeper_157 : decode cX8_readSleeper 157 = .ok (.sipush 600, 3) := dk_17 2 88 (dk_at dksX8_readSleeper_6 19 rfl rfl)
theorem dX8_readSleeper_160 : decode cX8_readSleeper 160 = .ok (.invokevirtual 239, 3) := dk_182 0 239 (dk_at dksX8_readSleeper_7 0 rfl rfl)
theorem dX8_readSleeper_163 : decode cX8_readSleeper 163 = .ok (.iastore, 1) := dk_79 (dk_at dksX8_readSleeper_7 3 rfl rfl)
theorem dX8_readSleeper_164 : decode cX8_readSleeper 164 = .ok (.aload_n 0, 1) := dk_42 (dk_at dksX8_readSleeper_7 4 rfl rfl)
theorem dX8_readSleeper_165 : decode cX8_readSleeper 165 = .ok (.getfield 56, 3) := dk_180 0 56 (dk_at dksX8_readSleeper_7 5 rfl rfl)
theorem dX8_readSleeper_168 : decode cX8_readSleeper 168 = .ok (.iload_n 2, 1) := dk_28 (dk_at dksX8_readSleeper_7 8 rfl rfl)
theorem dX8_readSleeper_169 : decode cX8_readSleeper 169 = .ok (.iload_n 3, 1) := dk_29 (dk_at dksX8_readSleeper_7 9 rfl rfl)
theorem dX8_readSleeper_170 : decode cX8_readSleeper 170 = .ok (.ifCond .eq 7, 3) := dk_153 0 7 (dk_at dksX8_readSleeper_7 10 rfl rfl)
theorem dX8_readSleeper_173 : decode cX8_readSleeper 173 = .ok (.iconst 0, 1) := dk_3 (dk_at dksX8_readSleeper_7 13 rfl rfl)
theorem dX8_readSleeper_174 : decode cX8_readSleeper 174 = .ok (.goto 10, 3) := dk_167 0 10 (dk_at dksX8_readSleeper_7 14 rfl rfl)
theorem dX8_readSleeper_177 : decode cX8_readSleeper 177 = .ok (.aload_n 0, 1) := dk_42 (dk_at dksX8_readSleeper_7 17 rfl rfl)
theorem dX8_readSleeper_178 : decode cX8_readSleeper 178 = .ok (.iconst 0, 1) := dk_3 (dk_at dksX8_readSleeper_7 18 rfl rfl)
theorem dX8_readSleeper_179 : decode cX8_readSleeper 179 = .ok (.bipush 10, 2) := dk_16 10 (dk_at dksX8_readSleeper_7 19 rfl rfl)
theorem dX8_readSleeper_181 : decode cX8_readSleeper 181 = .ok (.invokevirtual 239, 3) := dk_182 0 239 (dk_at dksX8_readSleeper_7 21 rfl rfl)
theorem dX8_readSleeper_184 : decode cX8_readSleeper 184 = .ok (.iastore, 1) := dk_79 (dk_at dksX8_readSleeper_8 0 rfl rfl)
theorem dX8_readSleeper_185 : decode cX8_readSleeper 185 = .ok (.aload_n 0, 1) := dk_42 (dk_at dksX8_readSleeper_8 1 rfl rfl)
theorem dX8_readSleeper_186 : decode cX8_readSleeper 186 = .ok (.getfield 59, 3) := dk_180 0 59 (dk_at dksX8_readSleeper_8 2 rfl rfl)
theorem dX8_readSleeper_189 : decode cX8_readSleeper 189 = .ok (.iload_n 2, 1) := dk_28 (dk_at dksX8_readSleeper_8 5 rfl rfl)
theorem dX8_readSleeper_190 : decode cX8_readSleeper 190 = .ok (.iconst 0, 1) := dk_3 (dk_at dksX8_readSleeper_8 6 rfl rfl)
theorem dX8_readSleeper_191 : decode cX8_readSleeper 191 = .ok (.iastore, 1) := dk_79 (dk_at dksX8_readSleeper_8 7 rfl rfl)
theorem dX8_readSleeper_192 : decode cX8_readSleeper 192 = .ok (.aload_n 0, 1) := dk_42 (dk_at dksX8_readSleeper_8 8 rfl rfl)
theorem dX8_readSleeper_193 : decode cX8_readSleeper 193 = .ok (.getfield 38, 3) := dk_180 0 38 (dk_at dksX8_readSleeper_8 9 rfl rfl)
theorem dX8_readSleeper_196 : decode cX8_readSleeper 196 = .ok (.bipush 8, 2) := dk_16 8 (dk_at dksX8_readSleeper_8 12 rfl rfl)
theorem dX8_readSleeper_198 : decode cX8_readSleeper 198 = .ok (.dup2, 1) := dk_92 (dk_at dksX8_readSleeper_8 14 rfl rfl)
theorem dX8_readSleeper_199 : decode cX8_readSleeper 199 = .ok (.iaload, 1) := dk_46 (dk_at dksX8_readSleeper_8 15 rfl rfl)
theorem dX8_readSleeper_200 : decode cX8_readSleeper 200 = .ok (.iconst 1, 1) := dk_4 (dk_at dksX8_readSleeper_8 16 rfl rfl)
theorem dX8_readSleeper_201 : decode cX8_readSleeper 201 = .ok (.iadd, 1) := dk_96 (dk_at dksX8_readSleeper_8 17 rfl rfl)
theorem dX8_readSleeper_202 : decode cX8_readSleeper 202 = .ok (.iastore, 1) := dk_79 (dk_at dksX8_readSleeper_8 18 rfl rfl)
theorem dX8_readSleeper_203 : decode cX8_readSleeper 203 = .ok (.return_, 1) := dk_177 (dk_at dksX8_readSleeper_8 19 rfl rfl)
abbrev cX8_readBolster : ByteArray := prog_21_method_29_code
def yX8_readBolster : MethodName := ⟨RX8, "readBolster", "()V"⟩
def dkwX8_readBolster_2 : List UInt8 := [42, 182, 0, 233, 42, 180, 0, 38, 16, 13, 92, 46, 4, 27, 120, 128, 79, 177]
abbrev dktX8_readBolster_2 : List UInt8 := dkwX8_readBolster_2 ++ []
def dkwX8_readBolster_1 : List UInt8 := [16, 13, 46, 27, 122, 4, 126, 4, 160, 0, 8, 42, 8, 182, 0, 229, 42, 180, 0, 208, 153, 0, 4, 177]
abbrev dktX8_readBolster_1 : List UInt8 := dkwX8_readBolster_1 ++ dktX8_readBolster_2
def dkwX8_readBolster_0 : List UInt8 := [42, 182, 0, 233, 42, 4, 16, 6, 182, 0, 236, 60, 42, 180, 0, 208, 154, 0, 23, 42, 180, 0, 38]
abbrev dktX8_readBolster_0 : List UInt8 := dkwX8_readBolster_0 ++ dktX8_readBolster_1
theorem dksX8_readBolster_0 : cX8_readBolster.data.toList.drop 0 = dktX8_readBolster_0 := by decide +kernel
theorem dksX8_readBolster_1 : cX8_readBolster.data.toList.drop 23 = dktX8_readBolster_1 := dk_seg dksX8_readBolster_0 23 rfl rfl
theorem dksX8_readBolster_2 : cX8_readBolster.data.toList.drop 47 = dktX8_readBolster_2 := dk_seg dksX8_readBolster_1 24 rfl rfl
theorem dX8_readBolster_0 : decode cX8_readBolster 0 = .ok (.aload_n 0, 1) := dk_42 (dk_at dksX8_readBolster_0 0 rfl rfl)
theorem dX8_readBolster_1 : decode cX8_readBolster 1 = .ok (.invokevirtual 233, 3) := dk_182 0 233 (dk_at dksX8_readBolster_0 1 rfl rfl)
theorem dX8_readBolster_4 : decode cX8_readBolster 4 = .ok (.aload_n 0, 1) := dk_42 (dk_at dksX8_readBolster_0 4 rfl rfl)
theorem dX8_readBolster_5 : decode cX8_readBolster 5 = .ok (.iconst 1, 1) := dk_4 (dk_at dksX8_readBolster_0 5 rfl rfl)
theorem dX8_readBolster_6 : decode cX8_readBolster 6 = .ok (.bipush 6, 2) := dk_16 6 (dk_at dksX8_readBolster_0 6 rfl rfl)
theorem dX8_readBolster_8 : decode cX8_readBolster 8 = .ok (.invokevirtual 236, 3) := dk_182 0 236 (dk_at dksX8_readBolster_0 8 rfl rfl)
theorem dX8_readBolster_11 : decode cX8_readBolster 11 = .ok (.istore_n 1, 1) := dk_60 (dk_at dksX8_readBolster_0 11 rfl rfl)
theorem dX8_readBolster_12 : decode cX8_readBolster 12 = .ok (.aload_n 0, 1) := dk_42 (dk_at dksX8_readBolster_0 12 rfl rfl)
theorem dX8_readBolster_13 : decode cX8_readBolster 13 = .ok (.getfield 208, 3) := dk_180 0 208 (dk_at dksX8_readBolster_0 13 rfl rfl)
theorem dX8_readBolster_16 : decode cX8_readBolster 16 = .ok (.ifCond .ne 23, 3) := dk_154 0 23 (dk_at dksX8_readBolster_0 16 rfl rfl)
theorem dX8_readBolster_19 : decode cX8_readBolster 19 = .ok (.aload_n 0, 1) := dk_42 (dk_at dksX8_readBolster_0 19 rfl rfl)
theorem dX8_readBolster_20 : decode cX8_readBolster 20 = .ok (.getfield 38, 3) := dk_180 0 38 (dk_at dksX8_readBolster_0 20 rfl rfl)
theorem dX8_readBolster_23 : decode cX8_readBolster 23 = .ok (.bipush 13, 2) := dk_16 13 (dk_at dksX8_readBolster_1 0 rfl rfl)
theorem dX8_readBolster_25 : decode cX8_readBolster 25 = .ok (.iaload, 1) := dk_46 (dk_at dksX8_readBolster_1 2 rfl rfl)
theorem dX8_readBolster_26 : decode cX8_readBolster 26 = .ok (.iload_n 1, 1) := dk_27 (dk_at dksX8_readBolster_1 3 rfl rfl)
theorem dX8_readBolster_27 : decode cX8_readBolster 27 = .ok (.ishr, 1) := dk_122 (dk_at dksX8_readBolster_1 4 rfl rfl)
theorem dX8_readBolster_28 : decode cX8_readBolster 28 = .ok (.iconst 1, 1) := dk_4 (dk_at dksX8_readBolster_1 5 rfl rfl)
theorem dX8_readBolster_29 : decode cX8_readBolster 29 = .ok (.iand, 1) := dk_126 (dk_at dksX8_readBolster_1 6 rfl rfl)
theorem dX8_readBolster_30 : decode cX8_readBolster 30 = .ok (.iconst 1, 1) := dk_4 (dk_at dksX8_readBolster_1 7 rfl rfl)
theorem dX8_readBolster_31 : decode cX8_readBolster 31 = .ok (.if_icmp .ne 8, 3) := dk_160 0 8 (dk_at dksX8_readBolster_1 8 rfl rfl)
theorem dX8_readBolster_34 : decode cX8_readBolster 34 = .ok (.aload_n 0, 1) := dk_42 (dk_at dksX8_readBolster_1 11 rfl rfl)
theorem dX8_readBolster_35 : decode cX8_readBolster 35 = .ok (.iconst 5, 1) := dk_8 (dk_at dksX8_readBolster_1 12 rfl rfl)
theorem dX8_readBolster_36 : decode cX8_readBolster 36 = .ok (.invokevirtual 229, 3) := dk_182 0 229 (dk_at dksX8_readBolster_1 13 rfl rfl)
theorem dX8_readBolster_39 : decode cX8_readBolster 39 = .ok (.aload_n 0, 1) := dk_42 (dk_at dksX8_readBolster_1 16 rfl rfl)
theorem dX8_readBolster_40 : decode cX8_readBolster 40 = .ok (.getfield 208, 3) := dk_180 0 208 (dk_at dksX8_readBolster_1 17 rfl rfl)
theorem dX8_readBolster_43 : decode cX8_readBolster 43 = .ok (.ifCond .eq 4, 3) := dk_153 0 4 (dk_at dksX8_readBolster_1 20 rfl rfl)
theorem dX8_readBolster_46 : decode cX8_readBolster 46 = .ok (.return_, 1) := dk_177 (dk_at dksX8_readBolster_1 23 rfl rfl)
theorem dX8_readBolster_47 : decode cX8_readBolster 47 = .ok (.aload_n 0, 1) := dk_42 (dk_at dksX8_readBolster_2 0 rfl rfl)
theorem dX8_readBolster_48 : decode cX8_readBolster 48 = .ok (.invokevirtual 233, 3) := dk_182 0 233 (dk_at dksX8_readBolster_2 1 rfl rfl)
theorem dX8_readBolster_51 : decode cX8_readBolster 51 = .ok (.aload_n 0, 1) := dk_42 (dk_at dksX8_readBolster_2 4 rfl rfl)
theorem dX8_readBolster_52 : decode cX8_readBolster 52 = .ok (.getfield 38, 3) := dk_180 0 38 (dk_at dksX8_readBolster_2 5 rfl rfl)
theorem dX8_readBolster_55 : decode cX8_readBolster 55 = .ok (.bipush 13, 2) := dk_16 13 (dk_at dksX8_readBolster_2 8 rfl rfl)
theorem dX8_readBolster_57 : decode cX8_readBolster 57 = .ok (.dup2, 1) := dk_92 (dk_at dksX8_readBolster_2 10 rfl rfl)
theorem dX8_readBolster_58 : decode cX8_readBolster 58 = .ok (.iaload, 1) := dk_46 (dk_at dksX8_readBolster_2 11 rfl rfl)
theorem dX8_readBolster_59 : decode cX8_readBolster 59 = .ok (.iconst 1, 1) := dk_4 (dk_at dksX8_readBolster_2 12 rfl rfl)
theorem dX8_readBolster_60 : decode cX8_readBolster 60 = .ok (.iload_n 1, 1) := dk_27 (dk_at dksX8_readBolster_2 13 rfl rfl)
theorem dX8_readBolster_61 : decode cX8_readBolster 61 = .ok (.ishl, 1) := dk_120 (dk_at dksX8_readBolster_2 14 rfl rfl)
theorem dX8_readBolster_62 : decode cX8_readBolster 62 = .ok (.ior, 1) := dk_128 (dk_at dksX8_readBolster_2 15 rfl rfl)
theorem dX8_readBolster_63 : decode cX8_readBolster 63 = .ok (.iastore, 1) := dk_79 (dk_at dksX8_readBolster_2 16 rfl rfl)
theorem dX8_readBolster_64 : decode cX8_readBolster 64 = .ok (.return_, 1) := dk_177 (dk_at dksX8_readBolster_2 17 rfl rfl)
abbrev cX8_readNever : ByteArray := prog_21_method_28_code
def yX8_readNever : MethodName := ⟨RX8, "readNever", "()V"⟩
def dkwX8_readNever_5 : List UInt8 := [28, 96, 92, 46, 4, 27, 120, 128, 79, 42, 180, 0, 38, 16, 14, 92, 46, 4, 96, 79, 177]
abbrev dktX8_readNever_5 : List UInt8 := dkwX8_readNever_5 ++ []
def dkwX8_readNever_4 : List UInt8 := [182, 0, 233, 42, 180, 0, 59, 16, 7, 27, 96, 92, 46, 4, 28, 120, 128, 79, 42, 180, 0, 59, 16, 7]
abbrev dktX8_readNever_4 : List UInt8 := dkwX8_readNever_4 ++ dktX8_readNever_5
def dkwX8_readNever_3 : List UInt8 := [46, 28, 122, 4, 126, 4, 160, 0, 8, 42, 7, 182, 0, 229, 42, 180, 0, 208, 153, 0, 4, 177, 42]
abbrev dktX8_readNever_3 : List UInt8 := dkwX8_readNever_3 ++ dktX8_readNever_4
def dkwX8_readNever_2 : List UInt8 := [182, 1, 20, 61, 42, 180, 0, 208, 154, 0, 30, 27, 28, 159, 0, 20, 42, 180, 0, 59, 16, 7, 27, 96]
abbrev dktX8_readNever_2 : List UInt8 := dkwX8_readNever_2 ++ dktX8_readNever_3
def dkwX8_readNever_1 : List UInt8 := [177, 42, 182, 0, 233, 42, 182, 1, 20, 60, 42, 180, 0, 208, 154, 0, 7, 42, 182, 0, 233, 42]
abbrev dktX8_readNever_1 : List UInt8 := dkwX8_readNever_1 ++ dktX8_readNever_2
def dkwX8_readNever_0 : List UInt8 := [42, 180, 0, 38, 16, 14, 46, 16, 6, 160, 0, 8, 42, 5, 182, 0, 229, 42, 180, 0, 208, 153, 0, 4]
abbrev dktX8_readNever_0 : List UInt8 := dkwX8_readNever_0 ++ dktX8_readNever_1
theorem dksX8_readNever_0 : cX8_readNever.data.toList.drop 0 = dktX8_readNever_0 := by decide +kernel
theorem dksX8_readNever_1 : cX8_readNever.data.toList.drop 24 = dktX8_readNever_1 := dk_seg dksX8_readNever_0 24 rfl rfl
theorem dksX8_readNever_2 : cX8_readNever.data.toList.drop 46 = dktX8_readNever_2 := dk_seg dksX8_readNever_1 22 rfl rfl
theorem dksX8_readNever_3 : cX8_readNever.data.toList.drop 70 = dktX8_readNever_3 := dk_seg dksX8_readNever_2 24 rfl rfl
theorem dksX8_readNever_4 : cX8_readNever.data.toList.drop 93 = dktX8_readNever_4 := dk_seg dksX8_readNever_3 23 rfl rfl
theorem dksX8_readNever_5 : cX8_readNever.data.toList.drop 117 = dktX8_readNever_5 := dk_seg dksX8_readNever_4 24 rfl rfl
theorem dX8_readNever_0 : decode cX8_readNever 0 = .ok (.aload_n 0, 1) := dk_42 (dk_at dksX8_readNever_0 0 rfl rfl)
theorem dX8_readNever_1 : decode cX8_readNever 1 = .ok (.getfield 38, 3) := dk_180 0 38 (dk_at dksX8_readNever_0 1 rfl rfl)
theorem dX8_readNever_4 : decode cX8_readNever 4 = .ok (.bipush 14, 2) := dk_16 14 (dk_at dksX8_readNever_0 4 rfl rfl)
theorem dX8_readNever_6 : decode cX8_readNever 6 = .ok (.iaload, 1) := dk_46 (dk_at dksX8_readNever_0 6 rfl rfl)
theorem dX8_readNever_7 : decode cX8_readNever 7 = .ok (.bipush 6, 2) := dk_16 6 (dk_at dksX8_readNever_0 7 rfl rfl)
theorem dX8_readNever_9 : decode cX8_readNever 9 = .ok (.if_icmp .ne 8, 3) := dk_160 0 8 (dk_at dksX8_readNever_0 9 rfl rfl)
theorem dX8_readNever_12 : decode cX8_readNever 12 = .ok (.aload_n 0, 1) := dk_42 (dk_at dksX8_readNever_0 12 rfl rfl)
theorem dX8_readNever_13 : decode cX8_readNever 13 = .ok (.iconst 2, 1) := dk_5 (dk_at dksX8_readNever_0 13 rfl rfl)
theorem dX8_readNever_14 : decode cX8_readNever 14 = .ok (.invokevirtual 229, 3) := dk_182 0 229 (dk_at dksX8_readNever_0 14 rfl rfl)
theorem dX8_readNever_17 : decode cX8_readNever 17 = .ok (.aload_n 0, 1) := dk_42 (dk_at dksX8_readNever_0 17 rfl rfl)
theorem dX8_readNever_18 : decode cX8_readNever 18 = .ok (.getfield 208, 3) := dk_180 0 208 (dk_at dksX8_readNever_0 18 rfl rfl)
theorem dX8_readNever_21 : decode cX8_readNever 21 = .ok (.ifCond .eq 4, 3) := dk_153 0 4 (dk_at dksX8_readNever_0 21 rfl rfl)
theorem dX8_readNever_24 : decode cX8_readNever 24 = .ok (.return_, 1) := dk_177 (dk_at dksX8_readNever_1 0 rfl rfl)
theorem dX8_readNever_25 : decode cX8_readNever 25 = .ok (.aload_n 0, 1) := dk_42 (dk_at dksX8_readNever_1 1 rfl rfl)
theorem dX8_readNever_26 : decode cX8_readNever 26 = .ok (.invokevirtual 233, 3) := dk_182 0 233 (dk_at dksX8_readNever_1 2 rfl rfl)
theorem dX8_readNever_29 : decode cX8_readNever 29 = .ok (.aload_n 0, 1) := dk_42 (dk_at dksX8_readNever_1 5 rfl rfl)
theorem dX8_readNever_30 : decode cX8_readNever 30 = .ok (.invokevirtual 276, 3) := dk_182 1 20 (dk_at dksX8_readNever_1 6 rfl rfl)
theorem dX8_readNever_33 : decode cX8_readNever 33 = .ok (.istore_n 1, 1) := dk_60 (dk_at dksX8_readNever_1 9 rfl rfl)
theorem dX8_readNever_34 : decode cX8_readNever 34 = .ok (.aload_n 0, 1) := dk_42 (dk_at dksX8_readNever_1 10 rfl rfl)
theorem dX8_readNever_35 : decode cX8_readNever 35 = .ok (.getfield 208, 3) := dk_180 0 208 (dk_at dksX8_readNever_1 11 rfl rfl)
theorem dX8_readNever_38 : decode cX8_readNever 38 = .ok (.ifCond .ne 7, 3) := dk_154 0 7 (dk_at dksX8_readNever_1 14 rfl rfl)
theorem dX8_readNever_41 : decode cX8_readNever 41 = .ok (.aload_n 0, 1) := dk_42 (dk_at dksX8_readNever_1 17 rfl rfl)
theorem dX8_readNever_42 : decode cX8_readNever 42 = .ok (.invokevirtual 233, 3) := dk_182 0 233 (dk_at dksX8_readNever_1 18 rfl rfl)
theorem dX8_readNever_45 : decode cX8_readNever 45 = .ok (.aload_n 0, 1) := dk_42 (dk_at dksX8_readNever_1 21 rfl rfl)
theorem dX8_readNever_46 : decode cX8_readNever 46 = .ok (.invokevirtual 276, 3) := dk_182 1 20 (dk_at dksX8_readNever_2 0 rfl rfl)
theorem dX8_readNever_49 : decode cX8_readNever 49 = .ok (.istore_n 2, 1) := dk_61 (dk_at dksX8_readNever_2 3 rfl rfl)
theorem dX8_readNever_50 : decode cX8_readNever 50 = .ok (.aload_n 0, 1) := dk_42 (dk_at dksX8_readNever_2 4 rfl rfl)
theorem dX8_readNever_51 : decode cX8_readNever 51 = .ok (.getfield 208, 3) := dk_180 0 208 (dk_at dksX8_readNever_2 5 rfl rfl)
theorem dX8_readNever_54 : decode cX8_readNever 54 = .ok (.ifCond .ne 30, 3) := dk_154 0 30 (dk_at dksX8_readNever_2 8 rfl rfl)
theorem dX8_readNever_57 : decode cX8_readNever 57 = .ok (.iload_n 1, 1) := dk_27 (dk_at dksX8_readNever_2 11 rfl rfl)
theorem dX8_readNever_58 : decode cX8_readNever 58 = .ok (.iload_n 2, 1) := dk_28 (dk_at dksX8_readNever_2 12 rfl rfl)
theorem dX8_readNever_59 : decode cX8_readNever 59 = .ok (.if_icmp .eq 20, 3) := dk_159 0 20 (dk_at dksX8_readNever_2 13 rfl rfl)
theorem dX8_readNever_62 : decode cX8_readNever 62 = .ok (.aload_n 0, 1) := dk_42 (dk_at dksX8_readNever_2 16 rfl rfl)
theorem dX8_readNever_63 : decode cX8_readNever 63 = .ok (.getfield 59, 3) := dk_180 0 59 (dk_at dksX8_readNever_2 17 rfl rfl)
theorem dX8_readNever_66 : decode cX8_readNever 66 = .ok (.bipush 7, 2) := dk_16 7 (dk_at dksX8_readNever_2 20 rfl rfl)
theorem dX8_readNever_68 : decode cX8_readNever 68 = .ok (.iload_n 1, 1) := dk_27 (dk_at dksX8_readNever_2 22 rfl rfl)
theorem dX8_readNever_69 : decode cX8_readNever 69 = .ok (.iadd, 1) := dk_96 (dk_at dksX8_readNever_2 23 rfl rfl)
theorem dX8_readNever_70 : decode cX8_readNever 70 = .ok (.iaload, 1) := dk_46 (dk_at dksX8_readNever_3 0 rfl rfl)
theorem dX8_readNever_71 : decode cX8_readNever 71 = .ok (.iload_n 2, 1) := dk_28 (dk_at dksX8_readNever_3 1 rfl rfl)
theorem dX8_readNever_72 : decode cX8_readNever 72 = .ok (.ishr, 1) := dk_122 (dk_at dksX8_readNever_3 2 rfl rfl)
theorem dX8_readNever_73 : decode cX8_readNever 73 = .ok (.iconst 1, 1) := dk_4 (dk_at dksX8_readNever_3 3 rfl rfl)
theorem dX8_readNever_74 : decode cX8_readNever 74 = .ok (.iand, 1) := dk_126 (dk_at dksX8_readNever_3 4 rfl rfl)
theorem dX8_readNever_75 : decode cX8_readNever 75 = .ok (.iconst 1, 1) := dk_4 (dk_at dksX8_readNever_3 5 rfl rfl)
theorem dX8_readNever_76 : decode cX8_readNever 76 = .ok (.if_icmp .ne 8, 3) := dk_160 0 8 (dk_at dksX8_readNever_3 6 rfl rfl)
theorem dX8_readNever_79 : decode cX8_readNever 79 = .ok (.aload_n 0, 1) := dk_42 (dk_at dksX8_readNever_3 9 rfl rfl)
theorem dX8_readNever_80 : decode cX8_readNever 80 = .ok (.iconst 4, 1) := dk_7 (dk_at dksX8_readNever_3 10 rfl rfl)
theorem dX8_readNever_81 : decode cX8_readNever 81 = .ok (.invokevirtual 229, 3) := dk_182 0 229 (dk_at dksX8_readNever_3 11 rfl rfl)
theorem dX8_readNever_84 : decode cX8_readNever 84 = .ok (.aload_n 0, 1) := dk_42 (dk_at dksX8_readNever_3 14 rfl rfl)
theorem dX8_readNever_85 : decode cX8_readNever 85 = .ok (.getfield 208, 3) := dk_180 0 208 (dk_at dksX8_readNever_3 15 rfl rfl)
theorem dX8_readNever_88 : decode cX8_readNever 88 = .ok (.ifCond .eq 4, 3) := dk_153 0 4 (dk_at dksX8_readNever_3 18 rfl rfl)
theorem dX8_readNever_91 : decode cX8_readNever 91 = .ok (.return_, 1) := dk_177 (dk_at dksX8_readNever_3 21 rfl rfl)
theorem dX8_readNever_92 : decode cX8_readNever 92 = .ok (.aload_n 0, 1) := dk_42 (dk_at dksX8_readNever_3 22 rfl rfl)
theorem dX8_readNever_93 : decode cX8_readNever 93 = .ok (.invokevirtual 233, 3) := dk_182 0 233 (dk_at dksX8_readNever_4 0 rfl rfl)
theorem dX8_readNever_96 : decode cX8_readNever 96 = .ok (.aload_n 0, 1) := dk_42 (dk_at dksX8_readNever_4 3 rfl rfl)
theorem dX8_readNever_97 : decode cX8_readNever 97 = .ok (.getfield 59, 3) := dk_180 0 59 (dk_at dksX8_readNever_4 4 rfl rfl)
theorem dX8_readNever_100 : decode cX8_readNever 100 = .ok (.bipush 7, 2) := dk_16 7 (dk_at dksX8_readNever_4 7 rfl rfl)
theorem dX8_readNever_102 : decode cX8_readNever 102 = .ok (.iload_n 1, 1) := dk_27 (dk_at dksX8_readNever_4 9 rfl rfl)
theorem dX8_readNever_103 : decode cX8_readNever 103 = .ok (.iadd, 1) := dk_96 (dk_at dksX8_readNever_4 10 rfl rfl)
theorem dX8_readNever_104 : decode cX8_readNever 104 = .ok (.dup2, 1) := dk_92 (dk_at dksX8_readNever_4 11 rfl rfl)
theorem dX8_readNever_105 : decode cX8_readNever 105 = .ok (.iaload, 1) := dk_46 (dk_at dksX8_readNever_4 12 rfl rfl)
theorem dX8_readNever_106 : decode cX8_readNever 106 = .ok (.iconst 1, 1) := dk_4 (dk_at dksX8_readNever_4 13 rfl rfl)
theorem dX8_readNever_107 : decode cX8_readNever 107 = .ok (.iload_n 2, 1) := dk_28 (dk_at dksX8_readNever_4 14 rfl rfl)
theorem dX8_readNever_108 : decode cX8_readNever 108 = .ok (.ishl, 1) := dk_120 (dk_at dksX8_readNever_4 15 rfl rfl)
theorem dX8_readNever_109 : decode cX8_readNever 109 = .ok (.ior, 1) := dk_128 (dk_at dksX8_readNever_4 16 rfl rfl)
theorem dX8_readNever_110 : decode cX8_readNever 110 = .ok (.iastore, 1) := dk_79 (dk_at dksX8_readNever_4 17 rfl rfl)
theorem dX8_readNever_111 : decode cX8_readNever 111 = .ok (.aload_n 0, 1) := dk_42 (dk_at dksX8_readNever_4 18 rfl rfl)
theorem dX8_readNever_112 : decode cX8_readNever 112 = .ok (.getfield 59, 3) := dk_180 0 59 (dk_at dksX8_readNever_4 19 rfl rfl)
theorem dX8_readNever_115 : decode cX8_readNever 115 = .ok (.bipush 7, 2) := dk_16 7 (dk_at dksX8_readNever_4 22 rfl rfl)
theorem dX8_readNever_117 : decode cX8_readNever 117 = .ok (.iload_n 2, 1) := dk_28 (dk_at dksX8_readNever_5 0 rfl rfl)
theorem dX8_readNever_118 : decode cX8_readNever 118 = .ok (.iadd, 1) := dk_96 (dk_at dksX8_readNever_5 1 rfl rfl)
theorem dX8_readNever_119 : decode cX8_readNever 119 = .ok (.dup2, 1) := dk_92 (dk_at dksX8_readNever_5 2 rfl rfl)
theorem dX8_readNever_120 : decode cX8_readNever 120 = .ok (.iaload, 1) := dk_46 (dk_at dksX8_readNever_5 3 rfl rfl)
theorem dX8_readNever_121 : decode cX8_readNever 121 = .ok (.iconst 1, 1) := dk_4 (dk_at dksX8_readNever_5 4 rfl rfl)
theorem dX8_readNever_122 : decode cX8_readNever 122 = .ok (.iload_n 1, 1) := dk_27 (dk_at dksX8_readNever_5 5 rfl rfl)
theorem dX8_readNever_123 : decode cX8_readNever 123 = .ok (.ishl, 1) := dk_120 (dk_at dksX8_readNever_5 6 rfl rfl)
theorem dX8_readNever_124 : decode cX8_readNever 124 = .ok (.ior, 1) := dk_128 (dk_at dksX8_readNever_5 7 rfl rfl)
theorem dX8_readNever_125 : decode cX8_readNever 125 = .ok (.iastore, 1) := dk_79 (dk_at dksX8_readNever_5 8 rfl rfl)
theorem dX8_readNever_126 : decode cX8_readNever 126 = .ok (.aload_n 0, 1) := dk_42 (dk_at dksX8_readNever_5 9 rfl rfl)
theorem dX8_readNever_127 : decode cX8_readNever 127 = .ok (.getfield 38, 3) := dk_180 0 38 (dk_at dksX8_readNever_5 10 rfl rfl)
theorem dX8_readNever_130 : decode cX8_readNever 130 = .ok (.bipush 14, 2) := dk_16 14 (dk_at dksX8_readNever_5 13 rfl rfl)
theorem dX8_readNever_132 : decode cX8_readNever 132 = .ok (.dup2, 1) := dk_92 (dk_at dksX8_readNever_5 15 rfl rfl)
theorem dX8_readNever_133 : decode cX8_readNever 133 = .ok (.iaload, 1) := dk_46 (dk_at dksX8_readNever_5 16 rfl rfl)
theorem dX8_readNever_134 : decode cX8_readNever 134 = .ok (.iconst 1, 1) := dk_4 (dk_at dksX8_readNever_5 17 rfl rfl)
theorem dX8_readNever_135 : decode cX8_readNever 135 = .ok (.iadd, 1) := dk_96 (dk_at dksX8_readNever_5 18 rfl rfl)
theorem dX8_readNever_136 : decode cX8_readNever 136 = .ok (.iastore, 1) := dk_79 (dk_at dksX8_readNever_5 19 rfl rfl)
theorem dX8_readNever_137 : decode cX8_readNever 137 = .ok (.return_, 1) := dk_177 (dk_at dksX8_readNever_5 20 rfl rfl)
abbrev cX8_sleeperNow : ByteArray := prog_21_method_19_code
def yX8_sleeperNow : MethodName := ⟨RX8, "sleeperNow", "()I"⟩
def dkwX8_sleeperNow_1 : List UInt8 := [161, 0, 8, 42, 6, 182, 0, 229, 42, 180, 0, 208, 154, 0, 7, 27, 167, 0, 4, 3, 172]
abbrev dktX8_sleeperNow_1 : List UInt8 := dkwX8_sleeperNow_1 ++ []
def dkwX8_sleeperNow_0 : List UInt8 := [42, 3, 17, 39, 15, 182, 0, 236, 60, 42, 180, 0, 208, 154, 0, 19, 27, 42, 180, 0, 38, 16, 8, 46]
abbrev dktX8_sleeperNow_0 : List UInt8 := dkwX8_sleeperNow_0 ++ dktX8_sleeperNow_1
theorem dksX8_sleeperNow_0 : cX8_sleeperNow.data.toList.drop 0 = dktX8_sleeperNow_0 := by decide +kernel
theorem dksX8_sleeperNow_1 : cX8_sleeperNow.data.toList.drop 24 = dktX8_sleeperNow_1 := dk_seg dksX8_sleeperNow_0 24 rfl rfl
theorem dX8_sleeperNow_0 : decode cX8_sleeperNow 0 = .ok (.aload_n 0, 1) := dk_42 (dk_at dksX8_sleeperNow_0 0 rfl rfl)
theorem dX8_sleeperNow_1 : decode cX8_sleeperNow 1 = .ok (.iconst 0, 1) := dk_3 (dk_at dksX8_sleeperNow_0 1 rfl rfl)
theorem dX8_sleeperNow_2 : decode cX8_sleeperNow 2 = .ok (.sipush 9999, 3) := dk_17 39 15 (dk_at dksX8_sleeperNow_0 2 rfl rfl)
theorem dX8_sleeperNow_5 : decode cX8_sleeperNow 5 = .ok (.invokevirtual 236, 3) := dk_182 0 236 (dk_at dksX8_sleeperNow_0 5 rfl rfl)
theorem dX8_sleeperNow_8 : decode cX8_sleeperNow 8 = .ok (.istore_n 1, 1) := dk_60 (dk_at dksX8_sleeperNow_0 8 rfl rfl)
theorem dX8_sleeperNow_9 : decode cX8_sleeperNow 9 = .ok (.aload_n 0, 1) := dk_42 (dk_at dksX8_sleeperNow_0 9 rfl rfl)
theorem dX8_sleeperNow_10 : decode cX8_sleeperNow 10 = .ok (.getfield 208, 3) := dk_180 0 208 (dk_at dksX8_sleeperNow_0 10 rfl rfl)
theorem dX8_sleeperNow_13 : decode cX8_sleeperNow 13 = .ok (.ifCond .ne 19, 3) := dk_154 0 19 (dk_at dksX8_sleeperNow_0 13 rfl rfl)
theorem dX8_sleeperNow_16 : decode cX8_sleeperNow 16 = .ok (.iload_n 1, 1) := dk_27 (dk_at dksX8_sleeperNow_0 16 rfl rfl)
theorem dX8_sleeperNow_17 : decode cX8_sleeperNow 17 = .ok (.aload_n 0, 1) := dk_42 (dk_at dksX8_sleeperNow_0 17 rfl rfl)
theorem dX8_sleeperNow_18 : decode cX8_sleeperNow 18 = .ok (.getfield 38, 3) := dk_180 0 38 (dk_at dksX8_sleeperNow_0 18 rfl rfl)
theorem dX8_sleeperNow_21 : decode cX8_sleeperNow 21 = .ok (.bipush 8, 2) := dk_16 8 (dk_at dksX8_sleeperNow_0 21 rfl rfl)
theorem dX8_sleeperNow_23 : decode cX8_sleeperNow 23 = .ok (.iaload, 1) := dk_46 (dk_at dksX8_sleeperNow_0 23 rfl rfl)
theorem dX8_sleeperNow_24 : decode cX8_sleeperNow 24 = .ok (.if_icmp .lt 8, 3) := dk_161 0 8 (dk_at dksX8_sleeperNow_1 0 rfl rfl)
theorem dX8_sleeperNow_27 : decode cX8_sleeperNow 27 = .ok (.aload_n 0, 1) := dk_42 (dk_at dksX8_sleeperNow_1 3 rfl rfl)
theorem dX8_sleeperNow_28 : decode cX8_sleeperNow 28 = .ok (.iconst 3, 1) := dk_6 (dk_at dksX8_sleeperNow_1 4 rfl rfl)
theorem dX8_sleeperNow_29 : decode cX8_sleeperNow 29 = .ok (.invokevirtual 229, 3) := dk_182 0 229 (dk_at dksX8_sleeperNow_1 5 rfl rfl)
theorem dX8_sleeperNow_32 : decode cX8_sleeperNow 32 = .ok (.aload_n 0, 1) := dk_42 (dk_at dksX8_sleeperNow_1 8 rfl rfl)
theorem dX8_sleeperNow_33 : decode cX8_sleeperNow 33 = .ok (.getfield 208, 3) := dk_180 0 208 (dk_at dksX8_sleeperNow_1 9 rfl rfl)
theorem dX8_sleeperNow_36 : decode cX8_sleeperNow 36 = .ok (.ifCond .ne 7, 3) := dk_154 0 7 (dk_at dksX8_sleeperNow_1 12 rfl rfl)
theorem dX8_sleeperNow_39 : decode cX8_sleeperNow 39 = .ok (.iload_n 1, 1) := dk_27 (dk_at dksX8_sleeperNow_1 15 rfl rfl)
theorem dX8_sleeperNow_40 : decode cX8_sleeperNow 40 = .ok (.goto 4, 3) := dk_167 0 4 (dk_at dksX8_sleeperNow_1 16 rfl rfl)
theorem dX8_sleeperNow_43 : decode cX8_sleeperNow 43 = .ok (.iconst 0, 1) := dk_3 (dk_at dksX8_sleeperNow_1 19 rfl rfl)
theorem dX8_sleeperNow_44 : decode cX8_sleeperNow 44 = .ok (.ireturn, 1) := dk_172 (dk_at dksX8_sleeperNow_1 20 rfl rfl)
abbrev cX8_takeOver : ByteArray := prog_21_method_33_code
def yX8_takeOver : MethodName := ⟨RX8, "takeOver", "()V"⟩
def dkwX8_takeOver_5 : List UInt8 := [3, 181, 1, 71, 42, 3, 181, 1, 74, 42, 3, 181, 1, 78, 177]
abbrev dktX8_takeOver_5 : List UInt8 := dkwX8_takeOver_5 ++ []
def dkwX8_takeOver_4 : List UInt8 := [181, 0, 81, 42, 3, 181, 1, 62, 42, 42, 180, 0, 38, 8, 46, 181, 1, 65, 42, 3, 181, 1, 68, 42]
abbrev dktX8_takeOver_4 : List UInt8 := dkwX8_takeOver_4 ++ dktX8_takeOver_5
def dkwX8_takeOver_3 : List UInt8 := [162, 0, 16, 42, 180, 0, 75, 27, 27, 79, 132, 1, 1, 167, 255, 240, 42, 3, 181, 1, 59, 42, 2]
abbrev dktX8_takeOver_3 : List UInt8 := dkwX8_takeOver_3 ++ dktX8_takeOver_4
def dkwX8_takeOver_2 : List UInt8 := [184, 1, 55, 42, 180, 0, 59, 184, 1, 55, 42, 180, 0, 62, 184, 1, 55, 3, 60, 27, 16, 7]
abbrev dktX8_takeOver_2 : List UInt8 := dkwX8_takeOver_2 ++ dktX8_takeOver_3
def dkwX8_takeOver_1 : List UInt8 := [180, 0, 48, 184, 1, 55, 42, 180, 0, 50, 184, 1, 55, 42, 180, 0, 53, 184, 1, 55, 42, 180, 0, 56]
abbrev dktX8_takeOver_1 : List UInt8 := dkwX8_takeOver_1 ++ dktX8_takeOver_2
def dkwX8_takeOver_0 : List UInt8 := [42, 180, 0, 38, 184, 1, 55, 42, 180, 0, 42, 184, 1, 55, 42, 180, 0, 45, 184, 1, 55, 42]
abbrev dktX8_takeOver_0 : List UInt8 := dkwX8_takeOver_0 ++ dktX8_takeOver_1
theorem dksX8_takeOver_0 : cX8_takeOver.data.toList.drop 0 = dktX8_takeOver_0 := by decide +kernel
theorem dksX8_takeOver_1 : cX8_takeOver.data.toList.drop 22 = dktX8_takeOver_1 := dk_seg dksX8_takeOver_0 22 rfl rfl
theorem dksX8_takeOver_2 : cX8_takeOver.data.toList.drop 46 = dktX8_takeOver_2 := dk_seg dksX8_takeOver_1 24 rfl rfl
theorem dksX8_takeOver_3 : cX8_takeOver.data.toList.drop 68 = dktX8_takeOver_3 := dk_seg dksX8_takeOver_2 22 rfl rfl
theorem dksX8_takeOver_4 : cX8_takeOver.data.toList.drop 91 = dktX8_takeOver_4 := dk_seg dksX8_takeOver_3 23 rfl rfl
theorem dksX8_takeOver_5 : cX8_takeOver.data.toList.drop 115 = dktX8_takeOver_5 := dk_seg dksX8_takeOver_4 24 rfl rfl
theorem dX8_takeOver_0 : decode cX8_takeOver 0 = .ok (.aload_n 0, 1) := dk_42 (dk_at dksX8_takeOver_0 0 rfl rfl)
theorem dX8_takeOver_1 : decode cX8_takeOver 1 = .ok (.getfield 38, 3) := dk_180 0 38 (dk_at dksX8_takeOver_0 1 rfl rfl)
theorem dX8_takeOver_4 : decode cX8_takeOver 4 = .ok (.invokestatic 311, 3) := dk_184 1 55 (dk_at dksX8_takeOver_0 4 rfl rfl)
theorem dX8_takeOver_7 : decode cX8_takeOver 7 = .ok (.aload_n 0, 1) := dk_42 (dk_at dksX8_takeOver_0 7 rfl rfl)
theorem dX8_takeOver_8 : decode cX8_takeOver 8 = .ok (.getfield 42, 3) := dk_180 0 42 (dk_at dksX8_takeOver_0 8 rfl rfl)
theorem dX8_takeOver_11 : decode cX8_takeOver 11 = .ok (.invokestatic 311, 3) := dk_184 1 55 (dk_at dksX8_takeOver_0 11 rfl rfl)
theorem dX8_takeOver_14 : decode cX8_takeOver 14 = .ok (.aload_n 0, 1) := dk_42 (dk_at dksX8_takeOver_0 14 rfl rfl)
theorem dX8_takeOver_15 : decode cX8_takeOver 15 = .ok (.getfield 45, 3) := dk_180 0 45 (dk_at dksX8_takeOver_0 15 rfl rfl)
theorem dX8_takeOver_18 : decode cX8_takeOver 18 = .ok (.invokestatic 311, 3) := dk_184 1 55 (dk_at dksX8_takeOver_0 18 rfl rfl)
theorem dX8_takeOver_21 : decode cX8_takeOver 21 = .ok (.aload_n 0, 1) := dk_42 (dk_at dksX8_takeOver_0 21 rfl rfl)
theorem dX8_takeOver_22 : decode cX8_takeOver 22 = .ok (.getfield 48, 3) := dk_180 0 48 (dk_at dksX8_takeOver_1 0 rfl rfl)
theorem dX8_takeOver_25 : decode cX8_takeOver 25 = .ok (.invokestatic 311, 3) := dk_184 1 55 (dk_at dksX8_takeOver_1 3 rfl rfl)
theorem dX8_takeOver_28 : decode cX8_takeOver 28 = .ok (.aload_n 0, 1) := dk_42 (dk_at dksX8_takeOver_1 6 rfl rfl)
theorem dX8_takeOver_29 : decode cX8_takeOver 29 = .ok (.getfield 50, 3) := dk_180 0 50 (dk_at dksX8_takeOver_1 7 rfl rfl)
theorem dX8_takeOver_32 : decode cX8_takeOver 32 = .ok (.invokestatic 311, 3) := dk_184 1 55 (dk_at dksX8_takeOver_1 10 rfl rfl)
theorem dX8_takeOver_35 : decode cX8_takeOver 35 = .ok (.aload_n 0, 1) := dk_42 (dk_at dksX8_takeOver_1 13 rfl rfl)
theorem dX8_takeOver_36 : decode cX8_takeOver 36 = .ok (.getfield 53, 3) := dk_180 0 53 (dk_at dksX8_takeOver_1 14 rfl rfl)
theorem dX8_takeOver_39 : decode cX8_takeOver 39 = .ok (.invokestatic 311, 3) := dk_184 1 55 (dk_at dksX8_takeOver_1 17 rfl rfl)
theorem dX8_takeOver_42 : decode cX8_takeOver 42 = .ok (.aload_n 0, 1) := dk_42 (dk_at dksX8_takeOver_1 20 rfl rfl)
theorem dX8_takeOver_43 : decode cX8_takeOver 43 = .ok (.getfield 56, 3) := dk_180 0 56 (dk_at dksX8_takeOver_1 21 rfl rfl)
theorem dX8_takeOver_46 : decode cX8_takeOver 46 = .ok (.invokestatic 311, 3) := dk_184 1 55 (dk_at dksX8_takeOver_2 0 rfl rfl)
theorem dX8_takeOver_49 : decode cX8_takeOver 49 = .ok (.aload_n 0, 1) := dk_42 (dk_at dksX8_takeOver_2 3 rfl rfl)
theorem dX8_takeOver_50 : decode cX8_takeOver 50 = .ok (.getfield 59, 3) := dk_180 0 59 (dk_at dksX8_takeOver_2 4 rfl rfl)
theorem dX8_takeOver_53 : decode cX8_takeOver 53 = .ok (.invokestatic 311, 3) := dk_184 1 55 (dk_at dksX8_takeOver_2 7 rfl rfl)
theorem dX8_takeOver_56 : decode cX8_takeOver 56 = .ok (.aload_n 0, 1) := dk_42 (dk_at dksX8_takeOver_2 10 rfl rfl)
theorem dX8_takeOver_57 : decode cX8_takeOver 57 = .ok (.getfield 62, 3) := dk_180 0 62 (dk_at dksX8_takeOver_2 11 rfl rfl)
theorem dX8_takeOver_60 : decode cX8_takeOver 60 = .ok (.invokestatic 311, 3) := dk_184 1 55 (dk_at dksX8_takeOver_2 14 rfl rfl)
theorem dX8_takeOver_63 : decode cX8_takeOver 63 = .ok (.iconst 0, 1) := dk_3 (dk_at dksX8_takeOver_2 17 rfl rfl)
theorem dX8_takeOver_64 : decode cX8_takeOver 64 = .ok (.istore_n 1, 1) := dk_60 (dk_at dksX8_takeOver_2 18 rfl rfl)
theorem dX8_takeOver_65 : decode cX8_takeOver 65 = .ok (.iload_n 1, 1) := dk_27 (dk_at dksX8_takeOver_2 19 rfl rfl)
theorem dX8_takeOver_66 : decode cX8_takeOver 66 = .ok (.bipush 7, 2) := dk_16 7 (dk_at dksX8_takeOver_2 20 rfl rfl)
theorem dX8_takeOver_68 : decode cX8_takeOver 68 = .ok (.if_icmp .ge 16, 3) := dk_162 0 16 (dk_at dksX8_takeOver_3 0 rfl rfl)
theorem dX8_takeOver_71 : decode cX8_takeOver 71 = .ok (.aload_n 0, 1) := dk_42 (dk_at dksX8_takeOver_3 3 rfl rfl)
theorem dX8_takeOver_72 : decode cX8_takeOver 72 = .ok (.getfield 75, 3) := dk_180 0 75 (dk_at dksX8_takeOver_3 4 rfl rfl)
theorem dX8_takeOver_75 : decode cX8_takeOver 75 = .ok (.iload_n 1, 1) := dk_27 (dk_at dksX8_takeOver_3 7 rfl rfl)
theorem dX8_takeOver_76 : decode cX8_takeOver 76 = .ok (.iload_n 1, 1) := dk_27 (dk_at dksX8_takeOver_3 8 rfl rfl)
theorem dX8_takeOver_77 : decode cX8_takeOver 77 = .ok (.iastore, 1) := dk_79 (dk_at dksX8_takeOver_3 9 rfl rfl)
theorem dX8_takeOver_78 : decode cX8_takeOver 78 = .ok (.iinc 1 1, 3) := dk_132 1 1 (dk_at dksX8_takeOver_3 10 rfl rfl)
theorem dX8_takeOver_81 : decode cX8_takeOver 81 = .ok (.goto (-16), 3) := dk_167 255 240 (dk_at dksX8_takeOver_3 13 rfl rfl)
theorem dX8_takeOver_84 : decode cX8_takeOver 84 = .ok (.aload_n 0, 1) := dk_42 (dk_at dksX8_takeOver_3 16 rfl rfl)
theorem dX8_takeOver_85 : decode cX8_takeOver 85 = .ok (.iconst 0, 1) := dk_3 (dk_at dksX8_takeOver_3 17 rfl rfl)
theorem dX8_takeOver_86 : decode cX8_takeOver 86 = .ok (.putfield 315, 3) := dk_181 1 59 (dk_at dksX8_takeOver_3 18 rfl rfl)
theorem dX8_takeOver_89 : decode cX8_takeOver 89 = .ok (.aload_n 0, 1) := dk_42 (dk_at dksX8_takeOver_3 21 rfl rfl)
theorem dX8_takeOver_90 : decode cX8_takeOver 90 = .ok (.iconst (-1), 1) := dk_2 (dk_at dksX8_takeOver_3 22 rfl rfl)
theorem dX8_takeOver_91 : decode cX8_takeOver 91 = .ok (.putfield 81, 3) := dk_181 0 81 (dk_at dksX8_takeOver_4 0 rfl rfl)
theorem dX8_takeOver_94 : decode cX8_takeOver 94 = .ok (.aload_n 0, 1) := dk_42 (dk_at dksX8_takeOver_4 3 rfl rfl)
theorem dX8_takeOver_95 : decode cX8_takeOver 95 = .ok (.iconst 0, 1) := dk_3 (dk_at dksX8_takeOver_4 4 rfl rfl)
theorem dX8_takeOver_96 : decode cX8_takeOver 96 = .ok (.putfield 318, 3) := dk_181 1 62 (dk_at dksX8_takeOver_4 5 rfl rfl)
theorem dX8_takeOver_99 : decode cX8_takeOver 99 = .ok (.aload_n 0, 1) := dk_42 (dk_at dksX8_takeOver_4 8 rfl rfl)
theorem dX8_takeOver_100 : decode cX8_takeOver 100 = .ok (.aload_n 0, 1) := dk_42 (dk_at dksX8_takeOver_4 9 rfl rfl)
theorem dX8_takeOver_101 : decode cX8_takeOver 101 = .ok (.getfield 38, 3) := dk_180 0 38 (dk_at dksX8_takeOver_4 10 rfl rfl)
theorem dX8_takeOver_104 : decode cX8_takeOver 104 = .ok (.iconst 5, 1) := dk_8 (dk_at dksX8_takeOver_4 13 rfl rfl)
theorem dX8_takeOver_105 : decode cX8_takeOver 105 = .ok (.iaload, 1) := dk_46 (dk_at dksX8_takeOver_4 14 rfl rfl)
theorem dX8_takeOver_106 : decode cX8_takeOver 106 = .ok (.putfield 321, 3) := dk_181 1 65 (dk_at dksX8_takeOver_4 15 rfl rfl)
theorem dX8_takeOver_109 : decode cX8_takeOver 109 = .ok (.aload_n 0, 1) := dk_42 (dk_at dksX8_takeOver_4 18 rfl rfl)
theorem dX8_takeOver_110 : decode cX8_takeOver 110 = .ok (.iconst 0, 1) := dk_3 (dk_at dksX8_takeOver_4 19 rfl rfl)
theorem dX8_takeOver_111 : decode cX8_takeOver 111 = .ok (.putfield 324, 3) := dk_181 1 68 (dk_at dksX8_takeOver_4 20 rfl rfl)
theorem dX8_takeOver_114 : decode cX8_takeOver 114 = .ok (.aload_n 0, 1) := dk_42 (dk_at dksX8_takeOver_4 23 rfl rfl)
theorem dX8_takeOver_115 : decode cX8_takeOver 115 = .ok (.iconst 0, 1) := dk_3 (dk_at dksX8_takeOver_5 0 rfl rfl)
theorem dX8_takeOver_116 : decode cX8_takeOver 116 = .ok (.putfield 327, 3) := dk_181 1 71 (dk_at dksX8_takeOver_5 1 rfl rfl)
theorem dX8_takeOver_119 : decode cX8_takeOver 119 = .ok (.aload_n 0, 1) := dk_42 (dk_at dksX8_takeOver_5 4 rfl rfl)
theorem dX8_takeOver_120 : decode cX8_takeOver 120 = .ok (.iconst 0, 1) := dk_3 (dk_at dksX8_takeOver_5 5 rfl rfl)
theorem dX8_takeOver_121 : decode cX8_takeOver 121 = .ok (.putfield 330, 3) := dk_181 1 74 (dk_at dksX8_takeOver_5 6 rfl rfl)
theorem dX8_takeOver_124 : decode cX8_takeOver 124 = .ok (.aload_n 0, 1) := dk_42 (dk_at dksX8_takeOver_5 9 rfl rfl)
theorem dX8_takeOver_125 : decode cX8_takeOver 125 = .ok (.iconst 0, 1) := dk_3 (dk_at dksX8_takeOver_5 10 rfl rfl)
theorem dX8_takeOver_126 : decode cX8_takeOver 126 = .ok (.putfield 334, 3) := dk_181 1 78 (dk_at dksX8_takeOver_5 11 rfl rfl)
theorem dX8_takeOver_129 : decode cX8_takeOver 129 = .ok (.return_, 1) := dk_177 (dk_at dksX8_takeOver_5 14 rfl rfl)
abbrev cX8_takeHalf : ByteArray := prog_21_method_32_code
def yX8_takeHalf : MethodName := ⟨RX8, "takeHalf", "([I)V"⟩
def dkwX8_takeHalf_1 : List UInt8 := [167, 255, 234, 177]
abbrev dktX8_takeHalf_1 : List UInt8 := dkwX8_takeHalf_1 ++ []
def dkwX8_takeHalf_0 : List UInt8 := [3, 60, 27, 42, 190, 5, 108, 162, 0, 20, 42, 27, 42, 42, 190, 5, 108, 27, 96, 46, 79, 132, 1, 1]
abbrev dktX8_takeHalf_0 : List UInt8 := dkwX8_takeHalf_0 ++ dktX8_takeHalf_1
theorem dksX8_takeHalf_0 : cX8_takeHalf.data.toList.drop 0 = dktX8_takeHalf_0 := by decide +kernel
theorem dksX8_takeHalf_1 : cX8_takeHalf.data.toList.drop 24 = dktX8_takeHalf_1 := dk_seg dksX8_takeHalf_0 24 rfl rfl
theorem dX8_takeHalf_0 : decode cX8_takeHalf 0 = .ok (.iconst 0, 1) := dk_3 (dk_at dksX8_takeHalf_0 0 rfl rfl)
theorem dX8_takeHalf_1 : decode cX8_takeHalf 1 = .ok (.istore_n 1, 1) := dk_60 (dk_at dksX8_takeHalf_0 1 rfl rfl)
theorem dX8_takeHalf_2 : decode cX8_takeHalf 2 = .ok (.iload_n 1, 1) := dk_27 (dk_at dksX8_takeHalf_0 2 rfl rfl)
theorem dX8_takeHalf_3 : decode cX8_takeHalf 3 = .ok (.aload_n 0, 1) := dk_42 (dk_at dksX8_takeHalf_0 3 rfl rfl)
theorem dX8_takeHalf_4 : decode cX8_takeHalf 4 = .ok (.arraylength, 1) := dk_190 (dk_at dksX8_takeHalf_0 4 rfl rfl)
theorem dX8_takeHalf_5 : decode cX8_takeHalf 5 = .ok (.iconst 2, 1) := dk_5 (dk_at dksX8_takeHalf_0 5 rfl rfl)
theorem dX8_takeHalf_6 : decode cX8_takeHalf 6 = .ok (.idiv, 1) := dk_108 (dk_at dksX8_takeHalf_0 6 rfl rfl)
theorem dX8_takeHalf_7 : decode cX8_takeHalf 7 = .ok (.if_icmp .ge 20, 3) := dk_162 0 20 (dk_at dksX8_takeHalf_0 7 rfl rfl)
theorem dX8_takeHalf_10 : decode cX8_takeHalf 10 = .ok (.aload_n 0, 1) := dk_42 (dk_at dksX8_takeHalf_0 10 rfl rfl)
theorem dX8_takeHalf_11 : decode cX8_takeHalf 11 = .ok (.iload_n 1, 1) := dk_27 (dk_at dksX8_takeHalf_0 11 rfl rfl)
theorem dX8_takeHalf_12 : decode cX8_takeHalf 12 = .ok (.aload_n 0, 1) := dk_42 (dk_at dksX8_takeHalf_0 12 rfl rfl)
theorem dX8_takeHalf_13 : decode cX8_takeHalf 13 = .ok (.aload_n 0, 1) := dk_42 (dk_at dksX8_takeHalf_0 13 rfl rfl)
theorem dX8_takeHalf_14 : decode cX8_takeHalf 14 = .ok (.arraylength, 1) := dk_190 (dk_at dksX8_takeHalf_0 14 rfl rfl)
theorem dX8_takeHalf_15 : decode cX8_takeHalf 15 = .ok (.iconst 2, 1) := dk_5 (dk_at dksX8_takeHalf_0 15 rfl rfl)
theorem dX8_takeHalf_16 : decode cX8_takeHalf 16 = .ok (.idiv, 1) := dk_108 (dk_at dksX8_takeHalf_0 16 rfl rfl)
theorem dX8_takeHalf_17 : decode cX8_takeHalf 17 = .ok (.iload_n 1, 1) := dk_27 (dk_at dksX8_takeHalf_0 17 rfl rfl)
theorem dX8_takeHalf_18 : decode cX8_takeHalf 18 = .ok (.iadd, 1) := dk_96 (dk_at dksX8_takeHalf_0 18 rfl rfl)
theorem dX8_takeHalf_19 : decode cX8_takeHalf 19 = .ok (.iaload, 1) := dk_46 (dk_at dksX8_takeHalf_0 19 rfl rfl)
theorem dX8_takeHalf_20 : decode cX8_takeHalf 20 = .ok (.iastore, 1) := dk_79 (dk_at dksX8_takeHalf_0 20 rfl rfl)
theorem dX8_takeHalf_21 : decode cX8_takeHalf 21 = .ok (.iinc 1 1, 3) := dk_132 1 1 (dk_at dksX8_takeHalf_0 21 rfl rfl)
theorem dX8_takeHalf_24 : decode cX8_takeHalf 24 = .ok (.goto (-22), 3) := dk_167 255 234 (dk_at dksX8_takeHalf_1 0 rfl rfl)
theorem dX8_takeHalf_27 : decode cX8_takeHalf 27 = .ok (.return_, 1) := dk_177 (dk_at dksX8_takeHalf_1 3 rfl rfl)
abbrev cX8_fault : ByteArray := prog_21_method_34_code
def yX8_fault : MethodName := ⟨RX8, "fault", "()I"⟩
def dkwX8_fault_0 : List UInt8 := [42, 3, 181, 0, 159, 42, 180, 0, 71, 172]
abbrev dktX8_fault_0 : List UInt8 := dkwX8_fault_0 ++ []
theorem dksX8_fault_0 : cX8_fault.data.toList.drop 0 = dktX8_fault_0 := by decide +kernel
theorem dX8_fault_0 : decode cX8_fault 0 = .ok (.aload_n 0, 1) := dk_42 (dk_at dksX8_fault_0 0 rfl rfl)
theorem dX8_fault_1 : decode cX8_fault 1 = .ok (.iconst 0, 1) := dk_3 (dk_at dksX8_fault_0 1 rfl rfl)
theorem dX8_fault_2 : decode cX8_fault 2 = .ok (.putfield 159, 3) := dk_181 0 159 (dk_at dksX8_fault_0 2 rfl rfl)
theorem dX8_fault_5 : decode cX8_fault 5 = .ok (.aload_n 0, 1) := dk_42 (dk_at dksX8_fault_0 5 rfl rfl)
theorem dX8_fault_6 : decode cX8_fault 6 = .ok (.getfield 71, 3) := dk_180 0 71 (dk_at dksX8_fault_0 6 rfl rfl)
theorem dX8_fault_9 : decode cX8_fault 9 = .ok (.ireturn, 1) := dk_172 (dk_at dksX8_fault_0 9 rfl rfl)
abbrev cX8_count : ByteArray := prog_21_method_55_code
def yX8_count : MethodName := ⟨RX8, "count", "(I)I"⟩
def dkwX8_count_5 : List UInt8 := [27, 16, 14, 100, 46, 172, 42, 4, 182, 1, 46, 172]
abbrev dktX8_count_5 : List UInt8 := dkwX8_count_5 ++ []
def dkwX8_count_4 : List UInt8 := [167, 0, 4, 3, 172, 42, 180, 1, 68, 172, 42, 180, 1, 71, 172, 42, 180, 0, 166, 172, 42, 180, 0, 65]
abbrev dktX8_count_4 : List UInt8 := dkwX8_count_4 ++ dktX8_count_5
def dkwX8_count_3 : List UInt8 := [172, 42, 180, 0, 81, 172, 42, 180, 1, 62, 172, 42, 182, 1, 157, 42, 180, 1, 100, 153, 0, 7, 4]
abbrev dktX8_count_3 : List UInt8 := dkwX8_count_3 ++ dktX8_count_4
def dkwX8_count_2 : List UInt8 := [42, 180, 0, 38, 27, 46, 172, 42, 180, 1, 65, 172, 42, 180, 0, 38, 16, 6, 46, 172, 42, 180, 1, 59]
abbrev dktX8_count_2 : List UInt8 := dkwX8_count_2 ++ dktX8_count_3
def dkwX8_count_1 : List UInt8 := [170, 0, 0, 0, 0, 159, 0, 0, 0, 0, 0, 0, 0, 16, 0, 0, 0, 82, 0, 0, 0, 82, 0, 0, 0, 82, 0, 0, 0, 82, 0, 0, 0, 82, 0, 0, 0, 89, 0, 0, 0, 94, 0, 0, 0, 102, 0, 0, 0, 107, 0, 0, 0, 112, 0, 0, 0, 117, 0, 0, 0, 134, 0, 0, 0, 139, 0, 0, 0, 144, 0, 0, 0, 149, 0, 0, 0, 149, 0, 0, 0, 149]
abbrev dktX8_count_1 : List UInt8 := dkwX8_count_1 ++ dktX8_count_2
def dkwX8_count_0 : List UInt8 := [42, 3, 181, 0, 159, 27]
abbrev dktX8_count_0 : List UInt8 := dkwX8_count_0 ++ dktX8_count_1
theorem dksX8_count_0 : cX8_count.data.toList.drop 0 = dktX8_count_0 := by decide +kernel
theorem dksX8_count_1 : cX8_count.data.toList.drop 6 = dktX8_count_1 := dk_seg dksX8_count_0 6 rfl rfl
theorem dksX8_count_2 : cX8_count.data.toList.drop 88 = dktX8_count_2 := dk_seg dksX8_count_1 82 rfl rfl
theorem dksX8_count_3 : cX8_count.data.toList.drop 112 = dktX8_count_3 := dk_seg dksX8_count_2 24 rfl rfl
theorem dksX8_count_4 : cX8_count.data.toList.drop 135 = dktX8_count_4 := dk_seg dksX8_count_3 23 rfl rfl
theorem dksX8_count_5 : cX8_count.data.toList.drop 159 = dktX8_count_5 := dk_seg dksX8_count_4 24 rfl rfl
theorem dX8_count_0 : decode cX8_count 0 = .ok (.aload_n 0, 1) := dk_42 (dk_at dksX8_count_0 0 rfl rfl)
theorem dX8_count_1 : decode cX8_count 1 = .ok (.iconst 0, 1) := dk_3 (dk_at dksX8_count_0 1 rfl rfl)
theorem dX8_count_2 : decode cX8_count 2 = .ok (.putfield 159, 3) := dk_181 0 159 (dk_at dksX8_count_0 2 rfl rfl)
theorem dX8_count_5 : decode cX8_count 5 = .ok (.iload_n 1, 1) := dk_27 (dk_at dksX8_count_0 5 rfl rfl)
theorem dX8_count_6 : decode cX8_count 6 = .ok (.tableswitch 159 0 16 #[82, 82, 82, 82, 82, 89, 94, 102, 107, 112, 117, 134, 139, 144, 149, 149, 149], 82) := by decide +kernel
theorem dX8_count_88 : decode cX8_count 88 = .ok (.aload_n 0, 1) := dk_42 (dk_at dksX8_count_2 0 rfl rfl)
theorem dX8_count_89 : decode cX8_count 89 = .ok (.getfield 38, 3) := dk_180 0 38 (dk_at dksX8_count_2 1 rfl rfl)
theorem dX8_count_92 : decode cX8_count 92 = .ok (.iload_n 1, 1) := dk_27 (dk_at dksX8_count_2 4 rfl rfl)
theorem dX8_count_93 : decode cX8_count 93 = .ok (.iaload, 1) := dk_46 (dk_at dksX8_count_2 5 rfl rfl)
theorem dX8_count_94 : decode cX8_count 94 = .ok (.ireturn, 1) := dk_172 (dk_at dksX8_count_2 6 rfl rfl)
theorem dX8_count_95 : decode cX8_count 95 = .ok (.aload_n 0, 1) := dk_42 (dk_at dksX8_count_2 7 rfl rfl)
theorem dX8_count_96 : decode cX8_count 96 = .ok (.getfield 321, 3) := dk_180 1 65 (dk_at dksX8_count_2 8 rfl rfl)
theorem dX8_count_99 : decode cX8_count 99 = .ok (.ireturn, 1) := dk_172 (dk_at dksX8_count_2 11 rfl rfl)
theorem dX8_count_100 : decode cX8_count 100 = .ok (.aload_n 0, 1) := dk_42 (dk_at dksX8_count_2 12 rfl rfl)
theorem dX8_count_101 : decode cX8_count 101 = .ok (.getfield 38, 3) := dk_180 0 38 (dk_at dksX8_count_2 13 rfl rfl)
theorem dX8_count_104 : decode cX8_count 104 = .ok (.bipush 6, 2) := dk_16 6 (dk_at dksX8_count_2 16 rfl rfl)
theorem dX8_count_106 : decode cX8_count 106 = .ok (.iaload, 1) := dk_46 (dk_at dksX8_count_2 18 rfl rfl)
theorem dX8_count_107 : decode cX8_count 107 = .ok (.ireturn, 1) := dk_172 (dk_at dksX8_count_2 19 rfl rfl)
theorem dX8_count_108 : decode cX8_count 108 = .ok (.aload_n 0, 1) := dk_42 (dk_at dksX8_count_2 20 rfl rfl)
theorem dX8_count_109 : decode cX8_count 109 = .ok (.getfield 315, 3) := dk_180 1 59 (dk_at dksX8_count_2 21 rfl rfl)
theorem dX8_count_112 : decode cX8_count 112 = .ok (.ireturn, 1) := dk_172 (dk_at dksX8_count_3 0 rfl rfl)
theorem dX8_count_113 : decode cX8_count 113 = .ok (.aload_n 0, 1) := dk_42 (dk_at dksX8_count_3 1 rfl rfl)
theorem dX8_count_114 : decode cX8_count 114 = .ok (.getfield 81, 3) := dk_180 0 81 (dk_at dksX8_count_3 2 rfl rfl)
theorem dX8_count_117 : decode cX8_count 117 = .ok (.ireturn, 1) := dk_172 (dk_at dksX8_count_3 5 rfl rfl)
theorem dX8_count_118 : decode cX8_count 118 = .ok (.aload_n 0, 1) := dk_42 (dk_at dksX8_count_3 6 rfl rfl)
theorem dX8_count_119 : decode cX8_count 119 = .ok (.getfield 318, 3) := dk_180 1 62 (dk_at dksX8_count_3 7 rfl rfl)
theorem dX8_count_122 : decode cX8_count 122 = .ok (.ireturn, 1) := dk_172 (dk_at dksX8_count_3 10 rfl rfl)
theorem dX8_count_123 : decode cX8_count 123 = .ok (.aload_n 0, 1) := dk_42 (dk_at dksX8_count_3 11 rfl rfl)
theorem dX8_count_124 : decode cX8_count 124 = .ok (.invokevirtual 413, 3) := dk_182 1 157 (dk_at dksX8_count_3 12 rfl rfl)
theorem dX8_count_127 : decode cX8_count 127 = .ok (.aload_n 0, 1) := dk_42 (dk_at dksX8_count_3 15 rfl rfl)
theorem dX8_count_128 : decode cX8_count 128 = .ok (.getfield 356, 3) := dk_180 1 100 (dk_at dksX8_count_3 16 rfl rfl)
theorem dX8_count_131 : decode cX8_count 131 = .ok (.ifCond .eq 7, 3) := dk_153 0 7 (dk_at dksX8_count_3 19 rfl rfl)
theorem dX8_count_134 : decode cX8_count 134 = .ok (.iconst 1, 1) := dk_4 (dk_at dksX8_count_3 22 rfl rfl)
theorem dX8_count_135 : decode cX8_count 135 = .ok (.goto 4, 3) := dk_167 0 4 (dk_at dksX8_count_4 0 rfl rfl)
theorem dX8_count_138 : decode cX8_count 138 = .ok (.iconst 0, 1) := dk_3 (dk_at dksX8_count_4 3 rfl rfl)
theorem dX8_count_139 : decode cX8_count 139 = .ok (.ireturn, 1) := dk_172 (dk_at dksX8_count_4 4 rfl rfl)
theorem dX8_count_140 : decode cX8_count 140 = .ok (.aload_n 0, 1) := dk_42 (dk_at dksX8_count_4 5 rfl rfl)
theorem dX8_count_141 : decode cX8_count 141 = .ok (.getfield 324, 3) := dk_180 1 68 (dk_at dksX8_count_4 6 rfl rfl)
theorem dX8_count_144 : decode cX8_count 144 = .ok (.ireturn, 1) := dk_172 (dk_at dksX8_count_4 9 rfl rfl)
theorem dX8_count_145 : decode cX8_count 145 = .ok (.aload_n 0, 1) := dk_42 (dk_at dksX8_count_4 10 rfl rfl)
theorem dX8_count_146 : decode cX8_count 146 = .ok (.getfield 327, 3) := dk_180 1 71 (dk_at dksX8_count_4 11 rfl rfl)
theorem dX8_count_149 : decode cX8_count 149 = .ok (.ireturn, 1) := dk_172 (dk_at dksX8_count_4 14 rfl rfl)
theorem dX8_count_150 : decode cX8_count 150 = .ok (.aload_n 0, 1) := dk_42 (dk_at dksX8_count_4 15 rfl rfl)
theorem dX8_count_151 : decode cX8_count 151 = .ok (.getfield 166, 3) := dk_180 0 166 (dk_at dksX8_count_4 16 rfl rfl)
theorem dX8_count_154 : decode cX8_count 154 = .ok (.ireturn, 1) := dk_172 (dk_at dksX8_count_4 19 rfl rfl)
theorem dX8_count_155 : decode cX8_count 155 = .ok (.aload_n 0, 1) := dk_42 (dk_at dksX8_count_4 20 rfl rfl)
theorem dX8_count_156 : decode cX8_count 156 = .ok (.getfield 65, 3) := dk_180 0 65 (dk_at dksX8_count_4 21 rfl rfl)
theorem dX8_count_159 : decode cX8_count 159 = .ok (.iload_n 1, 1) := dk_27 (dk_at dksX8_count_5 0 rfl rfl)
theorem dX8_count_160 : decode cX8_count 160 = .ok (.bipush 14, 2) := dk_16 14 (dk_at dksX8_count_5 1 rfl rfl)
theorem dX8_count_162 : decode cX8_count 162 = .ok (.isub, 1) := dk_100 (dk_at dksX8_count_5 3 rfl rfl)
theorem dX8_count_163 : decode cX8_count 163 = .ok (.iaload, 1) := dk_46 (dk_at dksX8_count_5 4 rfl rfl)
theorem dX8_count_164 : decode cX8_count 164 = .ok (.ireturn, 1) := dk_172 (dk_at dksX8_count_5 5 rfl rfl)
theorem dX8_count_165 : decode cX8_count 165 = .ok (.aload_n 0, 1) := dk_42 (dk_at dksX8_count_5 6 rfl rfl)
theorem dX8_count_166 : decode cX8_count 166 = .ok (.iconst 1, 1) := dk_4 (dk_at dksX8_count_5 7 rfl rfl)
theorem dX8_count_167 : decode cX8_count 167 = .ok (.invokevirtual 302, 3) := dk_182 1 46 (dk_at dksX8_count_5 8 rfl rfl)
theorem dX8_count_170 : decode cX8_count 170 = .ok (.ireturn, 1) := dk_172 (dk_at dksX8_count_5 11 rfl rfl)
abbrev cX8_set : ByteArray := prog_21_method_39_code
def yX8_set : MethodName := ⟨RX8, "set", "()V"⟩
def dkwX8_set_3 : List UInt8 := [42, 180, 1, 62, 181, 1, 91, 42, 42, 180, 1, 65, 181, 1, 94, 42, 182, 1, 97, 177]
abbrev dktX8_set_3 : List UInt8 := dkwX8_set_3 ++ []
def dkwX8_set_2 : List UInt8 := [167, 255, 221, 42, 42, 180, 0, 81, 181, 1, 88, 42, 42, 180, 0, 81, 2, 160, 0, 7, 3, 167, 0, 7]
abbrev dktX8_set_2 : List UInt8 := dkwX8_set_2 ++ dktX8_set_3
def dkwX8_set_1 : List UInt8 := [27, 42, 180, 0, 75, 27, 46, 79, 42, 180, 0, 93, 27, 42, 180, 0, 53, 27, 46, 79, 132, 1, 1]
abbrev dktX8_set_1 : List UInt8 := dkwX8_set_1 ++ dktX8_set_2
def dkwX8_set_0 : List UInt8 := [42, 42, 180, 0, 38, 3, 46, 181, 1, 85, 3, 60, 27, 42, 180, 1, 85, 162, 0, 33, 42, 180, 0, 90]
abbrev dktX8_set_0 : List UInt8 := dkwX8_set_0 ++ dktX8_set_1
theorem dksX8_set_0 : cX8_set.data.toList.drop 0 = dktX8_set_0 := by decide +kernel
theorem dksX8_set_1 : cX8_set.data.toList.drop 24 = dktX8_set_1 := dk_seg dksX8_set_0 24 rfl rfl
theorem dksX8_set_2 : cX8_set.data.toList.drop 47 = dktX8_set_2 := dk_seg dksX8_set_1 23 rfl rfl
theorem dksX8_set_3 : cX8_set.data.toList.drop 71 = dktX8_set_3 := dk_seg dksX8_set_2 24 rfl rfl
theorem dX8_set_0 : decode cX8_set 0 = .ok (.aload_n 0, 1) := dk_42 (dk_at dksX8_set_0 0 rfl rfl)
theorem dX8_set_1 : decode cX8_set 1 = .ok (.aload_n 0, 1) := dk_42 (dk_at dksX8_set_0 1 rfl rfl)
theorem dX8_set_2 : decode cX8_set 2 = .ok (.getfield 38, 3) := dk_180 0 38 (dk_at dksX8_set_0 2 rfl rfl)
theorem dX8_set_5 : decode cX8_set 5 = .ok (.iconst 0, 1) := dk_3 (dk_at dksX8_set_0 5 rfl rfl)
theorem dX8_set_6 : decode cX8_set 6 = .ok (.iaload, 1) := dk_46 (dk_at dksX8_set_0 6 rfl rfl)
theorem dX8_set_7 : decode cX8_set 7 = .ok (.putfield 341, 3) := dk_181 1 85 (dk_at dksX8_set_0 7 rfl rfl)
theorem dX8_set_10 : decode cX8_set 10 = .ok (.iconst 0, 1) := dk_3 (dk_at dksX8_set_0 10 rfl rfl)
theorem dX8_set_11 : decode cX8_set 11 = .ok (.istore_n 1, 1) := dk_60 (dk_at dksX8_set_0 11 rfl rfl)
theorem dX8_set_12 : decode cX8_set 12 = .ok (.iload_n 1, 1) := dk_27 (dk_at dksX8_set_0 12 rfl rfl)
theorem dX8_set_13 : decode cX8_set 13 = .ok (.aload_n 0, 1) := dk_42 (dk_at dksX8_set_0 13 rfl rfl)
theorem dX8_set_14 : decode cX8_set 14 = .ok (.getfield 341, 3) := dk_180 1 85 (dk_at dksX8_set_0 14 rfl rfl)
theorem dX8_set_17 : decode cX8_set 17 = .ok (.if_icmp .ge 33, 3) := dk_162 0 33 (dk_at dksX8_set_0 17 rfl rfl)
theorem dX8_set_20 : decode cX8_set 20 = .ok (.aload_n 0, 1) := dk_42 (dk_at dksX8_set_0 20 rfl rfl)
theorem dX8_set_21 : decode cX8_set 21 = .ok (.getfield 90, 3) := dk_180 0 90 (dk_at dksX8_set_0 21 rfl rfl)
theorem dX8_set_24 : decode cX8_set 24 = .ok (.iload_n 1, 1) := dk_27 (dk_at dksX8_set_1 0 rfl rfl)
theorem dX8_set_25 : decode cX8_set 25 = .ok (.aload_n 0, 1) := dk_42 (dk_at dksX8_set_1 1 rfl rfl)
theorem dX8_set_26 : decode cX8_set 26 = .ok (.getfield 75, 3) := dk_180 0 75 (dk_at dksX8_set_1 2 rfl rfl)
theorem dX8_set_29 : decode cX8_set 29 = .ok (.iload_n 1, 1) := dk_27 (dk_at dksX8_set_1 5 rfl rfl)
theorem dX8_set_30 : decode cX8_set 30 = .ok (.iaload, 1) := dk_46 (dk_at dksX8_set_1 6 rfl rfl)
theorem dX8_set_31 : decode cX8_set 31 = .ok (.iastore, 1) := dk_79 (dk_at dksX8_set_1 7 rfl rfl)
theorem dX8_set_32 : decode cX8_set 32 = .ok (.aload_n 0, 1) := dk_42 (dk_at dksX8_set_1 8 rfl rfl)
theorem dX8_set_33 : decode cX8_set 33 = .ok (.getfield 93, 3) := dk_180 0 93 (dk_at dksX8_set_1 9 rfl rfl)
theorem dX8_set_36 : decode cX8_set 36 = .ok (.iload_n 1, 1) := dk_27 (dk_at dksX8_set_1 12 rfl rfl)
theorem dX8_set_37 : decode cX8_set 37 = .ok (.aload_n 0, 1) := dk_42 (dk_at dksX8_set_1 13 rfl rfl)
theorem dX8_set_38 : decode cX8_set 38 = .ok (.getfield 53, 3) := dk_180 0 53 (dk_at dksX8_set_1 14 rfl rfl)
theorem dX8_set_41 : decode cX8_set 41 = .ok (.iload_n 1, 1) := dk_27 (dk_at dksX8_set_1 17 rfl rfl)
theorem dX8_set_42 : decode cX8_set 42 = .ok (.iaload, 1) := dk_46 (dk_at dksX8_set_1 18 rfl rfl)
theorem dX8_set_43 : decode cX8_set 43 = .ok (.iastore, 1) := dk_79 (dk_at dksX8_set_1 19 rfl rfl)
theorem dX8_set_44 : decode cX8_set 44 = .ok (.iinc 1 1, 3) := dk_132 1 1 (dk_at dksX8_set_1 20 rfl rfl)
theorem dX8_set_47 : decode cX8_set 47 = .ok (.goto (-35), 3) := dk_167 255 221 (dk_at dksX8_set_2 0 rfl rfl)
theorem dX8_set_50 : decode cX8_set 50 = .ok (.aload_n 0, 1) := dk_42 (dk_at dksX8_set_2 3 rfl rfl)
theorem dX8_set_51 : decode cX8_set 51 = .ok (.aload_n 0, 1) := dk_42 (dk_at dksX8_set_2 4 rfl rfl)
theorem dX8_set_52 : decode cX8_set 52 = .ok (.getfield 81, 3) := dk_180 0 81 (dk_at dksX8_set_2 5 rfl rfl)
theorem dX8_set_55 : decode cX8_set 55 = .ok (.putfield 344, 3) := dk_181 1 88 (dk_at dksX8_set_2 8 rfl rfl)
theorem dX8_set_58 : decode cX8_set 58 = .ok (.aload_n 0, 1) := dk_42 (dk_at dksX8_set_2 11 rfl rfl)
theorem dX8_set_59 : decode cX8_set 59 = .ok (.aload_n 0, 1) := dk_42 (dk_at dksX8_set_2 12 rfl rfl)
theorem dX8_set_60 : decode cX8_set 60 = .ok (.getfield 81, 3) := dk_180 0 81 (dk_at dksX8_set_2 13 rfl rfl)
theorem dX8_set_63 : decode cX8_set 63 = .ok (.iconst (-1), 1) := dk_2 (dk_at dksX8_set_2 16 rfl rfl)
theorem dX8_set_64 : decode cX8_set 64 = .ok (.if_icmp .ne 7, 3) := dk_160 0 7 (dk_at dksX8_set_2 17 rfl rfl)
theorem dX8_set_67 : decode cX8_set 67 = .ok (.iconst 0, 1) := dk_3 (dk_at dksX8_set_2 20 rfl rfl)
theorem dX8_set_68 : decode cX8_set 68 = .ok (.goto 7, 3) := dk_167 0 7 (dk_at dksX8_set_2 21 rfl rfl)
theorem dX8_set_71 : decode cX8_set 71 = .ok (.aload_n 0, 1) := dk_42 (dk_at dksX8_set_3 0 rfl rfl)
theorem dX8_set_72 : decode cX8_set 72 = .ok (.getfield 318, 3) := dk_180 1 62 (dk_at dksX8_set_3 1 rfl rfl)
theorem dX8_set_75 : decode cX8_set 75 = .ok (.putfield 347, 3) := dk_181 1 91 (dk_at dksX8_set_3 4 rfl rfl)
theorem dX8_set_78 : decode cX8_set 78 = .ok (.aload_n 0, 1) := dk_42 (dk_at dksX8_set_3 7 rfl rfl)
theorem dX8_set_79 : decode cX8_set 79 = .ok (.aload_n 0, 1) := dk_42 (dk_at dksX8_set_3 8 rfl rfl)
theorem dX8_set_80 : decode cX8_set 80 = .ok (.getfield 321, 3) := dk_180 1 65 (dk_at dksX8_set_3 9 rfl rfl)
theorem dX8_set_83 : decode cX8_set 83 = .ok (.putfield 350, 3) := dk_181 1 94 (dk_at dksX8_set_3 12 rfl rfl)
theorem dX8_set_86 : decode cX8_set 86 = .ok (.aload_n 0, 1) := dk_42 (dk_at dksX8_set_3 15 rfl rfl)
theorem dX8_set_87 : decode cX8_set 87 = .ok (.invokevirtual 353, 3) := dk_182 1 97 (dk_at dksX8_set_3 16 rfl rfl)
theorem dX8_set_90 : decode cX8_set 90 = .ok (.return_, 1) := dk_177 (dk_at dksX8_set_3 19 rfl rfl)
abbrev cX8_tellFree : ByteArray := prog_21_method_40_code
def yX8_tellFree : MethodName := ⟨RX8, "tellFree", "()V"⟩
def dkwX8_tellFree_2 : List UInt8 := [161, 0, 7, 4, 167, 0, 4, 3, 181, 1, 100, 177]
abbrev dktX8_tellFree_2 : List UInt8 := dkwX8_tellFree_2 ++ []
def dkwX8_tellFree_1 : List UInt8 := [180, 0, 90, 28, 46, 46, 96, 60, 132, 2, 1, 167, 255, 231, 42, 42, 180, 0, 38, 4, 46, 27]
abbrev dktX8_tellFree_1 : List UInt8 := dkwX8_tellFree_1 ++ dktX8_tellFree_2
def dkwX8_tellFree_0 : List UInt8 := [42, 180, 0, 38, 5, 46, 60, 3, 61, 28, 42, 180, 1, 85, 162, 0, 23, 27, 42, 180, 0, 50, 42]
abbrev dktX8_tellFree_0 : List UInt8 := dkwX8_tellFree_0 ++ dktX8_tellFree_1
theorem dksX8_tellFree_0 : cX8_tellFree.data.toList.drop 0 = dktX8_tellFree_0 := by decide +kernel
theorem dksX8_tellFree_1 : cX8_tellFree.data.toList.drop 23 = dktX8_tellFree_1 := dk_seg dksX8_tellFree_0 23 rfl rfl
theorem dksX8_tellFree_2 : cX8_tellFree.data.toList.drop 45 = dktX8_tellFree_2 := dk_seg dksX8_tellFree_1 22 rfl rfl
theorem dX8_tellFree_0 : decode cX8_tellFree 0 = .ok (.aload_n 0, 1) := dk_42 (dk_at dksX8_tellFree_0 0 rfl rfl)
theorem dX8_tellFree_1 : decode cX8_tellFree 1 = .ok (.getfield 38, 3) := dk_180 0 38 (dk_at dksX8_tellFree_0 1 rfl rfl)
theorem dX8_tellFree_4 : decode cX8_tellFree 4 = .ok (.iconst 2, 1) := dk_5 (dk_at dksX8_tellFree_0 4 rfl rfl)
theorem dX8_tellFree_5 : decode cX8_tellFree 5 = .ok (.iaload, 1) := dk_46 (dk_at dksX8_tellFree_0 5 rfl rfl)
theorem dX8_tellFree_6 : decode cX8_tellFree 6 = .ok (.istore_n 1, 1) := dk_60 (dk_at dksX8_tellFree_0 6 rfl rfl)
theorem dX8_tellFree_7 : decode cX8_tellFree 7 = .ok (.iconst 0, 1) := dk_3 (dk_at dksX8_tellFree_0 7 rfl rfl)
theorem dX8_tellFree_8 : decode cX8_tellFree 8 = .ok (.istore_n 2, 1) := dk_61 (dk_at dksX8_tellFree_0 8 rfl rfl)
theorem dX8_tellFree_9 : decode cX8_tellFree 9 = .ok (.iload_n 2, 1) := dk_28 (dk_at dksX8_tellFree_0 9 rfl rfl)
theorem dX8_tellFree_10 : decode cX8_tellFree 10 = .ok (.aload_n 0, 1) := dk_42 (dk_at dksX8_tellFree_0 10 rfl rfl)
theorem dX8_tellFree_11 : decode cX8_tellFree 11 = .ok (.getfield 341, 3) := dk_180 1 85 (dk_at dksX8_tellFree_0 11 rfl rfl)
theorem dX8_tellFree_14 : decode cX8_tellFree 14 = .ok (.if_icmp .ge 23, 3) := dk_162 0 23 (dk_at dksX8_tellFree_0 14 rfl rfl)
theorem dX8_tellFree_17 : decode cX8_tellFree 17 = .ok (.iload_n 1, 1) := dk_27 (dk_at dksX8_tellFree_0 17 rfl rfl)
theorem dX8_tellFree_18 : decode cX8_tellFree 18 = .ok (.aload_n 0, 1) := dk_42 (dk_at dksX8_tellFree_0 18 rfl rfl)
theorem dX8_tellFree_19 : decode cX8_tellFree 19 = .ok (.getfield 50, 3) := dk_180 0 50 (dk_at dksX8_tellFree_0 19 rfl rfl)
theorem dX8_tellFree_22 : decode cX8_tellFree 22 = .ok (.aload_n 0, 1) := dk_42 (dk_at dksX8_tellFree_0 22 rfl rfl)
theorem dX8_tellFree_23 : decode cX8_tellFree 23 = .ok (.getfield 90, 3) := dk_180 0 90 (dk_at dksX8_tellFree_1 0 rfl rfl)
theorem dX8_tellFree_26 : decode cX8_tellFree 26 = .ok (.iload_n 2, 1) := dk_28 (dk_at dksX8_tellFree_1 3 rfl rfl)
theorem dX8_tellFree_27 : decode cX8_tellFree 27 = .ok (.iaload, 1) := dk_46 (dk_at dksX8_tellFree_1 4 rfl rfl)
theorem dX8_tellFree_28 : decode cX8_tellFree 28 = .ok (.iaload, 1) := dk_46 (dk_at dksX8_tellFree_1 5 rfl rfl)
theorem dX8_tellFree_29 : decode cX8_tellFree 29 = .ok (.iadd, 1) := dk_96 (dk_at dksX8_tellFree_1 6 rfl rfl)
theorem dX8_tellFree_30 : decode cX8_tellFree 30 = .ok (.istore_n 1, 1) := dk_60 (dk_at dksX8_tellFree_1 7 rfl rfl)
theorem dX8_tellFree_31 : decode cX8_tellFree 31 = .ok (.iinc 2 1, 3) := dk_132 2 1 (dk_at dksX8_tellFree_1 8 rfl rfl)
theorem dX8_tellFree_34 : decode cX8_tellFree 34 = .ok (.goto (-25), 3) := dk_167 255 231 (dk_at dksX8_tellFree_1 11 rfl rfl)
theorem dX8_tellFree_37 : decode cX8_tellFree 37 = .ok (.aload_n 0, 1) := dk_42 (dk_at dksX8_tellFree_1 14 rfl rfl)
theorem dX8_tellFree_38 : decode cX8_tellFree 38 = .ok (.aload_n 0, 1) := dk_42 (dk_at dksX8_tellFree_1 15 rfl rfl)
theorem dX8_tellFree_39 : decode cX8_tellFree 39 = .ok (.getfield 38, 3) := dk_180 0 38 (dk_at dksX8_tellFree_1 16 rfl rfl)
theorem dX8_tellFree_42 : decode cX8_tellFree 42 = .ok (.iconst 1, 1) := dk_4 (dk_at dksX8_tellFree_1 19 rfl rfl)
theorem dX8_tellFree_43 : decode cX8_tellFree 43 = .ok (.iaload, 1) := dk_46 (dk_at dksX8_tellFree_1 20 rfl rfl)
theorem dX8_tellFree_44 : decode cX8_tellFree 44 = .ok (.iload_n 1, 1) := dk_27 (dk_at dksX8_tellFree_1 21 rfl rfl)
theorem dX8_tellFree_45 : decode cX8_tellFree 45 = .ok (.if_icmp .lt 7, 3) := dk_161 0 7 (dk_at dksX8_tellFree_2 0 rfl rfl)
theorem dX8_tellFree_48 : decode cX8_tellFree 48 = .ok (.iconst 1, 1) := dk_4 (dk_at dksX8_tellFree_2 3 rfl rfl)
theorem dX8_tellFree_49 : decode cX8_tellFree 49 = .ok (.goto 4, 3) := dk_167 0 4 (dk_at dksX8_tellFree_2 4 rfl rfl)
theorem dX8_tellFree_52 : decode cX8_tellFree 52 = .ok (.iconst 0, 1) := dk_3 (dk_at dksX8_tellFree_2 7 rfl rfl)
theorem dX8_tellFree_53 : decode cX8_tellFree 53 = .ok (.putfield 356, 3) := dk_181 1 100 (dk_at dksX8_tellFree_2 8 rfl rfl)
theorem dX8_tellFree_56 : decode cX8_tellFree 56 = .ok (.return_, 1) := dk_177 (dk_at dksX8_tellFree_2 11 rfl rfl)
abbrev cX8_sleeper : ByteArray := prog_21_method_56_code
def yX8_sleeper : MethodName := ⟨RX8, "sleeper", "(II)I"⟩
def dkwX8_sleeper_4 : List UInt8 := [42, 182, 1, 157, 42, 27, 182, 1, 138, 172, 42, 180, 0, 59, 27, 46, 172, 42, 4, 182, 1, 46, 172]
abbrev dktX8_sleeper_4 : List UInt8 := dkwX8_sleeper_4 ++ []
def dkwX8_sleeper_3 : List UInt8 := [27, 46, 172, 42, 180, 0, 50, 27, 46, 172, 42, 180, 0, 53, 27, 46, 172, 42, 180, 0, 56, 27, 46, 172]
abbrev dktX8_sleeper_3 : List UInt8 := dkwX8_sleeper_3 ++ dktX8_sleeper_4
def dkwX8_sleeper_2 : List UInt8 := [42, 180, 0, 42, 27, 46, 172, 42, 180, 0, 45, 5, 27, 104, 28, 96, 4, 100, 46, 172, 42, 180, 0, 48]
abbrev dktX8_sleeper_2 : List UInt8 := dkwX8_sleeper_2 ++ dktX8_sleeper_3
def dkwX8_sleeper_1 : List UInt8 := [170, 0, 0, 0, 0, 0, 0, 117, 0, 0, 0, 0, 0, 0, 0, 8, 0, 0, 0, 52, 0, 0, 0, 59, 0, 0, 0, 59, 0, 0, 0, 72, 0, 0, 0, 79, 0, 0, 0, 86, 0, 0, 0, 93, 0, 0, 0, 100, 0, 0, 0, 110]
abbrev dktX8_sleeper_1 : List UInt8 := dkwX8_sleeper_1 ++ dktX8_sleeper_2
def dkwX8_sleeper_0 : List UInt8 := [42, 3, 181, 0, 159, 42, 27, 182, 1, 164, 154, 0, 9, 42, 4, 182, 1, 46, 172, 28]
abbrev dktX8_sleeper_0 : List UInt8 := dkwX8_sleeper_0 ++ dktX8_sleeper_1
theorem dksX8_sleeper_0 : cX8_sleeper.data.toList.drop 0 = dktX8_sleeper_0 := by decide +kernel
theorem dksX8_sleeper_1 : cX8_sleeper.data.toList.drop 20 = dktX8_sleeper_1 := dk_seg dksX8_sleeper_0 20 rfl rfl
theorem dksX8_sleeper_2 : cX8_sleeper.data.toList.drop 72 = dktX8_sleeper_2 := dk_seg dksX8_sleeper_1 52 rfl rfl
theorem dksX8_sleeper_3 : cX8_sleeper.data.toList.drop 96 = dktX8_sleeper_3 := dk_seg dksX8_sleeper_2 24 rfl rfl
theorem dksX8_sleeper_4 : cX8_sleeper.data.toList.drop 120 = dktX8_sleeper_4 := dk_seg dksX8_sleeper_3 24 rfl rfl
theorem dX8_sleeper_0 : decode cX8_sleeper 0 = .ok (.aload_n 0, 1) := dk_42 (dk_at dksX8_sleeper_0 0 rfl rfl)
theorem dX8_sleeper_1 : decode cX8_sleeper 1 = .ok (.iconst 0, 1) := dk_3 (dk_at dksX8_sleeper_0 1 rfl rfl)
theorem dX8_sleeper_2 : decode cX8_sleeper 2 = .ok (.putfield 159, 3) := dk_181 0 159 (dk_at dksX8_sleeper_0 2 rfl rfl)
theorem dX8_sleeper_5 : decode cX8_sleeper 5 = .ok (.aload_n 0, 1) := dk_42 (dk_at dksX8_sleeper_0 5 rfl rfl)
theorem dX8_sleeper_6 : decode cX8_sleeper 6 = .ok (.iload_n 1, 1) := dk_27 (dk_at dksX8_sleeper_0 6 rfl rfl)
theorem dX8_sleeper_7 : decode cX8_sleeper 7 = .ok (.invokevirtual 420, 3) := dk_182 1 164 (dk_at dksX8_sleeper_0 7 rfl rfl)
theorem dX8_sleeper_10 : decode cX8_sleeper 10 = .ok (.ifCond .ne 9, 3) := dk_154 0 9 (dk_at dksX8_sleeper_0 10 rfl rfl)
theorem dX8_sleeper_13 : decode cX8_sleeper 13 = .ok (.aload_n 0, 1) := dk_42 (dk_at dksX8_sleeper_0 13 rfl rfl)
theorem dX8_sleeper_14 : decode cX8_sleeper 14 = .ok (.iconst 1, 1) := dk_4 (dk_at dksX8_sleeper_0 14 rfl rfl)
theorem dX8_sleeper_15 : decode cX8_sleeper 15 = .ok (.invokevirtual 302, 3) := dk_182 1 46 (dk_at dksX8_sleeper_0 15 rfl rfl)
theorem dX8_sleeper_18 : decode cX8_sleeper 18 = .ok (.ireturn, 1) := dk_172 (dk_at dksX8_sleeper_0 18 rfl rfl)
theorem dX8_sleeper_19 : decode cX8_sleeper 19 = .ok (.iload_n 2, 1) := dk_28 (dk_at dksX8_sleeper_0 19 rfl rfl)
theorem dX8_sleeper_20 : decode cX8_sleeper 20 = .ok (.tableswitch 117 0 8 #[52, 59, 59, 72, 79, 86, 93, 100, 110], 52) := by decide +kernel
theorem dX8_sleeper_72 : decode cX8_sleeper 72 = .ok (.aload_n 0, 1) := dk_42 (dk_at dksX8_sleeper_2 0 rfl rfl)
theorem dX8_sleeper_73 : decode cX8_sleeper 73 = .ok (.getfield 42, 3) := dk_180 0 42 (dk_at dksX8_sleeper_2 1 rfl rfl)
theorem dX8_sleeper_76 : decode cX8_sleeper 76 = .ok (.iload_n 1, 1) := dk_27 (dk_at dksX8_sleeper_2 4 rfl rfl)
theorem dX8_sleeper_77 : decode cX8_sleeper 77 = .ok (.iaload, 1) := dk_46 (dk_at dksX8_sleeper_2 5 rfl rfl)
theorem dX8_sleeper_78 : decode cX8_sleeper 78 = .ok (.ireturn, 1) := dk_172 (dk_at dksX8_sleeper_2 6 rfl rfl)
theorem dX8_sleeper_79 : decode cX8_sleeper 79 = .ok (.aload_n 0, 1) := dk_42 (dk_at dksX8_sleeper_2 7 rfl rfl)
theorem dX8_sleeper_80 : decode cX8_sleeper 80 = .ok (.getfield 45, 3) := dk_180 0 45 (dk_at dksX8_sleeper_2 8 rfl rfl)
theorem dX8_sleeper_83 : decode cX8_sleeper 83 = .ok (.iconst 2, 1) := dk_5 (dk_at dksX8_sleeper_2 11 rfl rfl)
theorem dX8_sleeper_84 : decode cX8_sleeper 84 = .ok (.iload_n 1, 1) := dk_27 (dk_at dksX8_sleeper_2 12 rfl rfl)
theorem dX8_sleeper_85 : decode cX8_sleeper 85 = .ok (.imul, 1) := dk_104 (dk_at dksX8_sleeper_2 13 rfl rfl)
theorem dX8_sleeper_86 : decode cX8_sleeper 86 = .ok (.iload_n 2, 1) := dk_28 (dk_at dksX8_sleeper_2 14 rfl rfl)
theorem dX8_sleeper_87 : decode cX8_sleeper 87 = .ok (.iadd, 1) := dk_96 (dk_at dksX8_sleeper_2 15 rfl rfl)
theorem dX8_sleeper_88 : decode cX8_sleeper 88 = .ok (.iconst 1, 1) := dk_4 (dk_at dksX8_sleeper_2 16 rfl rfl)
theorem dX8_sleeper_89 : decode cX8_sleeper 89 = .ok (.isub, 1) := dk_100 (dk_at dksX8_sleeper_2 17 rfl rfl)
theorem dX8_sleeper_90 : decode cX8_sleeper 90 = .ok (.iaload, 1) := dk_46 (dk_at dksX8_sleeper_2 18 rfl rfl)
theorem dX8_sleeper_91 : decode cX8_sleeper 91 = .ok (.ireturn, 1) := dk_172 (dk_at dksX8_sleeper_2 19 rfl rfl)
theorem dX8_sleeper_92 : decode cX8_sleeper 92 = .ok (.aload_n 0, 1) := dk_42 (dk_at dksX8_sleeper_2 20 rfl rfl)
theorem dX8_sleeper_93 : decode cX8_sleeper 93 = .ok (.getfield 48, 3) := dk_180 0 48 (dk_at dksX8_sleeper_2 21 rfl rfl)
theorem dX8_sleeper_96 : decode cX8_sleeper 96 = .ok (.iload_n 1, 1) := dk_27 (dk_at dksX8_sleeper_3 0 rfl rfl)
theorem dX8_sleeper_97 : decode cX8_sleeper 97 = .ok (.iaload, 1) := dk_46 (dk_at dksX8_sleeper_3 1 rfl rfl)
theorem dX8_sleeper_98 : decode cX8_sleeper 98 = .ok (.ireturn, 1) := dk_172 (dk_at dksX8_sleeper_3 2 rfl rfl)
theorem dX8_sleeper_99 : decode cX8_sleeper 99 = .ok (.aload_n 0, 1) := dk_42 (dk_at dksX8_sleeper_3 3 rfl rfl)
theorem dX8_sleeper_100 : decode cX8_sleeper 100 = .ok (.getfield 50, 3) := dk_180 0 50 (dk_at dksX8_sleeper_3 4 rfl rfl)
theorem dX8_sleeper_103 : decode cX8_sleeper 103 = .ok (.iload_n 1, 1) := dk_27 (dk_at dksX8_sleeper_3 7 rfl rfl)
theorem dX8_sleeper_104 : decode cX8_sleeper 104 = .ok (.iaload, 1) := dk_46 (dk_at dksX8_sleeper_3 8 rfl rfl)
theorem dX8_sleeper_105 : decode cX8_sleeper 105 = .ok (.ireturn, 1) := dk_172 (dk_at dksX8_sleeper_3 9 rfl rfl)
theorem dX8_sleeper_106 : decode cX8_sleeper 106 = .ok (.aload_n 0, 1) := dk_42 (dk_at dksX8_sleeper_3 10 rfl rfl)
theorem dX8_sleeper_107 : decode cX8_sleeper 107 = .ok (.getfield 53, 3) := dk_180 0 53 (dk_at dksX8_sleeper_3 11 rfl rfl)
theorem dX8_sleeper_110 : decode cX8_sleeper 110 = .ok (.iload_n 1, 1) := dk_27 (dk_at dksX8_sleeper_3 14 rfl rfl)
theorem dX8_sleeper_111 : decode cX8_sleeper 111 = .ok (.iaload, 1) := dk_46 (dk_at dksX8_sleeper_3 15 rfl rfl)
theorem dX8_sleeper_112 : decode cX8_sleeper 112 = .ok (.ireturn, 1) := dk_172 (dk_at dksX8_sleeper_3 16 rfl rfl)
theorem dX8_sleeper_113 : decode cX8_sleeper 113 = .ok (.aload_n 0, 1) := dk_42 (dk_at dksX8_sleeper_3 17 rfl rfl)
theorem dX8_sleeper_114 : decode cX8_sleeper 114 = .ok (.getfield 56, 3) := dk_180 0 56 (dk_at dksX8_sleeper_3 18 rfl rfl)
theorem dX8_sleeper_117 : decode cX8_sleeper 117 = .ok (.iload_n 1, 1) := dk_27 (dk_at dksX8_sleeper_3 21 rfl rfl)
theorem dX8_sleeper_118 : decode cX8_sleeper 118 = .ok (.iaload, 1) := dk_46 (dk_at dksX8_sleeper_3 22 rfl rfl)
theorem dX8_sleeper_119 : decode cX8_sleeper 119 = .ok (.ireturn, 1) := dk_172 (dk_at dksX8_sleeper_3 23 rfl rfl)
theorem dX8_sleeper_120 : decode cX8_sleeper 120 = .ok (.aload_n 0, 1) := dk_42 (dk_at dksX8_sleeper_4 0 rfl rfl)
theorem dX8_sleeper_121 : decode cX8_sleeper 121 = .ok (.invokevirtual 413, 3) := dk_182 1 157 (dk_at dksX8_sleeper_4 1 rfl rfl)
theorem dX8_sleeper_124 : decode cX8_sleeper 124 = .ok (.aload_n 0, 1) := dk_42 (dk_at dksX8_sleeper_4 4 rfl rfl)
theorem dX8_sleeper_125 : decode cX8_sleeper 125 = .ok (.iload_n 1, 1) := dk_27 (dk_at dksX8_sleeper_4 5 rfl rfl)
theorem dX8_sleeper_126 : decode cX8_sleeper 126 = .ok (.invokevirtual 394, 3) := dk_182 1 138 (dk_at dksX8_sleeper_4 6 rfl rfl)
theorem dX8_sleeper_129 : decode cX8_sleeper 129 = .ok (.ireturn, 1) := dk_172 (dk_at dksX8_sleeper_4 9 rfl rfl)
theorem dX8_sleeper_130 : decode cX8_sleeper 130 = .ok (.aload_n 0, 1) := dk_42 (dk_at dksX8_sleeper_4 10 rfl rfl)
theorem dX8_sleeper_131 : decode cX8_sleeper 131 = .ok (.getfield 59, 3) := dk_180 0 59 (dk_at dksX8_sleeper_4 11 rfl rfl)
theorem dX8_sleeper_134 : decode cX8_sleeper 134 = .ok (.iload_n 1, 1) := dk_27 (dk_at dksX8_sleeper_4 14 rfl rfl)
theorem dX8_sleeper_135 : decode cX8_sleeper 135 = .ok (.iaload, 1) := dk_46 (dk_at dksX8_sleeper_4 15 rfl rfl)
theorem dX8_sleeper_136 : decode cX8_sleeper 136 = .ok (.ireturn, 1) := dk_172 (dk_at dksX8_sleeper_4 16 rfl rfl)
theorem dX8_sleeper_137 : decode cX8_sleeper 137 = .ok (.aload_n 0, 1) := dk_42 (dk_at dksX8_sleeper_4 17 rfl rfl)
theorem dX8_sleeper_138 : decode cX8_sleeper 138 = .ok (.iconst 1, 1) := dk_4 (dk_at dksX8_sleeper_4 18 rfl rfl)
theorem dX8_sleeper_139 : decode cX8_sleeper 139 = .ok (.invokevirtual 302, 3) := dk_182 1 46 (dk_at dksX8_sleeper_4 19 rfl rfl)
theorem dX8_sleeper_142 : decode cX8_sleeper 142 = .ok (.ireturn, 1) := dk_172 (dk_at dksX8_sleeper_4 22 rfl rfl)
abbrev cX8_isSleeper : ByteArray := prog_21_method_5_code
def yX8_isSleeper : MethodName := ⟨RX8, "isSleeper", "(I)Z"⟩
def dkwX8_isSleeper_0 : List UInt8 := [27, 133, 9, 42, 180, 0, 38, 3, 46, 4, 100, 133, 184, 0, 162, 172]
abbrev dktX8_isSleeper_0 : List UInt8 := dkwX8_isSleeper_0 ++ []
theorem dksX8_isSleeper_0 : cX8_isSleeper.data.toList.drop 0 = dktX8_isSleeper_0 := by decide +kernel
theorem dX8_isSleeper_0 : decode cX8_isSleeper 0 = .ok (.iload_n 1, 1) := dk_27 (dk_at dksX8_isSleeper_0 0 rfl rfl)
theorem dX8_isSleeper_1 : decode cX8_isSleeper 1 = .ok (.i2l, 1) := dk_133 (dk_at dksX8_isSleeper_0 1 rfl rfl)
theorem dX8_isSleeper_2 : decode cX8_isSleeper 2 = .ok (.lconst 0, 1) := dk_9 (dk_at dksX8_isSleeper_0 2 rfl rfl)
theorem dX8_isSleeper_3 : decode cX8_isSleeper 3 = .ok (.aload_n 0, 1) := dk_42 (dk_at dksX8_isSleeper_0 3 rfl rfl)
theorem dX8_isSleeper_4 : decode cX8_isSleeper 4 = .ok (.getfield 38, 3) := dk_180 0 38 (dk_at dksX8_isSleeper_0 4 rfl rfl)
theorem dX8_isSleeper_7 : decode cX8_isSleeper 7 = .ok (.iconst 0, 1) := dk_3 (dk_at dksX8_isSleeper_0 7 rfl rfl)
theorem dX8_isSleeper_8 : decode cX8_isSleeper 8 = .ok (.iaload, 1) := dk_46 (dk_at dksX8_isSleeper_0 8 rfl rfl)
theorem dX8_isSleeper_9 : decode cX8_isSleeper 9 = .ok (.iconst 1, 1) := dk_4 (dk_at dksX8_isSleeper_0 9 rfl rfl)
theorem dX8_isSleeper_10 : decode cX8_isSleeper 10 = .ok (.isub, 1) := dk_100 (dk_at dksX8_isSleeper_0 10 rfl rfl)
theorem dX8_isSleeper_11 : decode cX8_isSleeper 11 = .ok (.i2l, 1) := dk_133 (dk_at dksX8_isSleeper_0 11 rfl rfl)
theorem dX8_isSleeper_12 : decode cX8_isSleeper 12 = .ok (.invokestatic 162, 3) := dk_184 0 162 (dk_at dksX8_isSleeper_0 12 rfl rfl)
theorem dX8_isSleeper_15 : decode cX8_isSleeper 15 = .ok (.ireturn, 1) := dk_172 (dk_at dksX8_isSleeper_0 15 rfl rfl)
abbrev cX8_isIn : ByteArray := prog_21_method_4_code
def yX8_isIn : MethodName := ⟨RX8, "isIn", "(JJJ)Z"⟩
def dkwX8_isIn_0 : List UInt8 := [30, 32, 148, 155, 0, 14, 30, 22, 4, 148, 157, 0, 7, 4, 167, 0, 4, 3, 172]
abbrev dktX8_isIn_0 : List UInt8 := dkwX8_isIn_0 ++ []
theorem dksX8_isIn_0 : cX8_isIn.data.toList.drop 0 = dktX8_isIn_0 := by decide +kernel
theorem dX8_isIn_0 : decode cX8_isIn 0 = .ok (.lload_n 0, 1) := dk_30 (dk_at dksX8_isIn_0 0 rfl rfl)
theorem dX8_isIn_1 : decode cX8_isIn 1 = .ok (.lload_n 2, 1) := dk_32 (dk_at dksX8_isIn_0 1 rfl rfl)
theorem dX8_isIn_2 : decode cX8_isIn 2 = .ok (.lcmp, 1) := dk_148 (dk_at dksX8_isIn_0 2 rfl rfl)
theorem dX8_isIn_3 : decode cX8_isIn 3 = .ok (.ifCond .lt 14, 3) := dk_155 0 14 (dk_at dksX8_isIn_0 3 rfl rfl)
theorem dX8_isIn_6 : decode cX8_isIn 6 = .ok (.lload_n 0, 1) := dk_30 (dk_at dksX8_isIn_0 6 rfl rfl)
theorem dX8_isIn_7 : decode cX8_isIn 7 = .ok (.lload 4, 2) := dk_22 4 (dk_at dksX8_isIn_0 7 rfl rfl)
theorem dX8_isIn_9 : decode cX8_isIn 9 = .ok (.lcmp, 1) := dk_148 (dk_at dksX8_isIn_0 9 rfl rfl)
theorem dX8_isIn_10 : decode cX8_isIn 10 = .ok (.ifCond .gt 7, 3) := dk_157 0 7 (dk_at dksX8_isIn_0 10 rfl rfl)
theorem dX8_isIn_13 : decode cX8_isIn 13 = .ok (.iconst 1, 1) := dk_4 (dk_at dksX8_isIn_0 13 rfl rfl)
theorem dX8_isIn_14 : decode cX8_isIn 14 = .ok (.goto 4, 3) := dk_167 0 4 (dk_at dksX8_isIn_0 14 rfl rfl)
theorem dX8_isIn_17 : decode cX8_isIn 17 = .ok (.iconst 0, 1) := dk_3 (dk_at dksX8_isIn_0 17 rfl rfl)
theorem dX8_isIn_18 : decode cX8_isIn 18 = .ok (.ireturn, 1) := dk_172 (dk_at dksX8_isIn_0 18 rfl rfl)
abbrev cX8_placeOf : ByteArray := prog_21_method_47_code
def yX8_placeOf : MethodName := ⟨RX8, "placeOf", "(I)I"⟩
def dkwX8_placeOf_1 : List UInt8 := [167, 255, 235, 28, 172]
abbrev dktX8_placeOf_1 : List UInt8 := dkwX8_placeOf_1 ++ []
def dkwX8_placeOf_0 : List UInt8 := [3, 61, 28, 42, 180, 1, 85, 162, 0, 19, 42, 180, 0, 90, 28, 46, 27, 159, 0, 9, 132, 2, 1]
abbrev dktX8_placeOf_0 : List UInt8 := dkwX8_placeOf_0 ++ dktX8_placeOf_1
theorem dksX8_placeOf_0 : cX8_placeOf.data.toList.drop 0 = dktX8_placeOf_0 := by decide +kernel
theorem dksX8_placeOf_1 : cX8_placeOf.data.toList.drop 23 = dktX8_placeOf_1 := dk_seg dksX8_placeOf_0 23 rfl rfl
theorem dX8_placeOf_0 : decode cX8_placeOf 0 = .ok (.iconst 0, 1) := dk_3 (dk_at dksX8_placeOf_0 0 rfl rfl)
theorem dX8_placeOf_1 : decode cX8_placeOf 1 = .ok (.istore_n 2, 1) := dk_61 (dk_at dksX8_placeOf_0 1 rfl rfl)
theorem dX8_placeOf_2 : decode cX8_placeOf 2 = .ok (.iload_n 2, 1) := dk_28 (dk_at dksX8_placeOf_0 2 rfl rfl)
theorem dX8_placeOf_3 : decode cX8_placeOf 3 = .ok (.aload_n 0, 1) := dk_42 (dk_at dksX8_placeOf_0 3 rfl rfl)
theorem dX8_placeOf_4 : decode cX8_placeOf 4 = .ok (.getfield 341, 3) := dk_180 1 85 (dk_at dksX8_placeOf_0 4 rfl rfl)
theorem dX8_placeOf_7 : decode cX8_placeOf 7 = .ok (.if_icmp .ge 19, 3) := dk_162 0 19 (dk_at dksX8_placeOf_0 7 rfl rfl)
theorem dX8_placeOf_10 : decode cX8_placeOf 10 = .ok (.aload_n 0, 1) := dk_42 (dk_at dksX8_placeOf_0 10 rfl rfl)
theorem dX8_placeOf_11 : decode cX8_placeOf 11 = .ok (.getfield 90, 3) := dk_180 0 90 (dk_at dksX8_placeOf_0 11 rfl rfl)
theorem dX8_placeOf_14 : decode cX8_placeOf 14 = .ok (.iload_n 2, 1) := dk_28 (dk_at dksX8_placeOf_0 14 rfl rfl)
theorem dX8_placeOf_15 : decode cX8_placeOf 15 = .ok (.iaload, 1) := dk_46 (dk_at dksX8_placeOf_0 15 rfl rfl)
theorem dX8_placeOf_16 : decode cX8_placeOf 16 = .ok (.iload_n 1, 1) := dk_27 (dk_at dksX8_placeOf_0 16 rfl rfl)
theorem dX8_placeOf_17 : decode cX8_placeOf 17 = .ok (.if_icmp .eq 9, 3) := dk_159 0 9 (dk_at dksX8_placeOf_0 17 rfl rfl)
theorem dX8_placeOf_20 : decode cX8_placeOf 20 = .ok (.iinc 2 1, 3) := dk_132 2 1 (dk_at dksX8_placeOf_0 20 rfl rfl)
theorem dX8_placeOf_23 : decode cX8_placeOf 23 = .ok (.goto (-21), 3) := dk_167 255 235 (dk_at dksX8_placeOf_1 0 rfl rfl)
theorem dX8_placeOf_26 : decode cX8_placeOf 26 = .ok (.iload_n 2, 1) := dk_28 (dk_at dksX8_placeOf_1 3 rfl rfl)
theorem dX8_placeOf_27 : decode cX8_placeOf 27 = .ok (.ireturn, 1) := dk_172 (dk_at dksX8_placeOf_1 4 rfl rfl)
abbrev cX8_swap : ByteArray := prog_21_method_59_code
def yX8_swap : MethodName := ⟨RX8, "swap", "(II)Z"⟩
def dkwX8_swap_2 : List UInt8 := [46, 62, 42, 180, 0, 75, 27, 42, 180, 0, 75, 28, 46, 79, 42, 180, 0, 75, 28, 29, 79, 4, 172]
abbrev dktX8_swap_2 : List UInt8 := dkwX8_swap_2 ++ []
def dkwX8_swap_1 : List UInt8 := [160, 0, 15, 42, 180, 0, 65, 4, 92, 46, 4, 96, 79, 3, 172, 42, 182, 1, 171, 42, 180, 0, 75, 27]
abbrev dktX8_swap_1 : List UInt8 := dkwX8_swap_1 ++ dktX8_swap_2
def dkwX8_swap_0 : List UInt8 := [42, 3, 181, 0, 159, 42, 27, 182, 1, 164, 153, 0, 16, 42, 28, 182, 1, 164, 153, 0, 8, 27, 28]
abbrev dktX8_swap_0 : List UInt8 := dkwX8_swap_0 ++ dktX8_swap_1
theorem dksX8_swap_0 : cX8_swap.data.toList.drop 0 = dktX8_swap_0 := by decide +kernel
theorem dksX8_swap_1 : cX8_swap.data.toList.drop 23 = dktX8_swap_1 := dk_seg dksX8_swap_0 23 rfl rfl
theorem dksX8_swap_2 : cX8_swap.data.toList.drop 47 = dktX8_swap_2 := dk_seg dksX8_swap_1 24 rfl rfl
theorem dX8_swap_0 : decode cX8_swap 0 = .ok (.aload_n 0, 1) := dk_42 (dk_at dksX8_swap_0 0 rfl rfl)
theorem dX8_swap_1 : decode cX8_swap 1 = .ok (.iconst 0, 1) := dk_3 (dk_at dksX8_swap_0 1 rfl rfl)
theorem dX8_swap_2 : decode cX8_swap 2 = .ok (.putfield 159, 3) := dk_181 0 159 (dk_at dksX8_swap_0 2 rfl rfl)
theorem dX8_swap_5 : decode cX8_swap 5 = .ok (.aload_n 0, 1) := dk_42 (dk_at dksX8_swap_0 5 rfl rfl)
theorem dX8_swap_6 : decode cX8_swap 6 = .ok (.iload_n 1, 1) := dk_27 (dk_at dksX8_swap_0 6 rfl rfl)
theorem dX8_swap_7 : decode cX8_swap 7 = .ok (.invokevirtual 420, 3) := dk_182 1 164 (dk_at dksX8_swap_0 7 rfl rfl)
theorem dX8_swap_10 : decode cX8_swap 10 = .ok (.ifCond .eq 16, 3) := dk_153 0 16 (dk_at dksX8_swap_0 10 rfl rfl)
theorem dX8_swap_13 : decode cX8_swap 13 = .ok (.aload_n 0, 1) := dk_42 (dk_at dksX8_swap_0 13 rfl rfl)
theorem dX8_swap_14 : decode cX8_swap 14 = .ok (.iload_n 2, 1) := dk_28 (dk_at dksX8_swap_0 14 rfl rfl)
theorem dX8_swap_15 : decode cX8_swap 15 = .ok (.invokevirtual 420, 3) := dk_182 1 164 (dk_at dksX8_swap_0 15 rfl rfl)
theorem dX8_swap_18 : decode cX8_swap 18 = .ok (.ifCond .eq 8, 3) := dk_153 0 8 (dk_at dksX8_swap_0 18 rfl rfl)
theorem dX8_swap_21 : decode cX8_swap 21 = .ok (.iload_n 1, 1) := dk_27 (dk_at dksX8_swap_0 21 rfl rfl)
theorem dX8_swap_22 : decode cX8_swap 22 = .ok (.iload_n 2, 1) := dk_28 (dk_at dksX8_swap_0 22 rfl rfl)
theorem dX8_swap_23 : decode cX8_swap 23 = .ok (.if_icmp .ne 15, 3) := dk_160 0 15 (dk_at dksX8_swap_1 0 rfl rfl)
theorem dX8_swap_26 : decode cX8_swap 26 = .ok (.aload_n 0, 1) := dk_42 (dk_at dksX8_swap_1 3 rfl rfl)
theorem dX8_swap_27 : decode cX8_swap 27 = .ok (.getfield 65, 3) := dk_180 0 65 (dk_at dksX8_swap_1 4 rfl rfl)
theorem dX8_swap_30 : decode cX8_swap 30 = .ok (.iconst 1, 1) := dk_4 (dk_at dksX8_swap_1 7 rfl rfl)
theorem dX8_swap_31 : decode cX8_swap 31 = .ok (.dup2, 1) := dk_92 (dk_at dksX8_swap_1 8 rfl rfl)
theorem dX8_swap_32 : decode cX8_swap 32 = .ok (.iaload, 1) := dk_46 (dk_at dksX8_swap_1 9 rfl rfl)
theorem dX8_swap_33 : decode cX8_swap 33 = .ok (.iconst 1, 1) := dk_4 (dk_at dksX8_swap_1 10 rfl rfl)
theorem dX8_swap_34 : decode cX8_swap 34 = .ok (.iadd, 1) := dk_96 (dk_at dksX8_swap_1 11 rfl rfl)
theorem dX8_swap_35 : decode cX8_swap 35 = .ok (.iastore, 1) := dk_79 (dk_at dksX8_swap_1 12 rfl rfl)
theorem dX8_swap_36 : decode cX8_swap 36 = .ok (.iconst 0, 1) := dk_3 (dk_at dksX8_swap_1 13 rfl rfl)
theorem dX8_swap_37 : decode cX8_swap 37 = .ok (.ireturn, 1) := dk_172 (dk_at dksX8_swap_1 14 rfl rfl)
theorem dX8_swap_38 : decode cX8_swap 38 = .ok (.aload_n 0, 1) := dk_42 (dk_at dksX8_swap_1 15 rfl rfl)
theorem dX8_swap_39 : decode cX8_swap 39 = .ok (.invokevirtual 427, 3) := dk_182 1 171 (dk_at dksX8_swap_1 16 rfl rfl)
theorem dX8_swap_42 : decode cX8_swap 42 = .ok (.aload_n 0, 1) := dk_42 (dk_at dksX8_swap_1 19 rfl rfl)
theorem dX8_swap_43 : decode cX8_swap 43 = .ok (.getfield 75, 3) := dk_180 0 75 (dk_at dksX8_swap_1 20 rfl rfl)
theorem dX8_swap_46 : decode cX8_swap 46 = .ok (.iload_n 1, 1) := dk_27 (dk_at dksX8_swap_1 23 rfl rfl)
theorem dX8_swap_47 : decode cX8_swap 47 = .ok (.iaload, 1) := dk_46 (dk_at dksX8_swap_2 0 rfl rfl)
theorem dX8_swap_48 : decode cX8_swap 48 = .ok (.istore_n 3, 1) := dk_62 (dk_at dksX8_swap_2 1 rfl rfl)
theorem dX8_swap_49 : decode cX8_swap 49 = .ok (.aload_n 0, 1) := dk_42 (dk_at dksX8_swap_2 2 rfl rfl)
theorem dX8_swap_50 : decode cX8_swap 50 = .ok (.getfield 75, 3) := dk_180 0 75 (dk_at dksX8_swap_2 3 rfl rfl)
theorem dX8_swap_53 : decode cX8_swap 53 = .ok (.iload_n 1, 1) := dk_27 (dk_at dksX8_swap_2 6 rfl rfl)
theorem dX8_swap_54 : decode cX8_swap 54 = .ok (.aload_n 0, 1) := dk_42 (dk_at dksX8_swap_2 7 rfl rfl)
theorem dX8_swap_55 : decode cX8_swap 55 = .ok (.getfield 75, 3) := dk_180 0 75 (dk_at dksX8_swap_2 8 rfl rfl)
theorem dX8_swap_58 : decode cX8_swap 58 = .ok (.iload_n 2, 1) := dk_28 (dk_at dksX8_swap_2 11 rfl rfl)
theorem dX8_swap_59 : decode cX8_swap 59 = .ok (.iaload, 1) := dk_46 (dk_at dksX8_swap_2 12 rfl rfl)
theorem dX8_swap_60 : decode cX8_swap 60 = .ok (.iastore, 1) := dk_79 (dk_at dksX8_swap_2 13 rfl rfl)
theorem dX8_swap_61 : decode cX8_swap 61 = .ok (.aload_n 0, 1) := dk_42 (dk_at dksX8_swap_2 14 rfl rfl)
theorem dX8_swap_62 : decode cX8_swap 62 = .ok (.getfield 75, 3) := dk_180 0 75 (dk_at dksX8_swap_2 15 rfl rfl)
theorem dX8_swap_65 : decode cX8_swap 65 = .ok (.iload_n 2, 1) := dk_28 (dk_at dksX8_swap_2 18 rfl rfl)
theorem dX8_swap_66 : decode cX8_swap 66 = .ok (.iload_n 3, 1) := dk_29 (dk_at dksX8_swap_2 19 rfl rfl)
theorem dX8_swap_67 : decode cX8_swap 67 = .ok (.iastore, 1) := dk_79 (dk_at dksX8_swap_2 20 rfl rfl)
theorem dX8_swap_68 : decode cX8_swap 68 = .ok (.iconst 1, 1) := dk_4 (dk_at dksX8_swap_2 21 rfl rfl)
theorem dX8_swap_69 : decode cX8_swap 69 = .ok (.ireturn, 1) := dk_172 (dk_at dksX8_swap_2 22 rfl rfl)
abbrev cX8_keep : ByteArray := prog_21_method_58_code
def yX8_keep : MethodName := ⟨RX8, "keep", "()V"⟩
def dkwX8_keep_3 : List UInt8 := [89, 180, 1, 68, 4, 96, 181, 1, 68, 177]
abbrev dktX8_keep_3 : List UInt8 := dkwX8_keep_3 ++ []
def dkwX8_keep_2 : List UInt8 := [180, 1, 68, 4, 100, 181, 1, 68, 42, 42, 180, 0, 78, 16, 18, 42, 180, 1, 68, 104, 182, 1, 167, 42]
abbrev dktX8_keep_2 : List UInt8 := dkwX8_keep_2 ++ dktX8_keep_3
def dkwX8_keep_1 : List UInt8 := [180, 0, 78, 27, 16, 18, 100, 42, 180, 0, 78, 27, 46, 79, 132, 1, 1, 167, 255, 229, 42, 89]
abbrev dktX8_keep_1 : List UInt8 := dkwX8_keep_1 ++ dktX8_keep_2
def dkwX8_keep_0 : List UInt8 := [42, 180, 1, 68, 16, 40, 160, 0, 46, 16, 18, 60, 27, 42, 180, 0, 78, 190, 162, 0, 24, 42]
abbrev dktX8_keep_0 : List UInt8 := dkwX8_keep_0 ++ dktX8_keep_1
theorem dksX8_keep_0 : cX8_keep.data.toList.drop 0 = dktX8_keep_0 := by decide +kernel
theorem dksX8_keep_1 : cX8_keep.data.toList.drop 22 = dktX8_keep_1 := dk_seg dksX8_keep_0 22 rfl rfl
theorem dksX8_keep_2 : cX8_keep.data.toList.drop 44 = dktX8_keep_2 := dk_seg dksX8_keep_1 22 rfl rfl
theorem dksX8_keep_3 : cX8_keep.data.toList.drop 68 = dktX8_keep_3 := dk_seg dksX8_keep_2 24 rfl rfl
theorem dX8_keep_0 : decode cX8_keep 0 = .ok (.aload_n 0, 1) := dk_42 (dk_at dksX8_keep_0 0 rfl rfl)
theorem dX8_keep_1 : decode cX8_keep 1 = .ok (.getfield 324, 3) := dk_180 1 68 (dk_at dksX8_keep_0 1 rfl rfl)
theorem dX8_keep_4 : decode cX8_keep 4 = .ok (.bipush 40, 2) := dk_16 40 (dk_at dksX8_keep_0 4 rfl rfl)
theorem dX8_keep_6 : decode cX8_keep 6 = .ok (.if_icmp .ne 46, 3) := dk_160 0 46 (dk_at dksX8_keep_0 6 rfl rfl)
theorem dX8_keep_9 : decode cX8_keep 9 = .ok (.bipush 18, 2) := dk_16 18 (dk_at dksX8_keep_0 9 rfl rfl)
theorem dX8_keep_11 : decode cX8_keep 11 = .ok (.istore_n 1, 1) := dk_60 (dk_at dksX8_keep_0 11 rfl rfl)
theorem dX8_keep_12 : decode cX8_keep 12 = .ok (.iload_n 1, 1) := dk_27 (dk_at dksX8_keep_0 12 rfl rfl)
theorem dX8_keep_13 : decode cX8_keep 13 = .ok (.aload_n 0, 1) := dk_42 (dk_at dksX8_keep_0 13 rfl rfl)
theorem dX8_keep_14 : decode cX8_keep 14 = .ok (.getfield 78, 3) := dk_180 0 78 (dk_at dksX8_keep_0 14 rfl rfl)
theorem dX8_keep_17 : decode cX8_keep 17 = .ok (.arraylength, 1) := dk_190 (dk_at dksX8_keep_0 17 rfl rfl)
theorem dX8_keep_18 : decode cX8_keep 18 = .ok (.if_icmp .ge 24, 3) := dk_162 0 24 (dk_at dksX8_keep_0 18 rfl rfl)
theorem dX8_keep_21 : decode cX8_keep 21 = .ok (.aload_n 0, 1) := dk_42 (dk_at dksX8_keep_0 21 rfl rfl)
theorem dX8_keep_22 : decode cX8_keep 22 = .ok (.getfield 78, 3) := dk_180 0 78 (dk_at dksX8_keep_1 0 rfl rfl)
theorem dX8_keep_25 : decode cX8_keep 25 = .ok (.iload_n 1, 1) := dk_27 (dk_at dksX8_keep_1 3 rfl rfl)
theorem dX8_keep_26 : decode cX8_keep 26 = .ok (.bipush 18, 2) := dk_16 18 (dk_at dksX8_keep_1 4 rfl rfl)
theorem dX8_keep_28 : decode cX8_keep 28 = .ok (.isub, 1) := dk_100 (dk_at dksX8_keep_1 6 rfl rfl)
theorem dX8_keep_29 : decode cX8_keep 29 = .ok (.aload_n 0, 1) := dk_42 (dk_at dksX8_keep_1 7 rfl rfl)
theorem dX8_keep_30 : decode cX8_keep 30 = .ok (.getfield 78, 3) := dk_180 0 78 (dk_at dksX8_keep_1 8 rfl rfl)
theorem dX8_keep_33 : decode cX8_keep 33 = .ok (.iload_n 1, 1) := dk_27 (dk_at dksX8_keep_1 11 rfl rfl)
theorem dX8_keep_34 : decode cX8_keep 34 = .ok (.iaload, 1) := dk_46 (dk_at dksX8_keep_1 12 rfl rfl)
theorem dX8_keep_35 : decode cX8_keep 35 = .ok (.iastore, 1) := dk_79 (dk_at dksX8_keep_1 13 rfl rfl)
theorem dX8_keep_36 : decode cX8_keep 36 = .ok (.iinc 1 1, 3) := dk_132 1 1 (dk_at dksX8_keep_1 14 rfl rfl)
theorem dX8_keep_39 : decode cX8_keep 39 = .ok (.goto (-27), 3) := dk_167 255 229 (dk_at dksX8_keep_1 17 rfl rfl)
theorem dX8_keep_42 : decode cX8_keep 42 = .ok (.aload_n 0, 1) := dk_42 (dk_at dksX8_keep_1 20 rfl rfl)
theorem dX8_keep_43 : decode cX8_keep 43 = .ok (.dup, 1) := dk_89 (dk_at dksX8_keep_1 21 rfl rfl)
theorem dX8_keep_44 : decode cX8_keep 44 = .ok (.getfield 324, 3) := dk_180 1 68 (dk_at dksX8_keep_2 0 rfl rfl)
theorem dX8_keep_47 : decode cX8_keep 47 = .ok (.iconst 1, 1) := dk_4 (dk_at dksX8_keep_2 3 rfl rfl)
theorem dX8_keep_48 : decode cX8_keep 48 = .ok (.isub, 1) := dk_100 (dk_at dksX8_keep_2 4 rfl rfl)
theorem dX8_keep_49 : decode cX8_keep 49 = .ok (.putfield 324, 3) := dk_181 1 68 (dk_at dksX8_keep_2 5 rfl rfl)
theorem dX8_keep_52 : decode cX8_keep 52 = .ok (.aload_n 0, 1) := dk_42 (dk_at dksX8_keep_2 8 rfl rfl)
theorem dX8_keep_53 : decode cX8_keep 53 = .ok (.aload_n 0, 1) := dk_42 (dk_at dksX8_keep_2 9 rfl rfl)
theorem dX8_keep_54 : decode cX8_keep 54 = .ok (.getfield 78, 3) := dk_180 0 78 (dk_at dksX8_keep_2 10 rfl rfl)
theorem dX8_keep_57 : decode cX8_keep 57 = .ok (.bipush 18, 2) := dk_16 18 (dk_at dksX8_keep_2 13 rfl rfl)
theorem dX8_keep_59 : decode cX8_keep 59 = .ok (.aload_n 0, 1) := dk_42 (dk_at dksX8_keep_2 15 rfl rfl)
theorem dX8_keep_60 : decode cX8_keep 60 = .ok (.getfield 324, 3) := dk_180 1 68 (dk_at dksX8_keep_2 16 rfl rfl)
theorem dX8_keep_63 : decode cX8_keep 63 = .ok (.imul, 1) := dk_104 (dk_at dksX8_keep_2 19 rfl rfl)
theorem dX8_keep_64 : decode cX8_keep 64 = .ok (.invokevirtual 423, 3) := dk_182 1 167 (dk_at dksX8_keep_2 20 rfl rfl)
theorem dX8_keep_67 : decode cX8_keep 67 = .ok (.aload_n 0, 1) := dk_42 (dk_at dksX8_keep_2 23 rfl rfl)
theorem dX8_keep_68 : decode cX8_keep 68 = .ok (.dup, 1) := dk_89 (dk_at dksX8_keep_3 0 rfl rfl)
theorem dX8_keep_69 : decode cX8_keep 69 = .ok (.getfield 324, 3) := dk_180 1 68 (dk_at dksX8_keep_3 1 rfl rfl)
theorem dX8_keep_72 : decode cX8_keep 72 = .ok (.iconst 1, 1) := dk_4 (dk_at dksX8_keep_3 4 rfl rfl)
theorem dX8_keep_73 : decode cX8_keep 73 = .ok (.iadd, 1) := dk_96 (dk_at dksX8_keep_3 5 rfl rfl)
theorem dX8_keep_74 : decode cX8_keep 74 = .ok (.putfield 324, 3) := dk_181 1 68 (dk_at dksX8_keep_3 6 rfl rfl)
theorem dX8_keep_77 : decode cX8_keep 77 = .ok (.return_, 1) := dk_177 (dk_at dksX8_keep_3 9 rfl rfl)
abbrev cX8_pack : ByteArray := prog_21_method_35_code
def yX8_pack : MethodName := ⟨RX8, "pack", "([II)V"⟩
def dkwX8_pack_3 : List UInt8 := [6, 96, 42, 180, 1, 65, 79, 177]
abbrev dktX8_pack_3 : List UInt8 := dkwX8_pack_3 ++ []
def dkwX8_pack_2 : List UInt8 := [180, 1, 59, 79, 43, 29, 4, 96, 42, 180, 0, 81, 79, 43, 29, 5, 96, 42, 180, 1, 62, 79, 43, 29]
abbrev dktX8_pack_2 : List UInt8 := dkwX8_pack_2 ++ dktX8_pack_3
def dkwX8_pack_1 : List UInt8 := [29, 96, 42, 180, 0, 53, 29, 46, 79, 132, 3, 1, 167, 255, 222, 28, 16, 14, 96, 62, 43, 29, 42]
abbrev dktX8_pack_1 : List UInt8 := dkwX8_pack_1 ++ dktX8_pack_2
def dkwX8_pack_0 : List UInt8 := [3, 62, 29, 16, 7, 162, 0, 34, 43, 28, 29, 96, 42, 180, 0, 75, 29, 46, 79, 43, 28, 16, 7, 96]
abbrev dktX8_pack_0 : List UInt8 := dkwX8_pack_0 ++ dktX8_pack_1
theorem dksX8_pack_0 : cX8_pack.data.toList.drop 0 = dktX8_pack_0 := by decide +kernel
theorem dksX8_pack_1 : cX8_pack.data.toList.drop 24 = dktX8_pack_1 := dk_seg dksX8_pack_0 24 rfl rfl
theorem dksX8_pack_2 : cX8_pack.data.toList.drop 47 = dktX8_pack_2 := dk_seg dksX8_pack_1 23 rfl rfl
theorem dksX8_pack_3 : cX8_pack.data.toList.drop 71 = dktX8_pack_3 := dk_seg dksX8_pack_2 24 rfl rfl
theorem dX8_pack_0 : decode cX8_pack 0 = .ok (.iconst 0, 1) := dk_3 (dk_at dksX8_pack_0 0 rfl rfl)
theorem dX8_pack_1 : decode cX8_pack 1 = .ok (.istore_n 3, 1) := dk_62 (dk_at dksX8_pack_0 1 rfl rfl)
theorem dX8_pack_2 : decode cX8_pack 2 = .ok (.iload_n 3, 1) := dk_29 (dk_at dksX8_pack_0 2 rfl rfl)
theorem dX8_pack_3 : decode cX8_pack 3 = .ok (.bipush 7, 2) := dk_16 7 (dk_at dksX8_pack_0 3 rfl rfl)
theorem dX8_pack_5 : decode cX8_pack 5 = .ok (.if_icmp .ge 34, 3) := dk_162 0 34 (dk_at dksX8_pack_0 5 rfl rfl)
theorem dX8_pack_8 : decode cX8_pack 8 = .ok (.aload_n 1, 1) := dk_43 (dk_at dksX8_pack_0 8 rfl rfl)
theorem dX8_pack_9 : decode cX8_pack 9 = .ok (.iload_n 2, 1) := dk_28 (dk_at dksX8_pack_0 9 rfl rfl)
theorem dX8_pack_10 : decode cX8_pack 10 = .ok (.iload_n 3, 1) := dk_29 (dk_at dksX8_pack_0 10 rfl rfl)
theorem dX8_pack_11 : decode cX8_pack 11 = .ok (.iadd, 1) := dk_96 (dk_at dksX8_pack_0 11 rfl rfl)
theorem dX8_pack_12 : decode cX8_pack 12 = .ok (.aload_n 0, 1) := dk_42 (dk_at dksX8_pack_0 12 rfl rfl)
theorem dX8_pack_13 : decode cX8_pack 13 = .ok (.getfield 75, 3) := dk_180 0 75 (dk_at dksX8_pack_0 13 rfl rfl)
theorem dX8_pack_16 : decode cX8_pack 16 = .ok (.iload_n 3, 1) := dk_29 (dk_at dksX8_pack_0 16 rfl rfl)
theorem dX8_pack_17 : decode cX8_pack 17 = .ok (.iaload, 1) := dk_46 (dk_at dksX8_pack_0 17 rfl rfl)
theorem dX8_pack_18 : decode cX8_pack 18 = .ok (.iastore, 1) := dk_79 (dk_at dksX8_pack_0 18 rfl rfl)
theorem dX8_pack_19 : decode cX8_pack 19 = .ok (.aload_n 1, 1) := dk_43 (dk_at dksX8_pack_0 19 rfl rfl)
theorem dX8_pack_20 : decode cX8_pack 20 = .ok (.iload_n 2, 1) := dk_28 (dk_at dksX8_pack_0 20 rfl rfl)
theorem dX8_pack_21 : decode cX8_pack 21 = .ok (.bipush 7, 2) := dk_16 7 (dk_at dksX8_pack_0 21 rfl rfl)
theorem dX8_pack_23 : decode cX8_pack 23 = .ok (.iadd, 1) := dk_96 (dk_at dksX8_pack_0 23 rfl rfl)
theorem dX8_pack_24 : decode cX8_pack 24 = .ok (.iload_n 3, 1) := dk_29 (dk_at dksX8_pack_1 0 rfl rfl)
theorem dX8_pack_25 : decode cX8_pack 25 = .ok (.iadd, 1) := dk_96 (dk_at dksX8_pack_1 1 rfl rfl)
theorem dX8_pack_26 : decode cX8_pack 26 = .ok (.aload_n 0, 1) := dk_42 (dk_at dksX8_pack_1 2 rfl rfl)
theorem dX8_pack_27 : decode cX8_pack 27 = .ok (.getfield 53, 3) := dk_180 0 53 (dk_at dksX8_pack_1 3 rfl rfl)
theorem dX8_pack_30 : decode cX8_pack 30 = .ok (.iload_n 3, 1) := dk_29 (dk_at dksX8_pack_1 6 rfl rfl)
theorem dX8_pack_31 : decode cX8_pack 31 = .ok (.iaload, 1) := dk_46 (dk_at dksX8_pack_1 7 rfl rfl)
theorem dX8_pack_32 : decode cX8_pack 32 = .ok (.iastore, 1) := dk_79 (dk_at dksX8_pack_1 8 rfl rfl)
theorem dX8_pack_33 : decode cX8_pack 33 = .ok (.iinc 3 1, 3) := dk_132 3 1 (dk_at dksX8_pack_1 9 rfl rfl)
theorem dX8_pack_36 : decode cX8_pack 36 = .ok (.goto (-34), 3) := dk_167 255 222 (dk_at dksX8_pack_1 12 rfl rfl)
theorem dX8_pack_39 : decode cX8_pack 39 = .ok (.iload_n 2, 1) := dk_28 (dk_at dksX8_pack_1 15 rfl rfl)
theorem dX8_pack_40 : decode cX8_pack 40 = .ok (.bipush 14, 2) := dk_16 14 (dk_at dksX8_pack_1 16 rfl rfl)
theorem dX8_pack_42 : decode cX8_pack 42 = .ok (.iadd, 1) := dk_96 (dk_at dksX8_pack_1 18 rfl rfl)
theorem dX8_pack_43 : decode cX8_pack 43 = .ok (.istore_n 3, 1) := dk_62 (dk_at dksX8_pack_1 19 rfl rfl)
theorem dX8_pack_44 : decode cX8_pack 44 = .ok (.aload_n 1, 1) := dk_43 (dk_at dksX8_pack_1 20 rfl rfl)
theorem dX8_pack_45 : decode cX8_pack 45 = .ok (.iload_n 3, 1) := dk_29 (dk_at dksX8_pack_1 21 rfl rfl)
theorem dX8_pack_46 : decode cX8_pack 46 = .ok (.aload_n 0, 1) := dk_42 (dk_at dksX8_pack_1 22 rfl rfl)
theorem dX8_pack_47 : decode cX8_pack 47 = .ok (.getfield 315, 3) := dk_180 1 59 (dk_at dksX8_pack_2 0 rfl rfl)
theorem dX8_pack_50 : decode cX8_pack 50 = .ok (.iastore, 1) := dk_79 (dk_at dksX8_pack_2 3 rfl rfl)
theorem dX8_pack_51 : decode cX8_pack 51 = .ok (.aload_n 1, 1) := dk_43 (dk_at dksX8_pack_2 4 rfl rfl)
theorem dX8_pack_52 : decode cX8_pack 52 = .ok (.iload_n 3, 1) := dk_29 (dk_at dksX8_pack_2 5 rfl rfl)
theorem dX8_pack_53 : decode cX8_pack 53 = .ok (.iconst 1, 1) := dk_4 (dk_at dksX8_pack_2 6 rfl rfl)
theorem dX8_pack_54 : decode cX8_pack 54 = .ok (.iadd, 1) := dk_96 (dk_at dksX8_pack_2 7 rfl rfl)
theorem dX8_pack_55 : decode cX8_pack 55 = .ok (.aload_n 0, 1) := dk_42 (dk_at dksX8_pack_2 8 rfl rfl)
theorem dX8_pack_56 : decode cX8_pack 56 = .ok (.getfield 81, 3) := dk_180 0 81 (dk_at dksX8_pack_2 9 rfl rfl)
theorem dX8_pack_59 : decode cX8_pack 59 = .ok (.iastore, 1) := dk_79 (dk_at dksX8_pack_2 12 rfl rfl)
theorem dX8_pack_60 : decode cX8_pack 60 = .ok (.aload_n 1, 1) := dk_43 (dk_at dksX8_pack_2 13 rfl rfl)
theorem dX8_pack_61 : decode cX8_pack 61 = .ok (.iload_n 3, 1) := dk_29 (dk_at dksX8_pack_2 14 rfl rfl)
theorem dX8_pack_62 : decode cX8_pack 62 = .ok (.iconst 2, 1) := dk_5 (dk_at dksX8_pack_2 15 rfl rfl)
theorem dX8_pack_63 : decode cX8_pack 63 = .ok (.iadd, 1) := dk_96 (dk_at dksX8_pack_2 16 rfl rfl)
theorem dX8_pack_64 : decode cX8_pack 64 = .ok (.aload_n 0, 1) := dk_42 (dk_at dksX8_pack_2 17 rfl rfl)
theorem dX8_pack_65 : decode cX8_pack 65 = .ok (.getfield 318, 3) := dk_180 1 62 (dk_at dksX8_pack_2 18 rfl rfl)
theorem dX8_pack_68 : decode cX8_pack 68 = .ok (.iastore, 1) := dk_79 (dk_at dksX8_pack_2 21 rfl rfl)
theorem dX8_pack_69 : decode cX8_pack 69 = .ok (.aload_n 1, 1) := dk_43 (dk_at dksX8_pack_2 22 rfl rfl)
theorem dX8_pack_70 : decode cX8_pack 70 = .ok (.iload_n 3, 1) := dk_29 (dk_at dksX8_pack_2 23 rfl rfl)
theorem dX8_pack_71 : decode cX8_pack 71 = .ok (.iconst 3, 1) := dk_6 (dk_at dksX8_pack_3 0 rfl rfl)
theorem dX8_pack_72 : decode cX8_pack 72 = .ok (.iadd, 1) := dk_96 (dk_at dksX8_pack_3 1 rfl rfl)
theorem dX8_pack_73 : decode cX8_pack 73 = .ok (.aload_n 0, 1) := dk_42 (dk_at dksX8_pack_3 2 rfl rfl)
theorem dX8_pack_74 : decode cX8_pack 74 = .ok (.getfield 321, 3) := dk_180 1 65 (dk_at dksX8_pack_3 3 rfl rfl)
theorem dX8_pack_77 : decode cX8_pack 77 = .ok (.iastore, 1) := dk_79 (dk_at dksX8_pack_3 6 rfl rfl)
theorem dX8_pack_78 : decode cX8_pack 78 = .ok (.return_, 1) := dk_177 (dk_at dksX8_pack_3 7 rfl rfl)
abbrev cX8_side : ByteArray := prog_21_method_60_code
def yX8_side : MethodName := ⟨RX8, "side", "(I)I"⟩
def dkwX8_side_1 : List UInt8 := [42, 180, 1, 59, 61, 42, 27, 181, 1, 59, 28, 172]
abbrev dktX8_side_1 : List UInt8 := dkwX8_side_1 ++ []
def dkwX8_side_0 : List UInt8 := [42, 3, 181, 0, 159, 27, 155, 0, 8, 27, 4, 164, 0, 9, 42, 4, 182, 1, 174, 172, 42, 182, 1, 171]
abbrev dktX8_side_0 : List UInt8 := dkwX8_side_0 ++ dktX8_side_1
theorem dksX8_side_0 : cX8_side.data.toList.drop 0 = dktX8_side_0 := by decide +kernel
theorem dksX8_side_1 : cX8_side.data.toList.drop 24 = dktX8_side_1 := dk_seg dksX8_side_0 24 rfl rfl
theorem dX8_side_0 : decode cX8_side 0 = .ok (.aload_n 0, 1) := dk_42 (dk_at dksX8_side_0 0 rfl rfl)
theorem dX8_side_1 : decode cX8_side 1 = .ok (.iconst 0, 1) := dk_3 (dk_at dksX8_side_0 1 rfl rfl)
theorem dX8_side_2 : decode cX8_side 2 = .ok (.putfield 159, 3) := dk_181 0 159 (dk_at dksX8_side_0 2 rfl rfl)
theorem dX8_side_5 : decode cX8_side 5 = .ok (.iload_n 1, 1) := dk_27 (dk_at dksX8_side_0 5 rfl rfl)
theorem dX8_side_6 : decode cX8_side 6 = .ok (.ifCond .lt 8, 3) := dk_155 0 8 (dk_at dksX8_side_0 6 rfl rfl)
theorem dX8_side_9 : decode cX8_side 9 = .ok (.iload_n 1, 1) := dk_27 (dk_at dksX8_side_0 9 rfl rfl)
theorem dX8_side_10 : decode cX8_side 10 = .ok (.iconst 1, 1) := dk_4 (dk_at dksX8_side_0 10 rfl rfl)
theorem dX8_side_11 : decode cX8_side 11 = .ok (.if_icmp .le 9, 3) := dk_164 0 9 (dk_at dksX8_side_0 11 rfl rfl)
theorem dX8_side_14 : decode cX8_side 14 = .ok (.aload_n 0, 1) := dk_42 (dk_at dksX8_side_0 14 rfl rfl)
theorem dX8_side_15 : decode cX8_side 15 = .ok (.iconst 1, 1) := dk_4 (dk_at dksX8_side_0 15 rfl rfl)
theorem dX8_side_16 : decode cX8_side 16 = .ok (.invokevirtual 430, 3) := dk_182 1 174 (dk_at dksX8_side_0 16 rfl rfl)
theorem dX8_side_19 : decode cX8_side 19 = .ok (.ireturn, 1) := dk_172 (dk_at dksX8_side_0 19 rfl rfl)
theorem dX8_side_20 : decode cX8_side 20 = .ok (.aload_n 0, 1) := dk_42 (dk_at dksX8_side_0 20 rfl rfl)
theorem dX8_side_21 : decode cX8_side 21 = .ok (.invokevirtual 427, 3) := dk_182 1 171 (dk_at dksX8_side_0 21 rfl rfl)
theorem dX8_side_24 : decode cX8_side 24 = .ok (.aload_n 0, 1) := dk_42 (dk_at dksX8_side_1 0 rfl rfl)
theorem dX8_side_25 : decode cX8_side 25 = .ok (.getfield 315, 3) := dk_180 1 59 (dk_at dksX8_side_1 1 rfl rfl)
theorem dX8_side_28 : decode cX8_side 28 = .ok (.istore_n 2, 1) := dk_61 (dk_at dksX8_side_1 4 rfl rfl)
theorem dX8_side_29 : decode cX8_side 29 = .ok (.aload_n 0, 1) := dk_42 (dk_at dksX8_side_1 5 rfl rfl)
theorem dX8_side_30 : decode cX8_side 30 = .ok (.iload_n 1, 1) := dk_27 (dk_at dksX8_side_1 6 rfl rfl)
theorem dX8_side_31 : decode cX8_side 31 = .ok (.putfield 315, 3) := dk_181 1 59 (dk_at dksX8_side_1 7 rfl rfl)
theorem dX8_side_34 : decode cX8_side 34 = .ok (.iload_n 2, 1) := dk_28 (dk_at dksX8_side_1 10 rfl rfl)
theorem dX8_side_35 : decode cX8_side 35 = .ok (.ireturn, 1) := dk_172 (dk_at dksX8_side_1 11 rfl rfl)
abbrev cX8_refuse : ByteArray := prog_21_method_57_code
def yX8_refuse : MethodName := ⟨RX8, "refuse", "(I)I"⟩
def dkwX8_refuse_0 : List UInt8 := [42, 180, 0, 65, 27, 92, 46, 4, 96, 79, 2, 172]
abbrev dktX8_refuse_0 : List UInt8 := dkwX8_refuse_0 ++ []
theorem dksX8_refuse_0 : cX8_refuse.data.toList.drop 0 = dktX8_refuse_0 := by decide +kernel
theorem dX8_refuse_0 : decode cX8_refuse 0 = .ok (.aload_n 0, 1) := dk_42 (dk_at dksX8_refuse_0 0 rfl rfl)
theorem dX8_refuse_1 : decode cX8_refuse 1 = .ok (.getfield 65, 3) := dk_180 0 65 (dk_at dksX8_refuse_0 1 rfl rfl)
theorem dX8_refuse_4 : decode cX8_refuse 4 = .ok (.iload_n 1, 1) := dk_27 (dk_at dksX8_refuse_0 4 rfl rfl)
theorem dX8_refuse_5 : decode cX8_refuse 5 = .ok (.dup2, 1) := dk_92 (dk_at dksX8_refuse_0 5 rfl rfl)
theorem dX8_refuse_6 : decode cX8_refuse 6 = .ok (.iaload, 1) := dk_46 (dk_at dksX8_refuse_0 6 rfl rfl)
theorem dX8_refuse_7 : decode cX8_refuse 7 = .ok (.iconst 1, 1) := dk_4 (dk_at dksX8_refuse_0 7 rfl rfl)
theorem dX8_refuse_8 : decode cX8_refuse 8 = .ok (.iadd, 1) := dk_96 (dk_at dksX8_refuse_0 8 rfl rfl)
theorem dX8_refuse_9 : decode cX8_refuse 9 = .ok (.iastore, 1) := dk_79 (dk_at dksX8_refuse_0 9 rfl rfl)
theorem dX8_refuse_10 : decode cX8_refuse 10 = .ok (.iconst (-1), 1) := dk_2 (dk_at dksX8_refuse_0 10 rfl rfl)
theorem dX8_refuse_11 : decode cX8_refuse 11 = .ok (.ireturn, 1) := dk_172 (dk_at dksX8_refuse_0 11 rfl rfl)
abbrev cX8_word : ByteArray := prog_21_method_61_code
def yX8_word : MethodName := ⟨RX8, "word", "(II)I"⟩
def dkwX8_word_3 : List UInt8 := [181, 1, 62, 29, 172]
abbrev dktX8_word_3 : List UInt8 := dkwX8_word_3 ++ []
def dkwX8_word_2 : List UInt8 := [182, 1, 171, 42, 180, 1, 62, 62, 42, 28, 154, 0, 7, 2, 167, 0, 4, 27, 181, 0, 81, 42, 28]
abbrev dktX8_word_2 : List UInt8 := dkwX8_word_2 ++ dktX8_word_3
def dkwX8_word_1 : List UInt8 := [46, 6, 159, 0, 15, 28, 133, 9, 20, 1, 177, 184, 0, 162, 154, 0, 9, 42, 4, 182, 1, 174, 172, 42]
abbrev dktX8_word_1 : List UInt8 := dkwX8_word_1 ++ dktX8_word_2
def dkwX8_word_0 : List UInt8 := [42, 3, 181, 0, 159, 42, 27, 182, 1, 164, 154, 0, 9, 42, 4, 182, 1, 46, 172, 42, 180, 0, 42, 27]
abbrev dktX8_word_0 : List UInt8 := dkwX8_word_0 ++ dktX8_word_1
theorem dksX8_word_0 : cX8_word.data.toList.drop 0 = dktX8_word_0 := by decide +kernel
theorem dksX8_word_1 : cX8_word.data.toList.drop 24 = dktX8_word_1 := dk_seg dksX8_word_0 24 rfl rfl
theorem dksX8_word_2 : cX8_word.data.toList.drop 48 = dktX8_word_2 := dk_seg dksX8_word_1 24 rfl rfl
theorem dksX8_word_3 : cX8_word.data.toList.drop 71 = dktX8_word_3 := dk_seg dksX8_word_2 23 rfl rfl
theorem dX8_word_0 : decode cX8_word 0 = .ok (.aload_n 0, 1) := dk_42 (dk_at dksX8_word_0 0 rfl rfl)
theorem dX8_word_1 : decode cX8_word 1 = .ok (.iconst 0, 1) := dk_3 (dk_at dksX8_word_0 1 rfl rfl)
theorem dX8_word_2 : decode cX8_word 2 = .ok (.putfield 159, 3) := dk_181 0 159 (dk_at dksX8_word_0 2 rfl rfl)
theorem dX8_word_5 : decode cX8_word 5 = .ok (.aload_n 0, 1) := dk_42 (dk_at dksX8_word_0 5 rfl rfl)
theorem dX8_word_6 : decode cX8_word 6 = .ok (.iload_n 1, 1) := dk_27 (dk_at dksX8_word_0 6 rfl rfl)
theorem dX8_word_7 : decode cX8_word 7 = .ok (.invokevirtual 420, 3) := dk_182 1 164 (dk_at dksX8_word_0 7 rfl rfl)
theorem dX8_word_10 : decode cX8_word 10 = .ok (.ifCond .ne 9, 3) := dk_154 0 9 (dk_at dksX8_word_0 10 rfl rfl)
theorem dX8_word_13 : decode cX8_word 13 = .ok (.aload_n 0, 1) := dk_42 (dk_at dksX8_word_0 13 rfl rfl)
theorem dX8_word_14 : decode cX8_word 14 = .ok (.iconst 1, 1) := dk_4 (dk_at dksX8_word_0 14 rfl rfl)
theorem dX8_word_15 : decode cX8_word 15 = .ok (.invokevirtual 302, 3) := dk_182 1 46 (dk_at dksX8_word_0 15 rfl rfl)
theorem dX8_word_18 : decode cX8_word 18 = .ok (.ireturn, 1) := dk_172 (dk_at dksX8_word_0 18 rfl rfl)
theorem dX8_word_19 : decode cX8_word 19 = .ok (.aload_n 0, 1) := dk_42 (dk_at dksX8_word_0 19 rfl rfl)
theorem dX8_word_20 : decode cX8_word 20 = .ok (.getfield 42, 3) := dk_180 0 42 (dk_at dksX8_word_0 20 rfl rfl)
theorem dX8_word_23 : decode cX8_word 23 = .ok (.iload_n 1, 1) := dk_27 (dk_at dksX8_word_0 23 rfl rfl)
theorem dX8_word_24 : decode cX8_word 24 = .ok (.iaload, 1) := dk_46 (dk_at dksX8_word_1 0 rfl rfl)
theorem dX8_word_25 : decode cX8_word 25 = .ok (.iconst 3, 1) := dk_6 (dk_at dksX8_word_1 1 rfl rfl)
theorem dX8_word_26 : decode cX8_word 26 = .ok (.if_icmp .eq 15, 3) := dk_159 0 15 (dk_at dksX8_word_1 2 rfl rfl)
theorem dX8_word_29 : decode cX8_word 29 = .ok (.iload_n 2, 1) := dk_28 (dk_at dksX8_word_1 5 rfl rfl)
theorem dX8_word_30 : decode cX8_word 30 = .ok (.i2l, 1) := dk_133 (dk_at dksX8_word_1 6 rfl rfl)
theorem dX8_word_31 : decode cX8_word 31 = .ok (.lconst 0, 1) := dk_9 (dk_at dksX8_word_1 7 rfl rfl)
theorem dX8_word_32 : decode cX8_word 32 = .ok (.ldc2_w 433, 3) := dk_20 1 177 (dk_at dksX8_word_1 8 rfl rfl)
theorem dX8_word_35 : decode cX8_word 35 = .ok (.invokestatic 162, 3) := dk_184 0 162 (dk_at dksX8_word_1 11 rfl rfl)
theorem dX8_word_38 : decode cX8_word 38 = .ok (.ifCond .ne 9, 3) := dk_154 0 9 (dk_at dksX8_word_1 14 rfl rfl)
theorem dX8_word_41 : decode cX8_word 41 = .ok (.aload_n 0, 1) := dk_42 (dk_at dksX8_word_1 17 rfl rfl)
theorem dX8_word_42 : decode cX8_word 42 = .ok (.iconst 1, 1) := dk_4 (dk_at dksX8_word_1 18 rfl rfl)
theorem dX8_word_43 : decode cX8_word 43 = .ok (.invokevirtual 430, 3) := dk_182 1 174 (dk_at dksX8_word_1 19 rfl rfl)
theorem dX8_word_46 : decode cX8_word 46 = .ok (.ireturn, 1) := dk_172 (dk_at dksX8_word_1 22 rfl rfl)
theorem dX8_word_47 : decode cX8_word 47 = .ok (.aload_n 0, 1) := dk_42 (dk_at dksX8_word_1 23 rfl rfl)
theorem dX8_word_48 : decode cX8_word 48 = .ok (.invokevirtual 427, 3) := dk_182 1 171 (dk_at dksX8_word_2 0 rfl rfl)
theorem dX8_word_51 : decode cX8_word 51 = .ok (.aload_n 0, 1) := dk_42 (dk_at dksX8_word_2 3 rfl rfl)
theorem dX8_word_52 : decode cX8_word 52 = .ok (.getfield 318, 3) := dk_180 1 62 (dk_at dksX8_word_2 4 rfl rfl)
theorem dX8_word_55 : decode cX8_word 55 = .ok (.istore_n 3, 1) := dk_62 (dk_at dksX8_word_2 7 rfl rfl)
theorem dX8_word_56 : decode cX8_word 56 = .ok (.aload_n 0, 1) := dk_42 (dk_at dksX8_word_2 8 rfl rfl)
theorem dX8_word_57 : decode cX8_word 57 = .ok (.iload_n 2, 1) := dk_28 (dk_at dksX8_word_2 9 rfl rfl)
theorem dX8_word_58 : decode cX8_word 58 = .ok (.ifCond .ne 7, 3) := dk_154 0 7 (dk_at dksX8_word_2 10 rfl rfl)
theorem dX8_word_61 : decode cX8_word 61 = .ok (.iconst (-1), 1) := dk_2 (dk_at dksX8_word_2 13 rfl rfl)
theorem dX8_word_62 : decode cX8_word 62 = .ok (.goto 4, 3) := dk_167 0 4 (dk_at dksX8_word_2 14 rfl rfl)
theorem dX8_word_65 : decode cX8_word 65 = .ok (.iload_n 1, 1) := dk_27 (dk_at dksX8_word_2 17 rfl rfl)
theorem dX8_word_66 : decode cX8_word 66 = .ok (.putfield 81, 3) := dk_181 0 81 (dk_at dksX8_word_2 18 rfl rfl)
theorem dX8_word_69 : decode cX8_word 69 = .ok (.aload_n 0, 1) := dk_42 (dk_at dksX8_word_2 21 rfl rfl)
theorem dX8_word_70 : decode cX8_word 70 = .ok (.iload_n 2, 1) := dk_28 (dk_at dksX8_word_2 22 rfl rfl)
theorem dX8_word_71 : decode cX8_word 71 = .ok (.putfield 318, 3) := dk_181 1 62 (dk_at dksX8_word_3 0 rfl rfl)
theorem dX8_word_74 : decode cX8_word 74 = .ok (.iload_n 3, 1) := dk_29 (dk_at dksX8_word_3 3 rfl rfl)
theorem dX8_word_75 : decode cX8_word 75 = .ok (.ireturn, 1) := dk_172 (dk_at dksX8_word_3 4 rfl rfl)
abbrev cX8_bolster : ByteArray := prog_21_method_62_code
def yX8_bolster : MethodName := ⟨RX8, "bolster", "(IZ)Z"⟩
def dkwX8_bolster_2 : List UInt8 := [172, 42, 182, 1, 171, 42, 89, 180, 1, 65, 4, 27, 120, 130, 181, 1, 65, 4, 172]
abbrev dktX8_bolster_2 : List UInt8 := dkwX8_bolster_2 ++ []
def dkwX8_bolster_1 : List UInt8 := [126, 28, 153, 0, 7, 4, 167, 0, 4, 3, 160, 0, 15, 42, 180, 0, 65, 4, 92, 46, 4, 96, 79, 3]
abbrev dktX8_bolster_1 : List UInt8 := dkwX8_bolster_1 ++ dktX8_bolster_2
def dkwX8_bolster_0 : List UInt8 := [42, 3, 181, 0, 159, 27, 133, 10, 20, 1, 179, 184, 0, 162, 153, 0, 23, 42, 180, 1, 65, 27, 122, 4]
abbrev dktX8_bolster_0 : List UInt8 := dkwX8_bolster_0 ++ dktX8_bolster_1
theorem dksX8_bolster_0 : cX8_bolster.data.toList.drop 0 = dktX8_bolster_0 := by decide +kernel
theorem dksX8_bolster_1 : cX8_bolster.data.toList.drop 24 = dktX8_bolster_1 := dk_seg dksX8_bolster_0 24 rfl rfl
theorem dksX8_bolster_2 : cX8_bolster.data.toList.drop 48 = dktX8_bolster_2 := dk_seg dksX8_bolster_1 24 rfl rfl
theorem dX8_bolster_0 : decode cX8_bolster 0 = .ok (.aload_n 0, 1) := dk_42 (dk_at dksX8_bolster_0 0 rfl rfl)
theorem dX8_bolster_1 : decode cX8_bolster 1 = .ok (.iconst 0, 1) := dk_3 (dk_at dksX8_bolster_0 1 rfl rfl)
theorem dX8_bolster_2 : decode cX8_bolster 2 = .ok (.putfield 159, 3) := dk_181 0 159 (dk_at dksX8_bolster_0 2 rfl rfl)
theorem dX8_bolster_5 : decode cX8_bolster 5 = .ok (.iload_n 1, 1) := dk_27 (dk_at dksX8_bolster_0 5 rfl rfl)
theorem dX8_bolster_6 : decode cX8_bolster 6 = .ok (.i2l, 1) := dk_133 (dk_at dksX8_bolster_0 6 rfl rfl)
theorem dX8_bolster_7 : decode cX8_bolster 7 = .ok (.lconst 1, 1) := dk_10 (dk_at dksX8_bolster_0 7 rfl rfl)
theorem dX8_bolster_8 : decode cX8_bolster 8 = .ok (.ldc2_w 435, 3) := dk_20 1 179 (dk_at dksX8_bolster_0 8 rfl rfl)
theorem dX8_bolster_11 : decode cX8_bolster 11 = .ok (.invokestatic 162, 3) := dk_184 0 162 (dk_at dksX8_bolster_0 11 rfl rfl)
theorem dX8_bolster_14 : decode cX8_bolster 14 = .ok (.ifCond .eq 23, 3) := dk_153 0 23 (dk_at dksX8_bolster_0 14 rfl rfl)
theorem dX8_bolster_17 : decode cX8_bolster 17 = .ok (.aload_n 0, 1) := dk_42 (dk_at dksX8_bolster_0 17 rfl rfl)
theorem dX8_bolster_18 : decode cX8_bolster 18 = .ok (.getfield 321, 3) := dk_180 1 65 (dk_at dksX8_bolster_0 18 rfl rfl)
theorem dX8_bolster_21 : decode cX8_bolster 21 = .ok (.iload_n 1, 1) := dk_27 (dk_at dksX8_bolster_0 21 rfl rfl)
theorem dX8_bolster_22 : decode cX8_bolster 22 = .ok (.ishr, 1) := dk_122 (dk_at dksX8_bolster_0 22 rfl rfl)
theorem dX8_bolster_23 : decode cX8_bolster 23 = .ok (.iconst 1, 1) := dk_4 (dk_at dksX8_bolster_0 23 rfl rfl)
theorem dX8_bolster_24 : decode cX8_bolster 24 = .ok (.iand, 1) := dk_126 (dk_at dksX8_bolster_1 0 rfl rfl)
theorem dX8_bolster_25 : decode cX8_bolster 25 = .ok (.iload_n 2, 1) := dk_28 (dk_at dksX8_bolster_1 1 rfl rfl)
theorem dX8_bolster_26 : decode cX8_bolster 26 = .ok (.ifCond .eq 7, 3) := dk_153 0 7 (dk_at dksX8_bolster_1 2 rfl rfl)
theorem dX8_bolster_29 : decode cX8_bolster 29 = .ok (.iconst 1, 1) := dk_4 (dk_at dksX8_bolster_1 5 rfl rfl)
theorem dX8_bolster_30 : decode cX8_bolster 30 = .ok (.goto 4, 3) := dk_167 0 4 (dk_at dksX8_bolster_1 6 rfl rfl)
theorem dX8_bolster_33 : decode cX8_bolster 33 = .ok (.iconst 0, 1) := dk_3 (dk_at dksX8_bolster_1 9 rfl rfl)
theorem dX8_bolster_34 : decode cX8_bolster 34 = .ok (.if_icmp .ne 15, 3) := dk_160 0 15 (dk_at dksX8_bolster_1 10 rfl rfl)
theorem dX8_bolster_37 : decode cX8_bolster 37 = .ok (.aload_n 0, 1) := dk_42 (dk_at dksX8_bolster_1 13 rfl rfl)
theorem dX8_bolster_38 : decode cX8_bolster 38 = .ok (.getfield 65, 3) := dk_180 0 65 (dk_at dksX8_bolster_1 14 rfl rfl)
theorem dX8_bolster_41 : decode cX8_bolster 41 = .ok (.iconst 1, 1) := dk_4 (dk_at dksX8_bolster_1 17 rfl rfl)
theorem dX8_bolster_42 : decode cX8_bolster 42 = .ok (.dup2, 1) := dk_92 (dk_at dksX8_bolster_1 18 rfl rfl)
theorem dX8_bolster_43 : decode cX8_bolster 43 = .ok (.iaload, 1) := dk_46 (dk_at dksX8_bolster_1 19 rfl rfl)
theorem dX8_bolster_44 : decode cX8_bolster 44 = .ok (.iconst 1, 1) := dk_4 (dk_at dksX8_bolster_1 20 rfl rfl)
theorem dX8_bolster_45 : decode cX8_bolster 45 = .ok (.iadd, 1) := dk_96 (dk_at dksX8_bolster_1 21 rfl rfl)
theorem dX8_bolster_46 : decode cX8_bolster 46 = .ok (.iastore, 1) := dk_79 (dk_at dksX8_bolster_1 22 rfl rfl)
theorem dX8_bolster_47 : decode cX8_bolster 47 = .ok (.iconst 0, 1) := dk_3 (dk_at dksX8_bolster_1 23 rfl rfl)
theorem dX8_bolster_48 : decode cX8_bolster 48 = .ok (.ireturn, 1) := dk_172 (dk_at dksX8_bolster_2 0 rfl rfl)
theorem dX8_bolster_49 : decode cX8_bolster 49 = .ok (.aload_n 0, 1) := dk_42 (dk_at dksX8_bolster_2 1 rfl rfl)
theorem dX8_bolster_50 : decode cX8_bolster 50 = .ok (.invokevirtual 427, 3) := dk_182 1 171 (dk_at dksX8_bolster_2 2 rfl rfl)
theorem dX8_bolster_53 : decode cX8_bolster 53 = .ok (.aload_n 0, 1) := dk_42 (dk_at dksX8_bolster_2 5 rfl rfl)
theorem dX8_bolster_54 : decode cX8_bolster 54 = .ok (.dup, 1) := dk_89 (dk_at dksX8_bolster_2 6 rfl rfl)
theorem dX8_bolster_55 : decode cX8_bolster 55 = .ok (.getfield 321, 3) := dk_180 1 65 (dk_at dksX8_bolster_2 7 rfl rfl)
theorem dX8_bolster_58 : decode cX8_bolster 58 = .ok (.iconst 1, 1) := dk_4 (dk_at dksX8_bolster_2 10 rfl rfl)
theorem dX8_bolster_59 : decode cX8_bolster 59 = .ok (.iload_n 1, 1) := dk_27 (dk_at dksX8_bolster_2 11 rfl rfl)
theorem dX8_bolster_60 : decode cX8_bolster 60 = .ok (.ishl, 1) := dk_120 (dk_at dksX8_bolster_2 12 rfl rfl)
theorem dX8_bolster_61 : decode cX8_bolster 61 = .ok (.ixor, 1) := dk_130 (dk_at dksX8_bolster_2 13 rfl rfl)
theorem dX8_bolster_62 : decode cX8_bolster 62 = .ok (.putfield 321, 3) := dk_181 1 65 (dk_at dksX8_bolster_2 14 rfl rfl)
theorem dX8_bolster_65 : decode cX8_bolster 65 = .ok (.iconst 1, 1) := dk_4 (dk_at dksX8_bolster_2 17 rfl rfl)
theorem dX8_bolster_66 : decode cX8_bolster 66 = .ok (.ireturn, 1) := dk_172 (dk_at dksX8_bolster_2 18 rfl rfl)
abbrev cX8_out : ByteArray := prog_21_method_63_code
def yX8_out : MethodName := ⟨RX8, "out", "(II)I"⟩
def dkwX8_out_2 : List UInt8 := [182, 1, 171, 42, 180, 0, 53, 27, 46, 62, 42, 180, 0, 53, 27, 28, 79, 29, 172]
abbrev dktX8_out_2 : List UInt8 := dkwX8_out_2 ++ []
def dkwX8_out_1 : List UInt8 := [46, 6, 159, 0, 15, 28, 133, 9, 20, 1, 181, 184, 0, 162, 154, 0, 9, 42, 4, 182, 1, 174, 172, 42]
abbrev dktX8_out_1 : List UInt8 := dkwX8_out_1 ++ dktX8_out_2
def dkwX8_out_0 : List UInt8 := [42, 3, 181, 0, 159, 42, 27, 182, 1, 164, 154, 0, 9, 42, 4, 182, 1, 46, 172, 42, 180, 0, 42, 27]
abbrev dktX8_out_0 : List UInt8 := dkwX8_out_0 ++ dktX8_out_1
theorem dksX8_out_0 : cX8_out.data.toList.drop 0 = dktX8_out_0 := by decide +kernel
theorem dksX8_out_1 : cX8_out.data.toList.drop 24 = dktX8_out_1 := dk_seg dksX8_out_0 24 rfl rfl
theorem dksX8_out_2 : cX8_out.data.toList.drop 48 = dktX8_out_2 := dk_seg dksX8_out_1 24 rfl rfl
theorem dX8_out_0 : decode cX8_out 0 = .ok (.aload_n 0, 1) := dk_42 (dk_at dksX8_out_0 0 rfl rfl)
theorem dX8_out_1 : decode cX8_out 1 = .ok (.iconst 0, 1) := dk_3 (dk_at dksX8_out_0 1 rfl rfl)
theorem dX8_out_2 : decode cX8_out 2 = .ok (.putfield 159, 3) := dk_181 0 159 (dk_at dksX8_out_0 2 rfl rfl)
theorem dX8_out_5 : decode cX8_out 5 = .ok (.aload_n 0, 1) := dk_42 (dk_at dksX8_out_0 5 rfl rfl)
theorem dX8_out_6 : decode cX8_out 6 = .ok (.iload_n 1, 1) := dk_27 (dk_at dksX8_out_0 6 rfl rfl)
theorem dX8_out_7 : decode cX8_out 7 = .ok (.invokevirtual 420, 3) := dk_182 1 164 (dk_at dksX8_out_0 7 rfl rfl)
theorem dX8_out_10 : decode cX8_out 10 = .ok (.ifCond .ne 9, 3) := dk_154 0 9 (dk_at dksX8_out_0 10 rfl rfl)
theorem dX8_out_13 : decode cX8_out 13 = .ok (.aload_n 0, 1) := dk_42 (dk_at dksX8_out_0 13 rfl rfl)
theorem dX8_out_14 : decode cX8_out 14 = .ok (.iconst 1, 1) := dk_4 (dk_at dksX8_out_0 14 rfl rfl)
theorem dX8_out_15 : decode cX8_out 15 = .ok (.invokevirtual 302, 3) := dk_182 1 46 (dk_at dksX8_out_0 15 rfl rfl)
theorem dX8_out_18 : decode cX8_out 18 = .ok (.ireturn, 1) := dk_172 (dk_at dksX8_out_0 18 rfl rfl)
theorem dX8_out_19 : decode cX8_out 19 = .ok (.aload_n 0, 1) := dk_42 (dk_at dksX8_out_0 19 rfl rfl)
theorem dX8_out_20 : decode cX8_out 20 = .ok (.getfield 42, 3) := dk_180 0 42 (dk_at dksX8_out_0 20 rfl rfl)
theorem dX8_out_23 : decode cX8_out 23 = .ok (.iload_n 1, 1) := dk_27 (dk_at dksX8_out_0 23 rfl rfl)
theorem dX8_out_24 : decode cX8_out 24 = .ok (.iaload, 1) := dk_46 (dk_at dksX8_out_1 0 rfl rfl)
theorem dX8_out_25 : decode cX8_out 25 = .ok (.iconst 3, 1) := dk_6 (dk_at dksX8_out_1 1 rfl rfl)
theorem dX8_out_26 : decode cX8_out 26 = .ok (.if_icmp .eq 15, 3) := dk_159 0 15 (dk_at dksX8_out_1 2 rfl rfl)
theorem dX8_out_29 : decode cX8_out 29 = .ok (.iload_n 2, 1) := dk_28 (dk_at dksX8_out_1 5 rfl rfl)
theorem dX8_out_30 : decode cX8_out 30 = .ok (.i2l, 1) := dk_133 (dk_at dksX8_out_1 6 rfl rfl)
theorem dX8_out_31 : decode cX8_out 31 = .ok (.lconst 0, 1) := dk_9 (dk_at dksX8_out_1 7 rfl rfl)
theorem dX8_out_32 : decode cX8_out 32 = .ok (.ldc2_w 437, 3) := dk_20 1 181 (dk_at dksX8_out_1 8 rfl rfl)
theorem dX8_out_35 : decode cX8_out 35 = .ok (.invokestatic 162, 3) := dk_184 0 162 (dk_at dksX8_out_1 11 rfl rfl)
theorem dX8_out_38 : decode cX8_out 38 = .ok (.ifCond .ne 9, 3) := dk_154 0 9 (dk_at dksX8_out_1 14 rfl rfl)
theorem dX8_out_41 : decode cX8_out 41 = .ok (.aload_n 0, 1) := dk_42 (dk_at dksX8_out_1 17 rfl rfl)
theorem dX8_out_42 : decode cX8_out 42 = .ok (.iconst 1, 1) := dk_4 (dk_at dksX8_out_1 18 rfl rfl)
theorem dX8_out_43 : decode cX8_out 43 = .ok (.invokevirtual 430, 3) := dk_182 1 174 (dk_at dksX8_out_1 19 rfl rfl)
theorem dX8_out_46 : decode cX8_out 46 = .ok (.ireturn, 1) := dk_172 (dk_at dksX8_out_1 22 rfl rfl)
theorem dX8_out_47 : decode cX8_out 47 = .ok (.aload_n 0, 1) := dk_42 (dk_at dksX8_out_1 23 rfl rfl)
theorem dX8_out_48 : decode cX8_out 48 = .ok (.invokevirtual 427, 3) := dk_182 1 171 (dk_at dksX8_out_2 0 rfl rfl)
theorem dX8_out_51 : decode cX8_out 51 = .ok (.aload_n 0, 1) := dk_42 (dk_at dksX8_out_2 3 rfl rfl)
theorem dX8_out_52 : decode cX8_out 52 = .ok (.getfield 53, 3) := dk_180 0 53 (dk_at dksX8_out_2 4 rfl rfl)
theorem dX8_out_55 : decode cX8_out 55 = .ok (.iload_n 1, 1) := dk_27 (dk_at dksX8_out_2 7 rfl rfl)
theorem dX8_out_56 : decode cX8_out 56 = .ok (.iaload, 1) := dk_46 (dk_at dksX8_out_2 8 rfl rfl)
theorem dX8_out_57 : decode cX8_out 57 = .ok (.istore_n 3, 1) := dk_62 (dk_at dksX8_out_2 9 rfl rfl)
theorem dX8_out_58 : decode cX8_out 58 = .ok (.aload_n 0, 1) := dk_42 (dk_at dksX8_out_2 10 rfl rfl)
theorem dX8_out_59 : decode cX8_out 59 = .ok (.getfield 53, 3) := dk_180 0 53 (dk_at dksX8_out_2 11 rfl rfl)
theorem dX8_out_62 : decode cX8_out 62 = .ok (.iload_n 1, 1) := dk_27 (dk_at dksX8_out_2 14 rfl rfl)
theorem dX8_out_63 : decode cX8_out 63 = .ok (.iload_n 2, 1) := dk_28 (dk_at dksX8_out_2 15 rfl rfl)
theorem dX8_out_64 : decode cX8_out 64 = .ok (.iastore, 1) := dk_79 (dk_at dksX8_out_2 16 rfl rfl)
theorem dX8_out_65 : decode cX8_out 65 = .ok (.iload_n 3, 1) := dk_29 (dk_at dksX8_out_2 17 rfl rfl)
theorem dX8_out_66 : decode cX8_out 66 = .ok (.ireturn, 1) := dk_172 (dk_at dksX8_out_2 18 rfl rfl)
abbrev cX8_undo : ByteArray := prog_21_method_64_code
def yX8_undo : MethodName := ⟨RX8, "undo", "()I"⟩
def dkwX8_undo_1 : List UInt8 := [42, 42, 180, 0, 78, 16, 18, 42, 180, 1, 68, 104, 182, 1, 183, 42, 180, 1, 68, 172]
abbrev dktX8_undo_1 : List UInt8 := dkwX8_undo_1 ++ []
def dkwX8_undo_0 : List UInt8 := [42, 3, 181, 0, 159, 42, 180, 1, 68, 154, 0, 5, 2, 172, 42, 89, 180, 1, 68, 4, 100, 181, 1, 68]
abbrev dktX8_undo_0 : List UInt8 := dkwX8_undo_0 ++ dktX8_undo_1
theorem dksX8_undo_0 : cX8_undo.data.toList.drop 0 = dktX8_undo_0 := by decide +kernel
theorem dksX8_undo_1 : cX8_undo.data.toList.drop 24 = dktX8_undo_1 := dk_seg dksX8_undo_0 24 rfl rfl
theorem dX8_undo_0 : decode cX8_undo 0 = .ok (.aload_n 0, 1) := dk_42 (dk_at dksX8_undo_0 0 rfl rfl)
theorem dX8_undo_1 : decode cX8_undo 1 = .ok (.iconst 0, 1) := dk_3 (dk_at dksX8_undo_0 1 rfl rfl)
theorem dX8_undo_2 : decode cX8_undo 2 = .ok (.putfield 159, 3) := dk_181 0 159 (dk_at dksX8_undo_0 2 rfl rfl)
theorem dX8_undo_5 : decode cX8_undo 5 = .ok (.aload_n 0, 1) := dk_42 (dk_at dksX8_undo_0 5 rfl rfl)
theorem dX8_undo_6 : decode cX8_undo 6 = .ok (.getfield 324, 3) := dk_180 1 68 (dk_at dksX8_undo_0 6 rfl rfl)
theorem dX8_undo_9 : decode cX8_undo 9 = .ok (.ifCond .ne 5, 3) := dk_154 0 5 (dk_at dksX8_undo_0 9 rfl rfl)
theorem dX8_undo_12 : decode cX8_undo 12 = .ok (.iconst (-1), 1) := dk_2 (dk_at dksX8_undo_0 12 rfl rfl)
theorem dX8_undo_13 : decode cX8_undo 13 = .ok (.ireturn, 1) := dk_172 (dk_at dksX8_undo_0 13 rfl rfl)
theorem dX8_undo_14 : decode cX8_undo 14 = .ok (.aload_n 0, 1) := dk_42 (dk_at dksX8_undo_0 14 rfl rfl)
theorem dX8_undo_15 : decode cX8_undo 15 = .ok (.dup, 1) := dk_89 (dk_at dksX8_undo_0 15 rfl rfl)
theorem dX8_undo_16 : decode cX8_undo 16 = .ok (.getfield 324, 3) := dk_180 1 68 (dk_at dksX8_undo_0 16 rfl rfl)
theorem dX8_undo_19 : decode cX8_undo 19 = .ok (.iconst 1, 1) := dk_4 (dk_at dksX8_undo_0 19 rfl rfl)
theorem dX8_undo_20 : decode cX8_undo 20 = .ok (.isub, 1) := dk_100 (dk_at dksX8_undo_0 20 rfl rfl)
theorem dX8_undo_21 : decode cX8_undo 21 = .ok (.putfield 324, 3) := dk_181 1 68 (dk_at dksX8_undo_0 21 rfl rfl)
theorem dX8_undo_24 : decode cX8_undo 24 = .ok (.aload_n 0, 1) := dk_42 (dk_at dksX8_undo_1 0 rfl rfl)
theorem dX8_undo_25 : decode cX8_undo 25 = .ok (.aload_n 0, 1) := dk_42 (dk_at dksX8_undo_1 1 rfl rfl)
theorem dX8_undo_26 : decode cX8_undo 26 = .ok (.getfield 78, 3) := dk_180 0 78 (dk_at dksX8_undo_1 2 rfl rfl)
theorem dX8_undo_29 : decode cX8_undo 29 = .ok (.bipush 18, 2) := dk_16 18 (dk_at dksX8_undo_1 5 rfl rfl)
theorem dX8_undo_31 : decode cX8_undo 31 = .ok (.aload_n 0, 1) := dk_42 (dk_at dksX8_undo_1 7 rfl rfl)
theorem dX8_undo_32 : decode cX8_undo 32 = .ok (.getfield 324, 3) := dk_180 1 68 (dk_at dksX8_undo_1 8 rfl rfl)
theorem dX8_undo_35 : decode cX8_undo 35 = .ok (.imul, 1) := dk_104 (dk_at dksX8_undo_1 11 rfl rfl)
theorem dX8_undo_36 : decode cX8_undo 36 = .ok (.invokevirtual 439, 3) := dk_182 1 183 (dk_at dksX8_undo_1 12 rfl rfl)
theorem dX8_undo_39 : decode cX8_undo 39 = .ok (.aload_n 0, 1) := dk_42 (dk_at dksX8_undo_1 15 rfl rfl)
theorem dX8_undo_40 : decode cX8_undo 40 = .ok (.getfield 324, 3) := dk_180 1 68 (dk_at dksX8_undo_1 16 rfl rfl)
theorem dX8_undo_43 : decode cX8_undo 43 = .ok (.ireturn, 1) := dk_172 (dk_at dksX8_undo_1 19 rfl rfl)
abbrev cX8_unpack : ByteArray := prog_21_method_36_code
def yX8_unpack : MethodName := ⟨RX8, "unpack", "([II)V"⟩
def dkwX8_unpack_3 : List UInt8 := [6, 96, 46, 181, 1, 65, 177]
abbrev dktX8_unpack_3 : List UInt8 := dkwX8_unpack_3 ++ []
def dkwX8_unpack_2 : List UInt8 := [181, 1, 59, 42, 43, 29, 4, 96, 46, 181, 0, 81, 42, 43, 29, 5, 96, 46, 181, 1, 62, 42, 43, 29]
abbrev dktX8_unpack_2 : List UInt8 := dkwX8_unpack_2 ++ dktX8_unpack_3
def dkwX8_unpack_1 : List UInt8 := [43, 28, 16, 7, 96, 29, 96, 46, 79, 132, 3, 1, 167, 255, 222, 28, 16, 14, 96, 62, 42, 43, 29, 46]
abbrev dktX8_unpack_1 : List UInt8 := dkwX8_unpack_1 ++ dktX8_unpack_2
def dkwX8_unpack_0 : List UInt8 := [3, 62, 29, 16, 7, 162, 0, 34, 42, 180, 0, 75, 29, 43, 28, 29, 96, 46, 79, 42, 180, 0, 53, 29]
abbrev dktX8_unpack_0 : List UInt8 := dkwX8_unpack_0 ++ dktX8_unpack_1
theorem dksX8_unpack_0 : cX8_unpack.data.toList.drop 0 = dktX8_unpack_0 := by decide +kernel
theorem dksX8_unpack_1 : cX8_unpack.data.toList.drop 24 = dktX8_unpack_1 := dk_seg dksX8_unpack_0 24 rfl rfl
theorem dksX8_unpack_2 : cX8_unpack.data.toList.drop 48 = dktX8_unpack_2 := dk_seg dksX8_unpack_1 24 rfl rfl
theorem dksX8_unpack_3 : cX8_unpack.data.toList.drop 72 = dktX8_unpack_3 := dk_seg dksX8_unpack_2 24 rfl rfl
theorem dX8_unpack_0 : decode cX8_unpack 0 = .ok (.iconst 0, 1) := dk_3 (dk_at dksX8_unpack_0 0 rfl rfl)
theorem dX8_unpack_1 : decode cX8_unpack 1 = .ok (.istore_n 3, 1) := dk_62 (dk_at dksX8_unpack_0 1 rfl rfl)
theorem dX8_unpack_2 : decode cX8_unpack 2 = .ok (.iload_n 3, 1) := dk_29 (dk_at dksX8_unpack_0 2 rfl rfl)
theorem dX8_unpack_3 : decode cX8_unpack 3 = .ok (.bipush 7, 2) := dk_16 7 (dk_at dksX8_unpack_0 3 rfl rfl)
theorem dX8_unpack_5 : decode cX8_unpack 5 = .ok (.if_icmp .ge 34, 3) := dk_162 0 34 (dk_at dksX8_unpack_0 5 rfl rfl)
theorem dX8_unpack_8 : decode cX8_unpack 8 = .ok (.aload_n 0, 1) := dk_42 (dk_at dksX8_unpack_0 8 rfl rfl)
theorem dX8_unpack_9 : decode cX8_unpack 9 = .ok (.getfield 75, 3) := dk_180 0 75 (dk_at dksX8_unpack_0 9 rfl rfl)
theorem dX8_unpack_12 : decode cX8_unpack 12 = .ok (.iload_n 3, 1) := dk_29 (dk_at dksX8_unpack_0 12 rfl rfl)
theorem dX8_unpack_13 : decode cX8_unpack 13 = .ok (.aload_n 1, 1) := dk_43 (dk_at dksX8_unpack_0 13 rfl rfl)
theorem dX8_unpack_14 : decode cX8_unpack 14 = .ok (.iload_n 2, 1) := dk_28 (dk_at dksX8_unpack_0 14 rfl rfl)
theorem dX8_unpack_15 : decode cX8_unpack 15 = .ok (.iload_n 3, 1) := dk_29 (dk_at dksX8_unpack_0 15 rfl rfl)
theorem dX8_unpack_16 : decode cX8_unpack 16 = .ok (.iadd, 1) := dk_96 (dk_at dksX8_unpack_0 16 rfl rfl)
theorem dX8_unpack_17 : decode cX8_unpack 17 = .ok (.iaload, 1) := dk_46 (dk_at dksX8_unpack_0 17 rfl rfl)
theorem dX8_unpack_18 : decode cX8_unpack 18 = .ok (.iastore, 1) := dk_79 (dk_at dksX8_unpack_0 18 rfl rfl)
theorem dX8_unpack_19 : decode cX8_unpack 19 = .ok (.aload_n 0, 1) := dk_42 (dk_at dksX8_unpack_0 19 rfl rfl)
theorem dX8_unpack_20 : decode cX8_unpack 20 = .ok (.getfield 53, 3) := dk_180 0 53 (dk_at dksX8_unpack_0 20 rfl rfl)
theorem dX8_unpack_23 : decode cX8_unpack 23 = .ok (.iload_n 3, 1) := dk_29 (dk_at dksX8_unpack_0 23 rfl rfl)
theorem dX8_unpack_24 : decode cX8_unpack 24 = .ok (.aload_n 1, 1) := dk_43 (dk_at dksX8_unpack_1 0 rfl rfl)
theorem dX8_unpack_25 : decode cX8_unpack 25 = .ok (.iload_n 2, 1) := dk_28 (dk_at dksX8_unpack_1 1 rfl rfl)
theorem dX8_unpack_26 : decode cX8_unpack 26 = .ok (.bipush 7, 2) := dk_16 7 (dk_at dksX8_unpack_1 2 rfl rfl)
theorem dX8_unpack_28 : decode cX8_unpack 28 = .ok (.iadd, 1) := dk_96 (dk_at dksX8_unpack_1 4 rfl rfl)
theorem dX8_unpack_29 : decode cX8_unpack 29 = .ok (.iload_n 3, 1) := dk_29 (dk_at dksX8_unpack_1 5 rfl rfl)
theorem dX8_unpack_30 : decode cX8_unpack 30 = .ok (.iadd, 1) := dk_96 (dk_at dksX8_unpack_1 6 rfl rfl)
theorem dX8_unpack_31 : decode cX8_unpack 31 = .ok (.iaload, 1) := dk_46 (dk_at dksX8_unpack_1 7 rfl rfl)
theorem dX8_unpack_32 : decode cX8_unpack 32 = .ok (.iastore, 1) := dk_79 (dk_at dksX8_unpack_1 8 rfl rfl)
theorem dX8_unpack_33 : decode cX8_unpack 33 = .ok (.iinc 3 1, 3) := dk_132 3 1 (dk_at dksX8_unpack_1 9 rfl rfl)
theorem dX8_unpack_36 : decode cX8_unpack 36 = .ok (.goto (-34), 3) := dk_167 255 222 (dk_at dksX8_unpack_1 12 rfl rfl)
theorem dX8_unpack_39 : decode cX8_unpack 39 = .ok (.iload_n 2, 1) := dk_28 (dk_at dksX8_unpack_1 15 rfl rfl)
theorem dX8_unpack_40 : decode cX8_unpack 40 = .ok (.bipush 14, 2) := dk_16 14 (dk_at dksX8_unpack_1 16 rfl rfl)
theorem dX8_unpack_42 : decode cX8_unpack 42 = .ok (.iadd, 1) := dk_96 (dk_at dksX8_unpack_1 18 rfl rfl)
theorem dX8_unpack_43 : decode cX8_unpack 43 = .ok (.istore_n 3, 1) := dk_62 (dk_at dksX8_unpack_1 19 rfl rfl)
theorem dX8_unpack_44 : decode cX8_unpack 44 = .ok (.aload_n 0, 1) := dk_42 (dk_at dksX8_unpack_1 20 rfl rfl)
theorem dX8_unpack_45 : decode cX8_unpack 45 = .ok (.aload_n 1, 1) := dk_43 (dk_at dksX8_unpack_1 21 rfl rfl)
theorem dX8_unpack_46 : decode cX8_unpack 46 = .ok (.iload_n 3, 1) := dk_29 (dk_at dksX8_unpack_1 22 rfl rfl)
theorem dX8_unpack_47 : decode cX8_unpack 47 = .ok (.iaload, 1) := dk_46 (dk_at dksX8_unpack_1 23 rfl rfl)
theorem dX8_unpack_48 : decode cX8_unpack 48 = .ok (.putfield 315, 3) := dk_181 1 59 (dk_at dksX8_unpack_2 0 rfl rfl)
theorem dX8_unpack_51 : decode cX8_unpack 51 = .ok (.aload_n 0, 1) := dk_42 (dk_at dksX8_unpack_2 3 rfl rfl)
theorem dX8_unpack_52 : decode cX8_unpack 52 = .ok (.aload_n 1, 1) := dk_43 (dk_at dksX8_unpack_2 4 rfl rfl)
theorem dX8_unpack_53 : decode cX8_unpack 53 = .ok (.iload_n 3, 1) := dk_29 (dk_at dksX8_unpack_2 5 rfl rfl)
theorem dX8_unpack_54 : decode cX8_unpack 54 = .ok (.iconst 1, 1) := dk_4 (dk_at dksX8_unpack_2 6 rfl rfl)
theorem dX8_unpack_55 : decode cX8_unpack 55 = .ok (.iadd, 1) := dk_96 (dk_at dksX8_unpack_2 7 rfl rfl)
theorem dX8_unpack_56 : decode cX8_unpack 56 = .ok (.iaload, 1) := dk_46 (dk_at dksX8_unpack_2 8 rfl rfl)
theorem dX8_unpack_57 : decode cX8_unpack 57 = .ok (.putfield 81, 3) := dk_181 0 81 (dk_at dksX8_unpack_2 9 rfl rfl)
theorem dX8_unpack_60 : decode cX8_unpack 60 = .ok (.aload_n 0, 1) := dk_42 (dk_at dksX8_unpack_2 12 rfl rfl)
theorem dX8_unpack_61 : decode cX8_unpack 61 = .ok (.aload_n 1, 1) := dk_43 (dk_at dksX8_unpack_2 13 rfl rfl)
theorem dX8_unpack_62 : decode cX8_unpack 62 = .ok (.iload_n 3, 1) := dk_29 (dk_at dksX8_unpack_2 14 rfl rfl)
theorem dX8_unpack_63 : decode cX8_unpack 63 = .ok (.iconst 2, 1) := dk_5 (dk_at dksX8_unpack_2 15 rfl rfl)
theorem dX8_unpack_64 : decode cX8_unpack 64 = .ok (.iadd, 1) := dk_96 (dk_at dksX8_unpack_2 16 rfl rfl)
theorem dX8_unpack_65 : decode cX8_unpack 65 = .ok (.iaload, 1) := dk_46 (dk_at dksX8_unpack_2 17 rfl rfl)
theorem dX8_unpack_66 : decode cX8_unpack 66 = .ok (.putfield 318, 3) := dk_181 1 62 (dk_at dksX8_unpack_2 18 rfl rfl)
theorem dX8_unpack_69 : decode cX8_unpack 69 = .ok (.aload_n 0, 1) := dk_42 (dk_at dksX8_unpack_2 21 rfl rfl)
theorem dX8_unpack_70 : decode cX8_unpack 70 = .ok (.aload_n 1, 1) := dk_43 (dk_at dksX8_unpack_2 22 rfl rfl)
theorem dX8_unpack_71 : decode cX8_unpack 71 = .ok (.iload_n 3, 1) := dk_29 (dk_at dksX8_unpack_2 23 rfl rfl)
theorem dX8_unpack_72 : decode cX8_unpack 72 = .ok (.iconst 3, 1) := dk_6 (dk_at dksX8_unpack_3 0 rfl rfl)
theorem dX8_unpack_73 : decode cX8_unpack 73 = .ok (.iadd, 1) := dk_96 (dk_at dksX8_unpack_3 1 rfl rfl)
theorem dX8_unpack_74 : decode cX8_unpack 74 = .ok (.iaload, 1) := dk_46 (dk_at dksX8_unpack_3 2 rfl rfl)
theorem dX8_unpack_75 : decode cX8_unpack 75 = .ok (.putfield 321, 3) := dk_181 1 65 (dk_at dksX8_unpack_3 3 rfl rfl)
theorem dX8_unpack_78 : decode cX8_unpack 78 = .ok (.return_, 1) := dk_177 (dk_at dksX8_unpack_3 6 rfl rfl)
abbrev cX8_night : ByteArray := prog_21_method_66_code
def yX8_night : MethodName := ⟨RX8, "night", "(I)I"⟩
def dkwX8_night_2 : List UInt8 := [167, 0, 19, 27, 5, 160, 0, 10, 42, 180, 1, 129, 167, 0, 7, 42, 182, 1, 194, 172]
abbrev dktX8_night_2 : List UInt8 := dkwX8_night_2 ++ []
def dkwX8_night_1 : List UInt8 := [182, 1, 188, 27, 154, 0, 10, 42, 180, 1, 109, 167, 0, 31, 27, 4, 160, 0, 10, 42, 182, 1, 191]
abbrev dktX8_night_1 : List UInt8 := dkwX8_night_1 ++ dktX8_night_2
def dkwX8_night_0 : List UInt8 := [42, 3, 181, 0, 159, 27, 133, 9, 20, 1, 186, 184, 0, 162, 154, 0, 9, 42, 4, 182, 1, 46, 172, 42]
abbrev dktX8_night_0 : List UInt8 := dkwX8_night_0 ++ dktX8_night_1
theorem dksX8_night_0 : cX8_night.data.toList.drop 0 = dktX8_night_0 := by decide +kernel
theorem dksX8_night_1 : cX8_night.data.toList.drop 24 = dktX8_night_1 := dk_seg dksX8_night_0 24 rfl rfl
theorem dksX8_night_2 : cX8_night.data.toList.drop 47 = dktX8_night_2 := dk_seg dksX8_night_1 23 rfl rfl
theorem dX8_night_0 : decode cX8_night 0 = .ok (.aload_n 0, 1) := dk_42 (dk_at dksX8_night_0 0 rfl rfl)
theorem dX8_night_1 : decode cX8_night 1 = .ok (.iconst 0, 1) := dk_3 (dk_at dksX8_night_0 1 rfl rfl)
theorem dX8_night_2 : decode cX8_night 2 = .ok (.putfield 159, 3) := dk_181 0 159 (dk_at dksX8_night_0 2 rfl rfl)
theorem dX8_night_5 : decode cX8_night 5 = .ok (.iload_n 1, 1) := dk_27 (dk_at dksX8_night_0 5 rfl rfl)
theorem dX8_night_6 : decode cX8_night 6 = .ok (.i2l, 1) := dk_133 (dk_at dksX8_night_0 6 rfl rfl)
theorem dX8_night_7 : decode cX8_night 7 = .ok (.lconst 0, 1) := dk_9 (dk_at dksX8_night_0 7 rfl rfl)
theorem dX8_night_8 : decode cX8_night 8 = .ok (.ldc2_w 442, 3) := dk_20 1 186 (dk_at dksX8_night_0 8 rfl rfl)
theorem dX8_night_11 : decode cX8_night 11 = .ok (.invokestatic 162, 3) := dk_184 0 162 (dk_at dksX8_night_0 11 rfl rfl)
theorem dX8_night_14 : decode cX8_night 14 = .ok (.ifCond .ne 9, 3) := dk_154 0 9 (dk_at dksX8_night_0 14 rfl rfl)
theorem dX8_night_17 : decode cX8_night 17 = .ok (.aload_n 0, 1) := dk_42 (dk_at dksX8_night_0 17 rfl rfl)
theorem dX8_night_18 : decode cX8_night 18 = .ok (.iconst 1, 1) := dk_4 (dk_at dksX8_night_0 18 rfl rfl)
theorem dX8_night_19 : decode cX8_night 19 = .ok (.invokevirtual 302, 3) := dk_182 1 46 (dk_at dksX8_night_0 19 rfl rfl)
theorem dX8_night_22 : decode cX8_night 22 = .ok (.ireturn, 1) := dk_172 (dk_at dksX8_night_0 22 rfl rfl)
theorem dX8_night_23 : decode cX8_night 23 = .ok (.aload_n 0, 1) := dk_42 (dk_at dksX8_night_0 23 rfl rfl)
theorem dX8_night_24 : decode cX8_night 24 = .ok (.invokevirtual 444, 3) := dk_182 1 188 (dk_at dksX8_night_1 0 rfl rfl)
theorem dX8_night_27 : decode cX8_night 27 = .ok (.iload_n 1, 1) := dk_27 (dk_at dksX8_night_1 3 rfl rfl)
theorem dX8_night_28 : decode cX8_night 28 = .ok (.ifCond .ne 10, 3) := dk_154 0 10 (dk_at dksX8_night_1 4 rfl rfl)
theorem dX8_night_31 : decode cX8_night 31 = .ok (.aload_n 0, 1) := dk_42 (dk_at dksX8_night_1 7 rfl rfl)
theorem dX8_night_32 : decode cX8_night 32 = .ok (.getfield 365, 3) := dk_180 1 109 (dk_at dksX8_night_1 8 rfl rfl)
theorem dX8_night_35 : decode cX8_night 35 = .ok (.goto 31, 3) := dk_167 0 31 (dk_at dksX8_night_1 11 rfl rfl)
theorem dX8_night_38 : decode cX8_night 38 = .ok (.iload_n 1, 1) := dk_27 (dk_at dksX8_night_1 14 rfl rfl)
theorem dX8_night_39 : decode cX8_night 39 = .ok (.iconst 1, 1) := dk_4 (dk_at dksX8_night_1 15 rfl rfl)
theorem dX8_night_40 : decode cX8_night 40 = .ok (.if_icmp .ne 10, 3) := dk_160 0 10 (dk_at dksX8_night_1 16 rfl rfl)
theorem dX8_night_43 : decode cX8_night 43 = .ok (.aload_n 0, 1) := dk_42 (dk_at dksX8_night_1 19 rfl rfl)
theorem dX8_night_44 : decode cX8_night 44 = .ok (.invokevirtual 447, 3) := dk_182 1 191 (dk_at dksX8_night_1 20 rfl rfl)
theorem dX8_night_47 : decode cX8_night 47 = .ok (.goto 19, 3) := dk_167 0 19 (dk_at dksX8_night_2 0 rfl rfl)
theorem dX8_night_50 : decode cX8_night 50 = .ok (.iload_n 1, 1) := dk_27 (dk_at dksX8_night_2 3 rfl rfl)
theorem dX8_night_51 : decode cX8_night 51 = .ok (.iconst 2, 1) := dk_5 (dk_at dksX8_night_2 4 rfl rfl)
theorem dX8_night_52 : decode cX8_night 52 = .ok (.if_icmp .ne 10, 3) := dk_160 0 10 (dk_at dksX8_night_2 5 rfl rfl)
theorem dX8_night_55 : decode cX8_night 55 = .ok (.aload_n 0, 1) := dk_42 (dk_at dksX8_night_2 8 rfl rfl)
theorem dX8_night_56 : decode cX8_night 56 = .ok (.getfield 385, 3) := dk_180 1 129 (dk_at dksX8_night_2 9 rfl rfl)
theorem dX8_night_59 : decode cX8_night 59 = .ok (.goto 7, 3) := dk_167 0 7 (dk_at dksX8_night_2 12 rfl rfl)
theorem dX8_night_62 : decode cX8_night 62 = .ok (.aload_n 0, 1) := dk_42 (dk_at dksX8_night_2 15 rfl rfl)
theorem dX8_night_63 : decode cX8_night 63 = .ok (.invokevirtual 450, 3) := dk_182 1 194 (dk_at dksX8_night_2 16 rfl rfl)
theorem dX8_night_66 : decode cX8_night 66 = .ok (.ireturn, 1) := dk_172 (dk_at dksX8_night_2 19 rfl rfl)
abbrev cX8_nightNow : ByteArray := prog_21_method_54_code
def yX8_nightNow : MethodName := ⟨RX8, "nightNow", "()V"⟩
def dkwX8_nightNow_0 : List UInt8 := [42, 182, 1, 157, 42, 42, 180, 1, 59, 42, 180, 0, 38, 6, 46, 182, 1, 160, 177]
abbrev dktX8_nightNow_0 : List UInt8 := dkwX8_nightNow_0 ++ []
theorem dksX8_nightNow_0 : cX8_nightNow.data.toList.drop 0 = dktX8_nightNow_0 := by decide +kernel
theorem dX8_nightNow_0 : decode cX8_nightNow 0 = .ok (.aload_n 0, 1) := dk_42 (dk_at dksX8_nightNow_0 0 rfl rfl)
theorem dX8_nightNow_1 : decode cX8_nightNow 1 = .ok (.invokevirtual 413, 3) := dk_182 1 157 (dk_at dksX8_nightNow_0 1 rfl rfl)
theorem dX8_nightNow_4 : decode cX8_nightNow 4 = .ok (.aload_n 0, 1) := dk_42 (dk_at dksX8_nightNow_0 4 rfl rfl)
theorem dX8_nightNow_5 : decode cX8_nightNow 5 = .ok (.aload_n 0, 1) := dk_42 (dk_at dksX8_nightNow_0 5 rfl rfl)
theorem dX8_nightNow_6 : decode cX8_nightNow 6 = .ok (.getfield 315, 3) := dk_180 1 59 (dk_at dksX8_nightNow_0 6 rfl rfl)
theorem dX8_nightNow_9 : decode cX8_nightNow 9 = .ok (.aload_n 0, 1) := dk_42 (dk_at dksX8_nightNow_0 9 rfl rfl)
theorem dX8_nightNow_10 : decode cX8_nightNow 10 = .ok (.getfield 38, 3) := dk_180 0 38 (dk_at dksX8_nightNow_0 10 rfl rfl)
theorem dX8_nightNow_13 : decode cX8_nightNow 13 = .ok (.iconst 3, 1) := dk_6 (dk_at dksX8_nightNow_0 13 rfl rfl)
theorem dX8_nightNow_14 : decode cX8_nightNow 14 = .ok (.iaload, 1) := dk_46 (dk_at dksX8_nightNow_0 14 rfl rfl)
theorem dX8_nightNow_15 : decode cX8_nightNow 15 = .ok (.invokevirtual 416, 3) := dk_182 1 160 (dk_at dksX8_nightNow_0 15 rfl rfl)
theorem dX8_nightNow_18 : decode cX8_nightNow 18 = .ok (.return_, 1) := dk_177 (dk_at dksX8_nightNow_0 18 rfl rfl)
abbrev cX8_go : ByteArray := prog_21_method_52_code
def yX8_go : MethodName := ⟨RX8, "go", "(II)V"⟩
def dkwX8_go_2 : List UInt8 := [180, 1, 132, 100, 184, 1, 135, 181, 1, 129, 177]
abbrev dktX8_go_2 : List UInt8 := dkwX8_go_2 ++ []
def dkwX8_go_1 : List UInt8 := [180, 1, 103, 4, 96, 181, 1, 103, 167, 255, 234, 42, 28, 181, 1, 103, 42, 42, 180, 1, 129, 28, 42]
abbrev dktX8_go_1 : List UInt8 := dkwX8_go_1 ++ dktX8_go_2
def dkwX8_go_0 : List UInt8 := [42, 27, 182, 1, 151, 42, 4, 181, 1, 103, 42, 180, 1, 103, 28, 163, 0, 20, 42, 182, 1, 154, 42, 89]
abbrev dktX8_go_0 : List UInt8 := dkwX8_go_0 ++ dktX8_go_1
theorem dksX8_go_0 : cX8_go.data.toList.drop 0 = dktX8_go_0 := by decide +kernel
theorem dksX8_go_1 : cX8_go.data.toList.drop 24 = dktX8_go_1 := dk_seg dksX8_go_0 24 rfl rfl
theorem dksX8_go_2 : cX8_go.data.toList.drop 47 = dktX8_go_2 := dk_seg dksX8_go_1 23 rfl rfl
theorem dX8_go_0 : decode cX8_go 0 = .ok (.aload_n 0, 1) := dk_42 (dk_at dksX8_go_0 0 rfl rfl)
theorem dX8_go_1 : decode cX8_go 1 = .ok (.iload_n 1, 1) := dk_27 (dk_at dksX8_go_0 1 rfl rfl)
theorem dX8_go_2 : decode cX8_go 2 = .ok (.invokevirtual 407, 3) := dk_182 1 151 (dk_at dksX8_go_0 2 rfl rfl)
theorem dX8_go_5 : decode cX8_go 5 = .ok (.aload_n 0, 1) := dk_42 (dk_at dksX8_go_0 5 rfl rfl)
theorem dX8_go_6 : decode cX8_go 6 = .ok (.iconst 1, 1) := dk_4 (dk_at dksX8_go_0 6 rfl rfl)
theorem dX8_go_7 : decode cX8_go 7 = .ok (.putfield 359, 3) := dk_181 1 103 (dk_at dksX8_go_0 7 rfl rfl)
theorem dX8_go_10 : decode cX8_go 10 = .ok (.aload_n 0, 1) := dk_42 (dk_at dksX8_go_0 10 rfl rfl)
theorem dX8_go_11 : decode cX8_go 11 = .ok (.getfield 359, 3) := dk_180 1 103 (dk_at dksX8_go_0 11 rfl rfl)
theorem dX8_go_14 : decode cX8_go 14 = .ok (.iload_n 2, 1) := dk_28 (dk_at dksX8_go_0 14 rfl rfl)
theorem dX8_go_15 : decode cX8_go 15 = .ok (.if_icmp .gt 20, 3) := dk_163 0 20 (dk_at dksX8_go_0 15 rfl rfl)
theorem dX8_go_18 : decode cX8_go 18 = .ok (.aload_n 0, 1) := dk_42 (dk_at dksX8_go_0 18 rfl rfl)
theorem dX8_go_19 : decode cX8_go 19 = .ok (.invokevirtual 410, 3) := dk_182 1 154 (dk_at dksX8_go_0 19 rfl rfl)
theorem dX8_go_22 : decode cX8_go 22 = .ok (.aload_n 0, 1) := dk_42 (dk_at dksX8_go_0 22 rfl rfl)
theorem dX8_go_23 : decode cX8_go 23 = .ok (.dup, 1) := dk_89 (dk_at dksX8_go_0 23 rfl rfl)
theorem dX8_go_24 : decode cX8_go 24 = .ok (.getfield 359, 3) := dk_180 1 103 (dk_at dksX8_go_1 0 rfl rfl)
theorem dX8_go_27 : decode cX8_go 27 = .ok (.iconst 1, 1) := dk_4 (dk_at dksX8_go_1 3 rfl rfl)
theorem dX8_go_28 : decode cX8_go 28 = .ok (.iadd, 1) := dk_96 (dk_at dksX8_go_1 4 rfl rfl)
theorem dX8_go_29 : decode cX8_go 29 = .ok (.putfield 359, 3) := dk_181 1 103 (dk_at dksX8_go_1 5 rfl rfl)
theorem dX8_go_32 : decode cX8_go 32 = .ok (.goto (-22), 3) := dk_167 255 234 (dk_at dksX8_go_1 8 rfl rfl)
theorem dX8_go_35 : decode cX8_go 35 = .ok (.aload_n 0, 1) := dk_42 (dk_at dksX8_go_1 11 rfl rfl)
theorem dX8_go_36 : decode cX8_go 36 = .ok (.iload_n 2, 1) := dk_28 (dk_at dksX8_go_1 12 rfl rfl)
theorem dX8_go_37 : decode cX8_go 37 = .ok (.putfield 359, 3) := dk_181 1 103 (dk_at dksX8_go_1 13 rfl rfl)
theorem dX8_go_40 : decode cX8_go 40 = .ok (.aload_n 0, 1) := dk_42 (dk_at dksX8_go_1 16 rfl rfl)
theorem dX8_go_41 : decode cX8_go 41 = .ok (.aload_n 0, 1) := dk_42 (dk_at dksX8_go_1 17 rfl rfl)
theorem dX8_go_42 : decode cX8_go 42 = .ok (.getfield 385, 3) := dk_180 1 129 (dk_at dksX8_go_1 18 rfl rfl)
theorem dX8_go_45 : decode cX8_go 45 = .ok (.iload_n 2, 1) := dk_28 (dk_at dksX8_go_1 21 rfl rfl)
theorem dX8_go_46 : decode cX8_go 46 = .ok (.aload_n 0, 1) := dk_42 (dk_at dksX8_go_1 22 rfl rfl)
theorem dX8_go_47 : decode cX8_go 47 = .ok (.getfield 388, 3) := dk_180 1 132 (dk_at dksX8_go_2 0 rfl rfl)
theorem dX8_go_50 : decode cX8_go 50 = .ok (.isub, 1) := dk_100 (dk_at dksX8_go_2 3 rfl rfl)
theorem dX8_go_51 : decode cX8_go 51 = .ok (.invokestatic 391, 3) := dk_184 1 135 (dk_at dksX8_go_2 4 rfl rfl)
theorem dX8_go_54 : decode cX8_go 54 = .ok (.putfield 385, 3) := dk_181 1 129 (dk_at dksX8_go_2 7 rfl rfl)
theorem dX8_go_57 : decode cX8_go 57 = .ok (.return_, 1) := dk_177 (dk_at dksX8_go_2 10 rfl rfl)
abbrev cX8_begin : ByteArray := prog_21_method_51_code
def yX8_begin : MethodName := ⟨RX8, "begin", "(I)V"⟩
def dkwX8_begin_2 : List UInt8 := [132, 2, 1, 167, 255, 210, 42, 3, 181, 1, 109, 42, 3, 181, 1, 129, 42, 3, 181, 1, 132, 177]
abbrev dktX8_begin_2 : List UInt8 := dkwX8_begin_2 ++ []
def dkwX8_begin_1 : List UInt8 := [180, 0, 102, 28, 17, 216, 240, 79, 42, 180, 0, 105, 28, 3, 79, 42, 180, 0, 108, 28, 3, 79]
abbrev dktX8_begin_1 : List UInt8 := dkwX8_begin_1 ++ dktX8_begin_2
def dkwX8_begin_0 : List UInt8 := [3, 61, 28, 16, 7, 162, 0, 46, 42, 180, 0, 96, 28, 27, 79, 42, 180, 0, 99, 28, 3, 79, 42]
abbrev dktX8_begin_0 : List UInt8 := dkwX8_begin_0 ++ dktX8_begin_1
theorem dksX8_begin_0 : cX8_begin.data.toList.drop 0 = dktX8_begin_0 := by decide +kernel
theorem dksX8_begin_1 : cX8_begin.data.toList.drop 23 = dktX8_begin_1 := dk_seg dksX8_begin_0 23 rfl rfl
theorem dksX8_begin_2 : cX8_begin.data.toList.drop 45 = dktX8_begin_2 := dk_seg dksX8_begin_1 22 rfl rfl
theorem dX8_begin_0 : decode cX8_begin 0 = .ok (.iconst 0, 1) := dk_3 (dk_at dksX8_begin_0 0 rfl rfl)
theorem dX8_begin_1 : decode cX8_begin 1 = .ok (.istore_n 2, 1) := dk_61 (dk_at dksX8_begin_0 1 rfl rfl)
theorem dX8_begin_2 : decode cX8_begin 2 = .ok (.iload_n 2, 1) := dk_28 (dk_at dksX8_begin_0 2 rfl rfl)
theorem dX8_begin_3 : decode cX8_begin 3 = .ok (.bipush 7, 2) := dk_16 7 (dk_at dksX8_begin_0 3 rfl rfl)
theorem dX8_begin_5 : decode cX8_begin 5 = .ok (.if_icmp .ge 46, 3) := dk_162 0 46 (dk_at dksX8_begin_0 5 rfl rfl)
theorem dX8_begin_8 : decode cX8_begin 8 = .ok (.aload_n 0, 1) := dk_42 (dk_at dksX8_begin_0 8 rfl rfl)
theorem dX8_begin_9 : decode cX8_begin 9 = .ok (.getfield 96, 3) := dk_180 0 96 (dk_at dksX8_begin_0 9 rfl rfl)
theorem dX8_begin_12 : decode cX8_begin 12 = .ok (.iload_n 2, 1) := dk_28 (dk_at dksX8_begin_0 12 rfl rfl)
theorem dX8_begin_13 : decode cX8_begin 13 = .ok (.iload_n 1, 1) := dk_27 (dk_at dksX8_begin_0 13 rfl rfl)
theorem dX8_begin_14 : decode cX8_begin 14 = .ok (.iastore, 1) := dk_79 (dk_at dksX8_begin_0 14 rfl rfl)
theorem dX8_begin_15 : decode cX8_begin 15 = .ok (.aload_n 0, 1) := dk_42 (dk_at dksX8_begin_0 15 rfl rfl)
theorem dX8_begin_16 : decode cX8_begin 16 = .ok (.getfield 99, 3) := dk_180 0 99 (dk_at dksX8_begin_0 16 rfl rfl)
theorem dX8_begin_19 : decode cX8_begin 19 = .ok (.iload_n 2, 1) := dk_28 (dk_at dksX8_begin_0 19 rfl rfl)
theorem dX8_begin_20 : decode cX8_begin 20 = .ok (.iconst 0, 1) := dk_3 (dk_at dksX8_begin_0 20 rfl rfl)
theorem dX8_begin_21 : decode cX8_begin 21 = .ok (.iastore, 1) := dk_79 (dk_at dksX8_begin_0 21 rfl rfl)
theorem dX8_begin_22 : decode cX8_begin 22 = .ok (.aload_n 0, 1) := dk_42 (dk_at dksX8_begin_0 22 rfl rfl)
theorem dX8_begin_23 : decode cX8_begin 23 = .ok (.getfield 102, 3) := dk_180 0 102 (dk_at dksX8_begin_1 0 rfl rfl)
theorem dX8_begin_26 : decode cX8_begin 26 = .ok (.iload_n 2, 1) := dk_28 (dk_at dksX8_begin_1 3 rfl rfl)
theorem dX8_begin_27 : decode cX8_begin 27 = .ok (.sipush (-10000), 3) := dk_17 216 240 (dk_at dksX8_begin_1 4 rfl rfl)
theorem dX8_begin_30 : decode cX8_begin 30 = .ok (.iastore, 1) := dk_79 (dk_at dksX8_begin_1 7 rfl rfl)
theorem dX8_begin_31 : decode cX8_begin 31 = .ok (.aload_n 0, 1) := dk_42 (dk_at dksX8_begin_1 8 rfl rfl)
theorem dX8_begin_32 : decode cX8_begin 32 = .ok (.getfield 105, 3) := dk_180 0 105 (dk_at dksX8_begin_1 9 rfl rfl)
theorem dX8_begin_35 : decode cX8_begin 35 = .ok (.iload_n 2, 1) := dk_28 (dk_at dksX8_begin_1 12 rfl rfl)
theorem dX8_begin_36 : decode cX8_begin 36 = .ok (.iconst 0, 1) := dk_3 (dk_at dksX8_begin_1 13 rfl rfl)
theorem dX8_begin_37 : decode cX8_begin 37 = .ok (.iastore, 1) := dk_79 (dk_at dksX8_begin_1 14 rfl rfl)
theorem dX8_begin_38 : decode cX8_begin 38 = .ok (.aload_n 0, 1) := dk_42 (dk_at dksX8_begin_1 15 rfl rfl)
theorem dX8_begin_39 : decode cX8_begin 39 = .ok (.getfield 108, 3) := dk_180 0 108 (dk_at dksX8_begin_1 16 rfl rfl)
theorem dX8_begin_42 : decode cX8_begin 42 = .ok (.iload_n 2, 1) := dk_28 (dk_at dksX8_begin_1 19 rfl rfl)
theorem dX8_begin_43 : decode cX8_begin 43 = .ok (.iconst 0, 1) := dk_3 (dk_at dksX8_begin_1 20 rfl rfl)
theorem dX8_begin_44 : decode cX8_begin 44 = .ok (.iastore, 1) := dk_79 (dk_at dksX8_begin_1 21 rfl rfl)
theorem dX8_begin_45 : decode cX8_begin 45 = .ok (.iinc 2 1, 3) := dk_132 2 1 (dk_at dksX8_begin_2 0 rfl rfl)
theorem dX8_begin_48 : decode cX8_begin 48 = .ok (.goto (-46), 3) := dk_167 255 210 (dk_at dksX8_begin_2 3 rfl rfl)
theorem dX8_begin_51 : decode cX8_begin 51 = .ok (.aload_n 0, 1) := dk_42 (dk_at dksX8_begin_2 6 rfl rfl)
theorem dX8_begin_52 : decode cX8_begin 52 = .ok (.iconst 0, 1) := dk_3 (dk_at dksX8_begin_2 7 rfl rfl)
theorem dX8_begin_53 : decode cX8_begin 53 = .ok (.putfield 365, 3) := dk_181 1 109 (dk_at dksX8_begin_2 8 rfl rfl)
theorem dX8_begin_56 : decode cX8_begin 56 = .ok (.aload_n 0, 1) := dk_42 (dk_at dksX8_begin_2 11 rfl rfl)
theorem dX8_begin_57 : decode cX8_begin 57 = .ok (.iconst 0, 1) := dk_3 (dk_at dksX8_begin_2 12 rfl rfl)
theorem dX8_begin_58 : decode cX8_begin 58 = .ok (.putfield 385, 3) := dk_181 1 129 (dk_at dksX8_begin_2 13 rfl rfl)
theorem dX8_begin_61 : decode cX8_begin 61 = .ok (.aload_n 0, 1) := dk_42 (dk_at dksX8_begin_2 16 rfl rfl)
theorem dX8_begin_62 : decode cX8_begin 62 = .ok (.iconst 0, 1) := dk_3 (dk_at dksX8_begin_2 17 rfl rfl)
theorem dX8_begin_63 : decode cX8_begin 63 = .ok (.putfield 388, 3) := dk_181 1 132 (dk_at dksX8_begin_2 18 rfl rfl)
theorem dX8_begin_66 : decode cX8_begin 66 = .ok (.return_, 1) := dk_177 (dk_at dksX8_begin_2 21 rfl rfl)
abbrev cX8_minuteNow : ByteArray := prog_21_method_50_code
def yX8_minuteNow : MethodName := ⟨RX8, "minuteNow", "()V"⟩
def dkwX8_minuteNow_8 : List UInt8 := [182, 1, 126, 132, 2, 1, 167, 255, 209, 132, 1, 1, 167, 255, 170, 177]
abbrev dktX8_minuteNow_8 : List UInt8 := dkwX8_minuteNow_8 ++ []
def dkwX8_minuteNow_7 : List UInt8 := [154, 0, 26, 42, 42, 180, 0, 90, 28, 46, 182, 1, 120, 154, 0, 13, 42, 42, 180, 0, 90, 28, 46]
abbrev dktX8_minuteNow_7 : List UInt8 := dkwX8_minuteNow_7 ++ dktX8_minuteNow_8
def dkwX8_minuteNow_6 : List UInt8 := [27, 4, 96, 61, 28, 42, 180, 1, 85, 162, 0, 45, 42, 42, 180, 0, 90, 28, 46, 182, 1, 117]
abbrev dktX8_minuteNow_6 : List UInt8 := dkwX8_minuteNow_6 ++ dktX8_minuteNow_7
def dkwX8_minuteNow_5 : List UInt8 := [162, 0, 84, 42, 180, 0, 93, 42, 180, 0, 90, 27, 46, 46, 42, 180, 1, 103, 159, 0, 6, 167, 0, 57]
abbrev dktX8_minuteNow_5 : List UInt8 := dkwX8_minuteNow_5 ++ dktX8_minuteNow_6
def dkwX8_minuteNow_4 : List UInt8 := [28, 29, 3, 182, 1, 141, 42, 27, 182, 1, 145, 60, 167, 255, 197, 3, 60, 27, 42, 180, 1, 85]
abbrev dktX8_minuteNow_4 : List UInt8 := dkwX8_minuteNow_4 ++ dktX8_minuteNow_5
def dkwX8_minuteNow_3 : List UInt8 := [180, 0, 90, 29, 46, 182, 1, 148, 154, 0, 9, 132, 3, 1, 167, 255, 235, 29, 28, 162, 0, 11, 42, 27]
abbrev dktX8_minuteNow_3 : List UInt8 := dkwX8_minuteNow_3 ++ dktX8_minuteNow_4
def dkwX8_minuteNow_2 : List UInt8 := [42, 180, 1, 85, 162, 0, 57, 42, 27, 182, 1, 145, 61, 27, 62, 29, 28, 162, 0, 22, 42, 42]
abbrev dktX8_minuteNow_2 : List UInt8 := dkwX8_minuteNow_2 ++ dktX8_minuteNow_3
def dkwX8_minuteNow_1 : List UInt8 := [154, 0, 21, 42, 3, 42, 180, 1, 85, 42, 42, 180, 1, 88, 182, 1, 138, 4, 182, 1, 141, 3, 60, 27]
abbrev dktX8_minuteNow_1 : List UInt8 := dkwX8_minuteNow_1 ++ dktX8_minuteNow_2
def dkwX8_minuteNow_0 : List UInt8 := [42, 180, 1, 88, 2, 159, 0, 40, 42, 180, 1, 91, 158, 0, 33, 42, 180, 1, 103, 42, 180, 1, 91, 112]
abbrev dktX8_minuteNow_0 : List UInt8 := dkwX8_minuteNow_0 ++ dktX8_minuteNow_1
theorem dksX8_minuteNow_0 : cX8_minuteNow.data.toList.drop 0 = dktX8_minuteNow_0 := by decide +kernel
theorem dksX8_minuteNow_1 : cX8_minuteNow.data.toList.drop 24 = dktX8_minuteNow_1 := dk_seg dksX8_minuteNow_0 24 rfl rfl
theorem dksX8_minuteNow_2 : cX8_minuteNow.data.toList.drop 48 = dktX8_minuteNow_2 := dk_seg dksX8_minuteNow_1 24 rfl rfl
theorem dksX8_minuteNow_3 : cX8_minuteNow.data.toList.drop 70 = dktX8_minuteNow_3 := dk_seg dksX8_minuteNow_2 22 rfl rfl
theorem dksX8_minuteNow_4 : cX8_minuteNow.data.toList.drop 94 = dktX8_minuteNow_4 := dk_seg dksX8_minuteNow_3 24 rfl rfl
theorem dksX8_minuteNow_5 : cX8_minuteNow.data.toList.drop 116 = dktX8_minuteNow_5 := dk_seg dksX8_minuteNow_4 22 rfl rfl
theorem dksX8_minuteNow_6 : cX8_minuteNow.data.toList.drop 140 = dktX8_minuteNow_6 := dk_seg dksX8_minuteNow_5 24 rfl rfl
theorem dksX8_minuteNow_7 : cX8_minuteNow.data.toList.drop 162 = dktX8_minuteNow_7 := dk_seg dksX8_minuteNow_6 22 rfl rfl
theorem dksX8_minuteNow_8 : cX8_minuteNow.data.toList.drop 185 = dktX8_minuteNow_8 := dk_seg dksX8_minuteNow_7 23 rfl rfl
theorem dX8_minuteNow_0 : decode cX8_minuteNow 0 = .ok (.aload_n 0, 1) := dk_42 (dk_at dksX8_minuteNow_0 0 rfl rfl)
theorem dX8_minuteNow_1 : decode cX8_minuteNow 1 = .ok (.getfield 344, 3) := dk_180 1 88 (dk_at dksX8_minuteNow_0 1 rfl rfl)
theorem dX8_minuteNow_4 : decode cX8_minuteNow 4 = .ok (.iconst (-1), 1) := dk_2 (dk_at dksX8_minuteNow_0 4 rfl rfl)
theorem dX8_minuteNow_5 : decode cX8_minuteNow 5 = .ok (.if_icmp .eq 40, 3) := dk_159 0 40 (dk_at dksX8_minuteNow_0 5 rfl rfl)
theorem dX8_minuteNow_8 : decode cX8_minuteNow 8 = .ok (.aload_n 0, 1) := dk_42 (dk_at dksX8_minuteNow_0 8 rfl rfl)
theorem dX8_minuteNow_9 : decode cX8_minuteNow 9 = .ok (.getfield 347, 3) := dk_180 1 91 (dk_at dksX8_minuteNow_0 9 rfl rfl)
theorem dX8_minuteNow_12 : decode cX8_minuteNow 12 = .ok (.ifCond .le 33, 3) := dk_158 0 33 (dk_at dksX8_minuteNow_0 12 rfl rfl)
theorem dX8_minuteNow_15 : decode cX8_minuteNow 15 = .ok (.aload_n 0, 1) := dk_42 (dk_at dksX8_minuteNow_0 15 rfl rfl)
theorem dX8_minuteNow_16 : decode cX8_minuteNow 16 = .ok (.getfield 359, 3) := dk_180 1 103 (dk_at dksX8_minuteNow_0 16 rfl rfl)
theorem dX8_minuteNow_19 : decode cX8_minuteNow 19 = .ok (.aload_n 0, 1) := dk_42 (dk_at dksX8_minuteNow_0 19 rfl rfl)
theorem dX8_minuteNow_20 : decode cX8_minuteNow 20 = .ok (.getfield 347, 3) := dk_180 1 91 (dk_at dksX8_minuteNow_0 20 rfl rfl)
theorem dX8_minuteNow_23 : decode cX8_minuteNow 23 = .ok (.irem, 1) := dk_112 (dk_at dksX8_minuteNow_0 23 rfl rfl)
theorem dX8_minuteNow_24 : decode cX8_minuteNow 24 = .ok (.ifCond .ne 21, 3) := dk_154 0 21 (dk_at dksX8_minuteNow_1 0 rfl rfl)
theorem dX8_minuteNow_27 : decode cX8_minuteNow 27 = .ok (.aload_n 0, 1) := dk_42 (dk_at dksX8_minuteNow_1 3 rfl rfl)
theorem dX8_minuteNow_28 : decode cX8_minuteNow 28 = .ok (.iconst 0, 1) := dk_3 (dk_at dksX8_minuteNow_1 4 rfl rfl)
theorem dX8_minuteNow_29 : decode cX8_minuteNow 29 = .ok (.aload_n 0, 1) := dk_42 (dk_at dksX8_minuteNow_1 5 rfl rfl)
theorem dX8_minuteNow_30 : decode cX8_minuteNow 30 = .ok (.getfield 341, 3) := dk_180 1 85 (dk_at dksX8_minuteNow_1 6 rfl rfl)
theorem dX8_minuteNow_33 : decode cX8_minuteNow 33 = .ok (.aload_n 0, 1) := dk_42 (dk_at dksX8_minuteNow_1 9 rfl rfl)
theorem dX8_minuteNow_34 : decode cX8_minuteNow 34 = .ok (.aload_n 0, 1) := dk_42 (dk_at dksX8_minuteNow_1 10 rfl rfl)
theorem dX8_minuteNow_35 : decode cX8_minuteNow 35 = .ok (.getfield 344, 3) := dk_180 1 88 (dk_at dksX8_minuteNow_1 11 rfl rfl)
theorem dX8_minuteNow_38 : decode cX8_minuteNow 38 = .ok (.invokevirtual 394, 3) := dk_182 1 138 (dk_at dksX8_minuteNow_1 14 rfl rfl)
theorem dX8_minuteNow_41 : decode cX8_minuteNow 41 = .ok (.iconst 1, 1) := dk_4 (dk_at dksX8_minuteNow_1 17 rfl rfl)
theorem dX8_minuteNow_42 : decode cX8_minuteNow 42 = .ok (.invokevirtual 397, 3) := dk_182 1 141 (dk_at dksX8_minuteNow_1 18 rfl rfl)
theorem dX8_minuteNow_45 : decode cX8_minuteNow 45 = .ok (.iconst 0, 1) := dk_3 (dk_at dksX8_minuteNow_1 21 rfl rfl)
theorem dX8_minuteNow_46 : decode cX8_minuteNow 46 = .ok (.istore_n 1, 1) := dk_60 (dk_at dksX8_minuteNow_1 22 rfl rfl)
theorem dX8_minuteNow_47 : decode cX8_minuteNow 47 = .ok (.iload_n 1, 1) := dk_27 (dk_at dksX8_minuteNow_1 23 rfl rfl)
theorem dX8_minuteNow_48 : decode cX8_minuteNow 48 = .ok (.aload_n 0, 1) := dk_42 (dk_at dksX8_minuteNow_2 0 rfl rfl)
theorem dX8_minuteNow_49 : decode cX8_minuteNow 49 = .ok (.getfield 341, 3) := dk_180 1 85 (dk_at dksX8_minuteNow_2 1 rfl rfl)
theorem dX8_minuteNow_52 : decode cX8_minuteNow 52 = .ok (.if_icmp .ge 57, 3) := dk_162 0 57 (dk_at dksX8_minuteNow_2 4 rfl rfl)
theorem dX8_minuteNow_55 : decode cX8_minuteNow 55 = .ok (.aload_n 0, 1) := dk_42 (dk_at dksX8_minuteNow_2 7 rfl rfl)
theorem dX8_minuteNow_56 : decode cX8_minuteNow 56 = .ok (.iload_n 1, 1) := dk_27 (dk_at dksX8_minuteNow_2 8 rfl rfl)
theorem dX8_minuteNow_57 : decode cX8_minuteNow 57 = .ok (.invokevirtual 401, 3) := dk_182 1 145 (dk_at dksX8_minuteNow_2 9 rfl rfl)
theorem dX8_minuteNow_60 : decode cX8_minuteNow 60 = .ok (.istore_n 2, 1) := dk_61 (dk_at dksX8_minuteNow_2 12 rfl rfl)
theorem dX8_minuteNow_61 : decode cX8_minuteNow 61 = .ok (.iload_n 1, 1) := dk_27 (dk_at dksX8_minuteNow_2 13 rfl rfl)
theorem dX8_minuteNow_62 : decode cX8_minuteNow 62 = .ok (.istore_n 3, 1) := dk_62 (dk_at dksX8_minuteNow_2 14 rfl rfl)
theorem dX8_minuteNow_63 : decode cX8_minuteNow 63 = .ok (.iload_n 3, 1) := dk_29 (dk_at dksX8_minuteNow_2 15 rfl rfl)
theorem dX8_minuteNow_64 : decode cX8_minuteNow 64 = .ok (.iload_n 2, 1) := dk_28 (dk_at dksX8_minuteNow_2 16 rfl rfl)
theorem dX8_minuteNow_65 : decode cX8_minuteNow 65 = .ok (.if_icmp .ge 22, 3) := dk_162 0 22 (dk_at dksX8_minuteNow_2 17 rfl rfl)
theorem dX8_minuteNow_68 : decode cX8_minuteNow 68 = .ok (.aload_n 0, 1) := dk_42 (dk_at dksX8_minuteNow_2 20 rfl rfl)
theorem dX8_minuteNow_69 : decode cX8_minuteNow 69 = .ok (.aload_n 0, 1) := dk_42 (dk_at dksX8_minuteNow_2 21 rfl rfl)
theorem dX8_minuteNow_70 : decode cX8_minuteNow 70 = .ok (.getfield 90, 3) := dk_180 0 90 (dk_at dksX8_minuteNow_3 0 rfl rfl)
theorem dX8_minuteNow_73 : decode cX8_minuteNow 73 = .ok (.iload_n 3, 1) := dk_29 (dk_at dksX8_minuteNow_3 3 rfl rfl)
theorem dX8_minuteNow_74 : decode cX8_minuteNow 74 = .ok (.iaload, 1) := dk_46 (dk_at dksX8_minuteNow_3 4 rfl rfl)
theorem dX8_minuteNow_75 : decode cX8_minuteNow 75 = .ok (.invokevirtual 404, 3) := dk_182 1 148 (dk_at dksX8_minuteNow_3 5 rfl rfl)
theorem dX8_minuteNow_78 : decode cX8_minuteNow 78 = .ok (.ifCond .ne 9, 3) := dk_154 0 9 (dk_at dksX8_minuteNow_3 8 rfl rfl)
theorem dX8_minuteNow_81 : decode cX8_minuteNow 81 = .ok (.iinc 3 1, 3) := dk_132 3 1 (dk_at dksX8_minuteNow_3 11 rfl rfl)
theorem dX8_minuteNow_84 : decode cX8_minuteNow 84 = .ok (.goto (-21), 3) := dk_167 255 235 (dk_at dksX8_minuteNow_3 14 rfl rfl)
theorem dX8_minuteNow_87 : decode cX8_minuteNow 87 = .ok (.iload_n 3, 1) := dk_29 (dk_at dksX8_minuteNow_3 17 rfl rfl)
theorem dX8_minuteNow_88 : decode cX8_minuteNow 88 = .ok (.iload_n 2, 1) := dk_28 (dk_at dksX8_minuteNow_3 18 rfl rfl)
theorem dX8_minuteNow_89 : decode cX8_minuteNow 89 = .ok (.if_icmp .ge 11, 3) := dk_162 0 11 (dk_at dksX8_minuteNow_3 19 rfl rfl)
theorem dX8_minuteNow_92 : decode cX8_minuteNow 92 = .ok (.aload_n 0, 1) := dk_42 (dk_at dksX8_minuteNow_3 22 rfl rfl)
theorem dX8_minuteNow_93 : decode cX8_minuteNow 93 = .ok (.iload_n 1, 1) := dk_27 (dk_at dksX8_minuteNow_3 23 rfl rfl)
theorem dX8_minuteNow_94 : decode cX8_minuteNow 94 = .ok (.iload_n 2, 1) := dk_28 (dk_at dksX8_minuteNow_4 0 rfl rfl)
theorem dX8_minuteNow_95 : decode cX8_minuteNow 95 = .ok (.iload_n 3, 1) := dk_29 (dk_at dksX8_minuteNow_4 1 rfl rfl)
theorem dX8_minuteNow_96 : decode cX8_minuteNow 96 = .ok (.iconst 0, 1) := dk_3 (dk_at dksX8_minuteNow_4 2 rfl rfl)
theorem dX8_minuteNow_97 : decode cX8_minuteNow 97 = .ok (.invokevirtual 397, 3) := dk_182 1 141 (dk_at dksX8_minuteNow_4 3 rfl rfl)
theorem dX8_minuteNow_100 : decode cX8_minuteNow 100 = .ok (.aload_n 0, 1) := dk_42 (dk_at dksX8_minuteNow_4 6 rfl rfl)
theorem dX8_minuteNow_101 : decode cX8_minuteNow 101 = .ok (.iload_n 1, 1) := dk_27 (dk_at dksX8_minuteNow_4 7 rfl rfl)
theorem dX8_minuteNow_102 : decode cX8_minuteNow 102 = .ok (.invokevirtual 401, 3) := dk_182 1 145 (dk_at dksX8_minuteNow_4 8 rfl rfl)
theorem dX8_minuteNow_105 : decode cX8_minuteNow 105 = .ok (.istore_n 1, 1) := dk_60 (dk_at dksX8_minuteNow_4 11 rfl rfl)
theorem dX8_minuteNow_106 : decode cX8_minuteNow 106 = .ok (.goto (-59), 3) := dk_167 255 197 (dk_at dksX8_minuteNow_4 12 rfl rfl)
theorem dX8_minuteNow_109 : decode cX8_minuteNow 109 = .ok (.iconst 0, 1) := dk_3 (dk_at dksX8_minuteNow_4 15 rfl rfl)
theorem dX8_minuteNow_110 : decode cX8_minuteNow 110 = .ok (.istore_n 1, 1) := dk_60 (dk_at dksX8_minuteNow_4 16 rfl rfl)
theorem dX8_minuteNow_111 : decode cX8_minuteNow 111 = .ok (.iload_n 1, 1) := dk_27 (dk_at dksX8_minuteNow_4 17 rfl rfl)
theorem dX8_minuteNow_112 : decode cX8_minuteNow 112 = .ok (.aload_n 0, 1) := dk_42 (dk_at dksX8_minuteNow_4 18 rfl rfl)
theorem dX8_minuteNow_113 : decode cX8_minuteNow 113 = .ok (.getfield 341, 3) := dk_180 1 85 (dk_at dksX8_minuteNow_4 19 rfl rfl)
theorem dX8_minuteNow_116 : decode cX8_minuteNow 116 = .ok (.if_icmp .ge 84, 3) := dk_162 0 84 (dk_at dksX8_minuteNow_5 0 rfl rfl)
theorem dX8_minuteNow_119 : decode cX8_minuteNow 119 = .ok (.aload_n 0, 1) := dk_42 (dk_at dksX8_minuteNow_5 3 rfl rfl)
theorem dX8_minuteNow_120 : decode cX8_minuteNow 120 = .ok (.getfield 93, 3) := dk_180 0 93 (dk_at dksX8_minuteNow_5 4 rfl rfl)
theorem dX8_minuteNow_123 : decode cX8_minuteNow 123 = .ok (.aload_n 0, 1) := dk_42 (dk_at dksX8_minuteNow_5 7 rfl rfl)
theorem dX8_minuteNow_124 : decode cX8_minuteNow 124 = .ok (.getfield 90, 3) := dk_180 0 90 (dk_at dksX8_minuteNow_5 8 rfl rfl)
theorem dX8_minuteNow_127 : decode cX8_minuteNow 127 = .ok (.iload_n 1, 1) := dk_27 (dk_at dksX8_minuteNow_5 11 rfl rfl)
theorem dX8_minuteNow_128 : decode cX8_minuteNow 128 = .ok (.iaload, 1) := dk_46 (dk_at dksX8_minuteNow_5 12 rfl rfl)
theorem dX8_minuteNow_129 : decode cX8_minuteNow 129 = .ok (.iaload, 1) := dk_46 (dk_at dksX8_minuteNow_5 13 rfl rfl)
theorem dX8_minuteNow_130 : decode cX8_minuteNow 130 = .ok (.aload_n 0, 1) := dk_42 (dk_at dksX8_minuteNow_5 14 rfl rfl)
theorem dX8_minuteNow_131 : decode cX8_minuteNow 131 = .ok (.getfield 359, 3) := dk_180 1 103 (dk_at dksX8_minuteNow_5 15 rfl rfl)
theorem dX8_minuteNow_134 : decode cX8_minuteNow 134 = .ok (.if_icmp .eq 6, 3) := dk_159 0 6 (dk_at dksX8_minuteNow_5 18 rfl rfl)
theorem dX8_minuteNow_137 : decode cX8_minuteNow 137 = .ok (.goto 57, 3) := dk_167 0 57 (dk_at dksX8_minuteNow_5 21 rfl rfl)
theorem dX8_minuteNow_140 : decode cX8_minuteNow 140 = .ok (.iload_n 1, 1) := dk_27 (dk_at dksX8_minuteNow_6 0 rfl rfl)
theorem dX8_minuteNow_141 : decode cX8_minuteNow 141 = .ok (.iconst 1, 1) := dk_4 (dk_at dksX8_minuteNow_6 1 rfl rfl)
theorem dX8_minuteNow_142 : decode cX8_minuteNow 142 = .ok (.iadd, 1) := dk_96 (dk_at dksX8_minuteNow_6 2 rfl rfl)
theorem dX8_minuteNow_143 : decode cX8_minuteNow 143 = .ok (.istore_n 2, 1) := dk_61 (dk_at dksX8_minuteNow_6 3 rfl rfl)
theorem dX8_minuteNow_144 : decode cX8_minuteNow 144 = .ok (.iload_n 2, 1) := dk_28 (dk_at dksX8_minuteNow_6 4 rfl rfl)
theorem dX8_minuteNow_145 : decode cX8_minuteNow 145 = .ok (.aload_n 0, 1) := dk_42 (dk_at dksX8_minuteNow_6 5 rfl rfl)
theorem dX8_minuteNow_146 : decode cX8_minuteNow 146 = .ok (.getfield 341, 3) := dk_180 1 85 (dk_at dksX8_minuteNow_6 6 rfl rfl)
theorem dX8_minuteNow_149 : decode cX8_minuteNow 149 = .ok (.if_icmp .ge 45, 3) := dk_162 0 45 (dk_at dksX8_minuteNow_6 9 rfl rfl)
theorem dX8_minuteNow_152 : decode cX8_minuteNow 152 = .ok (.aload_n 0, 1) := dk_42 (dk_at dksX8_minuteNow_6 12 rfl rfl)
theorem dX8_minuteNow_153 : decode cX8_minuteNow 153 = .ok (.aload_n 0, 1) := dk_42 (dk_at dksX8_minuteNow_6 13 rfl rfl)
theorem dX8_minuteNow_154 : decode cX8_minuteNow 154 = .ok (.getfield 90, 3) := dk_180 0 90 (dk_at dksX8_minuteNow_6 14 rfl rfl)
theorem dX8_minuteNow_157 : decode cX8_minuteNow 157 = .ok (.iload_n 2, 1) := dk_28 (dk_at dksX8_minuteNow_6 17 rfl rfl)
theorem dX8_minuteNow_158 : decode cX8_minuteNow 158 = .ok (.iaload, 1) := dk_46 (dk_at dksX8_minuteNow_6 18 rfl rfl)
theorem dX8_minuteNow_159 : decode cX8_minuteNow 159 = .ok (.invokevirtual 373, 3) := dk_182 1 117 (dk_at dksX8_minuteNow_6 19 rfl rfl)
theorem dX8_minuteNow_162 : decode cX8_minuteNow 162 = .ok (.ifCond .ne 26, 3) := dk_154 0 26 (dk_at dksX8_minuteNow_7 0 rfl rfl)
theorem dX8_minuteNow_165 : decode cX8_minuteNow 165 = .ok (.aload_n 0, 1) := dk_42 (dk_at dksX8_minuteNow_7 3 rfl rfl)
theorem dX8_minuteNow_166 : decode cX8_minuteNow 166 = .ok (.aload_n 0, 1) := dk_42 (dk_at dksX8_minuteNow_7 4 rfl rfl)
theorem dX8_minuteNow_167 : decode cX8_minuteNow 167 = .ok (.getfield 90, 3) := dk_180 0 90 (dk_at dksX8_minuteNow_7 5 rfl rfl)
theorem dX8_minuteNow_170 : decode cX8_minuteNow 170 = .ok (.iload_n 2, 1) := dk_28 (dk_at dksX8_minuteNow_7 8 rfl rfl)
theorem dX8_minuteNow_171 : decode cX8_minuteNow 171 = .ok (.iaload, 1) := dk_46 (dk_at dksX8_minuteNow_7 9 rfl rfl)
theorem dX8_minuteNow_172 : decode cX8_minuteNow 172 = .ok (.invokevirtual 376, 3) := dk_182 1 120 (dk_at dksX8_minuteNow_7 10 rfl rfl)
theorem dX8_minuteNow_175 : decode cX8_minuteNow 175 = .ok (.ifCond .ne 13, 3) := dk_154 0 13 (dk_at dksX8_minuteNow_7 13 rfl rfl)
theorem dX8_minuteNow_178 : decode cX8_minuteNow 178 = .ok (.aload_n 0, 1) := dk_42 (dk_at dksX8_minuteNow_7 16 rfl rfl)
theorem dX8_minuteNow_179 : decode cX8_minuteNow 179 = .ok (.aload_n 0, 1) := dk_42 (dk_at dksX8_minuteNow_7 17 rfl rfl)
theorem dX8_minuteNow_180 : decode cX8_minuteNow 180 = .ok (.getfield 90, 3) := dk_180 0 90 (dk_at dksX8_minuteNow_7 18 rfl rfl)
theorem dX8_minuteNow_183 : decode cX8_minuteNow 183 = .ok (.iload_n 2, 1) := dk_28 (dk_at dksX8_minuteNow_7 21 rfl rfl)
theorem dX8_minuteNow_184 : decode cX8_minuteNow 184 = .ok (.iaload, 1) := dk_46 (dk_at dksX8_minuteNow_7 22 rfl rfl)
theorem dX8_minuteNow_185 : decode cX8_minuteNow 185 = .ok (.invokevirtual 382, 3) := dk_182 1 126 (dk_at dksX8_minuteNow_8 0 rfl rfl)
theorem dX8_minuteNow_188 : decode cX8_minuteNow 188 = .ok (.iinc 2 1, 3) := dk_132 2 1 (dk_at dksX8_minuteNow_8 3 rfl rfl)
theorem dX8_minuteNow_191 : decode cX8_minuteNow 191 = .ok (.goto (-47), 3) := dk_167 255 209 (dk_at dksX8_minuteNow_8 6 rfl rfl)
theorem dX8_minuteNow_194 : decode cX8_minuteNow 194 = .ok (.iinc 1 1, 3) := dk_132 1 1 (dk_at dksX8_minuteNow_8 9 rfl rfl)
theorem dX8_minuteNow_197 : decode cX8_minuteNow 197 = .ok (.goto (-86), 3) := dk_167 255 170 (dk_at dksX8_minuteNow_8 12 rfl rfl)
theorem dX8_minuteNow_200 : decode cX8_minuteNow 200 = .ok (.return_, 1) := dk_177 (dk_at dksX8_minuteNow_8 15 rfl rfl)
abbrev cX8_turnAll : ByteArray := prog_21_method_46_code
def yX8_turnAll : MethodName := ⟨RX8, "turnAll", "(IIIZ)V"⟩
def dkwX8_turnAll_11 : List UInt8 := [180, 1, 103, 181, 1, 132, 177]
abbrev dktX8_turnAll_11 : List UInt8 := dkwX8_turnAll_11 ++ []
def dkwX8_turnAll_10 : List UInt8 := [180, 1, 129, 42, 180, 1, 103, 42, 180, 1, 132, 100, 4, 100, 184, 1, 135, 181, 1, 129, 42, 42]
abbrev dktX8_turnAll_10 : List UInt8 := dkwX8_turnAll_10 ++ dktX8_turnAll_11
def dkwX8_turnAll_9 : List UInt8 := [42, 180, 0, 90, 29, 46, 92, 46, 4, 96, 79, 42, 89, 180, 1, 109, 4, 96, 181, 1, 109, 42, 42]
abbrev dktX8_turnAll_9 : List UInt8 := dkwX8_turnAll_9 ++ dktX8_turnAll_10
def dkwX8_turnAll_8 : List UInt8 := [79, 42, 180, 0, 120, 42, 180, 1, 109, 21, 4, 153, 0, 7, 4, 167, 0, 4, 3, 79, 42, 180, 0, 108]
abbrev dktX8_turnAll_8 : List UInt8 := dkwX8_turnAll_8 ++ dktX8_turnAll_9
def dkwX8_turnAll_7 : List UInt8 := [180, 0, 114, 42, 180, 1, 109, 42, 180, 0, 90, 29, 46, 79, 42, 180, 0, 117, 42, 180, 1, 109, 21, 5]
abbrev dktX8_turnAll_7 : List UInt8 := dkwX8_turnAll_7 ++ dktX8_turnAll_8
def dkwX8_turnAll_6 : List UInt8 := [180, 1, 109, 17, 4, 176, 162, 0, 61, 42, 180, 0, 111, 42, 180, 1, 109, 42, 180, 1, 103, 79, 42]
abbrev dktX8_turnAll_6 : List UInt8 := dkwX8_turnAll_6 ++ dktX8_turnAll_7
def dkwX8_turnAll_5 : List UInt8 := [154, 0, 6, 167, 0, 12, 42, 21, 7, 182, 1, 126, 132, 5, 1, 132, 6, 1, 167, 255, 192, 42]
abbrev dktX8_turnAll_5 : List UInt8 := dkwX8_turnAll_5 ++ dktX8_turnAll_6
def dkwX8_turnAll_4 : List UInt8 := [182, 1, 117, 154, 0, 34, 42, 21, 7, 182, 1, 120, 154, 0, 25, 42, 21, 6, 29, 182, 1, 123]
abbrev dktX8_turnAll_4 : List UInt8 := dkwX8_turnAll_4 ++ dktX8_turnAll_5
def dkwX8_turnAll_3 : List UInt8 := [21, 6, 28, 162, 0, 64, 42, 180, 0, 90, 21, 6, 46, 54, 7, 21, 6, 29, 159, 0, 43, 42, 21, 7]
abbrev dktX8_turnAll_3 : List UInt8 := dkwX8_turnAll_3 ++ dktX8_turnAll_4
def dkwX8_turnAll_2 : List UInt8 := [42, 180, 0, 99, 21, 6, 42, 180, 1, 103, 79, 132, 5, 1, 167, 255, 197, 3, 54, 5, 27, 54, 6]
abbrev dktX8_turnAll_2 : List UInt8 := dkwX8_turnAll_2 ++ dktX8_turnAll_3
def dkwX8_turnAll_1 : List UInt8 := [46, 6, 160, 0, 6, 167, 0, 30, 42, 180, 0, 96, 21, 6, 4, 42, 180, 0, 96, 21, 6, 46, 100, 79]
abbrev dktX8_turnAll_1 : List UInt8 := dkwX8_turnAll_1 ++ dktX8_turnAll_2
def dkwX8_turnAll_0 : List UInt8 := [27, 54, 5, 21, 5, 28, 162, 0, 59, 42, 180, 0, 90, 21, 5, 46, 54, 6, 42, 180, 0, 42, 21, 6]
abbrev dktX8_turnAll_0 : List UInt8 := dkwX8_turnAll_0 ++ dktX8_turnAll_1
theorem dksX8_turnAll_0 : cX8_turnAll.data.toList.drop 0 = dktX8_turnAll_0 := by decide +kernel
theorem dksX8_turnAll_1 : cX8_turnAll.data.toList.drop 24 = dktX8_turnAll_1 := dk_seg dksX8_turnAll_0 24 rfl rfl
theorem dksX8_turnAll_2 : cX8_turnAll.data.toList.drop 48 = dktX8_turnAll_2 := dk_seg dksX8_turnAll_1 24 rfl rfl
theorem dksX8_turnAll_3 : cX8_turnAll.data.toList.drop 71 = dktX8_turnAll_3 := dk_seg dksX8_turnAll_2 23 rfl rfl
theorem dksX8_turnAll_4 : cX8_turnAll.data.toList.drop 95 = dktX8_turnAll_4 := dk_seg dksX8_turnAll_3 24 rfl rfl
theorem dksX8_turnAll_5 : cX8_turnAll.data.toList.drop 117 = dktX8_turnAll_5 := dk_seg dksX8_turnAll_4 22 rfl rfl
theorem dksX8_turnAll_6 : cX8_turnAll.data.toList.drop 139 = dktX8_turnAll_6 := dk_seg dksX8_turnAll_5 22 rfl rfl
theorem dksX8_turnAll_7 : cX8_turnAll.data.toList.drop 162 = dktX8_turnAll_7 := dk_seg dksX8_turnAll_6 23 rfl rfl
theorem dksX8_turnAll_8 : cX8_turnAll.data.toList.drop 186 = dktX8_turnAll_8 := dk_seg dksX8_turnAll_7 24 rfl rfl
theorem dksX8_turnAll_9 : cX8_turnAll.data.toList.drop 210 = dktX8_turnAll_9 := dk_seg dksX8_turnAll_8 24 rfl rfl
theorem dksX8_turnAll_10 : cX8_turnAll.data.toList.drop 233 = dktX8_turnAll_10 := dk_seg dksX8_turnAll_9 23 rfl rfl
theorem dksX8_turnAll_11 : cX8_turnAll.data.toList.drop 255 = dktX8_turnAll_11 := dk_seg dksX8_turnAll_10 22 rfl rfl
theorem dX8_turnAll_0 : decode cX8_turnAll 0 = .ok (.iload_n 1, 1) := dk_27 (dk_at dksX8_turnAll_0 0 rfl rfl)
theorem dX8_turnAll_1 : decode cX8_turnAll 1 = .ok (.istore 5, 2) := dk_54 5 (dk_at dksX8_turnAll_0 1 rfl rfl)
theorem dX8_turnAll_3 : decode cX8_turnAll 3 = .ok (.iload 5, 2) := dk_21 5 (dk_at dksX8_turnAll_0 3 rfl rfl)
theorem dX8_turnAll_5 : decode cX8_turnAll 5 = .ok (.iload_n 2, 1) := dk_28 (dk_at dksX8_turnAll_0 5 rfl rfl)
theorem dX8_turnAll_6 : decode cX8_turnAll 6 = .ok (.if_icmp .ge 59, 3) := dk_162 0 59 (dk_at dksX8_turnAll_0 6 rfl rfl)
theorem dX8_turnAll_9 : decode cX8_turnAll 9 = .ok (.aload_n 0, 1) := dk_42 (dk_at dksX8_turnAll_0 9 rfl rfl)
theorem dX8_turnAll_10 : decode cX8_turnAll 10 = .ok (.getfield 90, 3) := dk_180 0 90 (dk_at dksX8_turnAll_0 10 rfl rfl)
theorem dX8_turnAll_13 : decode cX8_turnAll 13 = .ok (.iload 5, 2) := dk_21 5 (dk_at dksX8_turnAll_0 13 rfl rfl)
theorem dX8_turnAll_15 : decode cX8_turnAll 15 = .ok (.iaload, 1) := dk_46 (dk_at dksX8_turnAll_0 15 rfl rfl)
theorem dX8_turnAll_16 : decode cX8_turnAll 16 = .ok (.istore 6, 2) := dk_54 6 (dk_at dksX8_turnAll_0 16 rfl rfl)
theorem dX8_turnAll_18 : decode cX8_turnAll 18 = .ok (.aload_n 0, 1) := dk_42 (dk_at dksX8_turnAll_0 18 rfl rfl)
theorem dX8_turnAll_19 : decode cX8_turnAll 19 = .ok (.getfield 42, 3) := dk_180 0 42 (dk_at dksX8_turnAll_0 19 rfl rfl)
theorem dX8_turnAll_22 : decode cX8_turnAll 22 = .ok (.iload 6, 2) := dk_21 6 (dk_at dksX8_turnAll_0 22 rfl rfl)
theorem dX8_turnAll_24 : decode cX8_turnAll 24 = .ok (.iaload, 1) := dk_46 (dk_at dksX8_turnAll_1 0 rfl rfl)
theorem dX8_turnAll_25 : decode cX8_turnAll 25 = .ok (.iconst 3, 1) := dk_6 (dk_at dksX8_turnAll_1 1 rfl rfl)
theorem dX8_turnAll_26 : decode cX8_turnAll 26 = .ok (.if_icmp .ne 6, 3) := dk_160 0 6 (dk_at dksX8_turnAll_1 2 rfl rfl)
theorem dX8_turnAll_29 : decode cX8_turnAll 29 = .ok (.goto 30, 3) := dk_167 0 30 (dk_at dksX8_turnAll_1 5 rfl rfl)
theorem dX8_turnAll_32 : decode cX8_turnAll 32 = .ok (.aload_n 0, 1) := dk_42 (dk_at dksX8_turnAll_1 8 rfl rfl)
theorem dX8_turnAll_33 : decode cX8_turnAll 33 = .ok (.getfield 96, 3) := dk_180 0 96 (dk_at dksX8_turnAll_1 9 rfl rfl)
theorem dX8_turnAll_36 : decode cX8_turnAll 36 = .ok (.iload 6, 2) := dk_21 6 (dk_at dksX8_turnAll_1 12 rfl rfl)
theorem dX8_turnAll_38 : decode cX8_turnAll 38 = .ok (.iconst 1, 1) := dk_4 (dk_at dksX8_turnAll_1 14 rfl rfl)
theorem dX8_turnAll_39 : decode cX8_turnAll 39 = .ok (.aload_n 0, 1) := dk_42 (dk_at dksX8_turnAll_1 15 rfl rfl)
theorem dX8_turnAll_40 : decode cX8_turnAll 40 = .ok (.getfield 96, 3) := dk_180 0 96 (dk_at dksX8_turnAll_1 16 rfl rfl)
theorem dX8_turnAll_43 : decode cX8_turnAll 43 = .ok (.iload 6, 2) := dk_21 6 (dk_at dksX8_turnAll_1 19 rfl rfl)
theorem dX8_turnAll_45 : decode cX8_turnAll 45 = .ok (.iaload, 1) := dk_46 (dk_at dksX8_turnAll_1 21 rfl rfl)
theorem dX8_turnAll_46 : decode cX8_turnAll 46 = .ok (.isub, 1) := dk_100 (dk_at dksX8_turnAll_1 22 rfl rfl)
theorem dX8_turnAll_47 : decode cX8_turnAll 47 = .ok (.iastore, 1) := dk_79 (dk_at dksX8_turnAll_1 23 rfl rfl)
theorem dX8_turnAll_48 : decode cX8_turnAll 48 = .ok (.aload_n 0, 1) := dk_42 (dk_at dksX8_turnAll_2 0 rfl rfl)
theorem dX8_turnAll_49 : decode cX8_turnAll 49 = .ok (.getfield 99, 3) := dk_180 0 99 (dk_at dksX8_turnAll_2 1 rfl rfl)
theorem dX8_turnAll_52 : decode cX8_turnAll 52 = .ok (.iload 6, 2) := dk_21 6 (dk_at dksX8_turnAll_2 4 rfl rfl)
theorem dX8_turnAll_54 : decode cX8_turnAll 54 = .ok (.aload_n 0, 1) := dk_42 (dk_at dksX8_turnAll_2 6 rfl rfl)
theorem dX8_turnAll_55 : decode cX8_turnAll 55 = .ok (.getfield 359, 3) := dk_180 1 103 (dk_at dksX8_turnAll_2 7 rfl rfl)
theorem dX8_turnAll_58 : decode cX8_turnAll 58 = .ok (.iastore, 1) := dk_79 (dk_at dksX8_turnAll_2 10 rfl rfl)
theorem dX8_turnAll_59 : decode cX8_turnAll 59 = .ok (.iinc 5 1, 3) := dk_132 5 1 (dk_at dksX8_turnAll_2 11 rfl rfl)
theorem dX8_turnAll_62 : decode cX8_turnAll 62 = .ok (.goto (-59), 3) := dk_167 255 197 (dk_at dksX8_turnAll_2 14 rfl rfl)
theorem dX8_turnAll_65 : decode cX8_turnAll 65 = .ok (.iconst 0, 1) := dk_3 (dk_at dksX8_turnAll_2 17 rfl rfl)
theorem dX8_turnAll_66 : decode cX8_turnAll 66 = .ok (.istore 5, 2) := dk_54 5 (dk_at dksX8_turnAll_2 18 rfl rfl)
theorem dX8_turnAll_68 : decode cX8_turnAll 68 = .ok (.iload_n 1, 1) := dk_27 (dk_at dksX8_turnAll_2 20 rfl rfl)
theorem dX8_turnAll_69 : decode cX8_turnAll 69 = .ok (.istore 6, 2) := dk_54 6 (dk_at dksX8_turnAll_2 21 rfl rfl)
theorem dX8_turnAll_71 : decode cX8_turnAll 71 = .ok (.iload 6, 2) := dk_21 6 (dk_at dksX8_turnAll_3 0 rfl rfl)
theorem dX8_turnAll_73 : decode cX8_turnAll 73 = .ok (.iload_n 2, 1) := dk_28 (dk_at dksX8_turnAll_3 2 rfl rfl)
theorem dX8_turnAll_74 : decode cX8_turnAll 74 = .ok (.if_icmp .ge 64, 3) := dk_162 0 64 (dk_at dksX8_turnAll_3 3 rfl rfl)
theorem dX8_turnAll_77 : decode cX8_turnAll 77 = .ok (.aload_n 0, 1) := dk_42 (dk_at dksX8_turnAll_3 6 rfl rfl)
theorem dX8_turnAll_78 : decode cX8_turnAll 78 = .ok (.getfield 90, 3) := dk_180 0 90 (dk_at dksX8_turnAll_3 7 rfl rfl)
theorem dX8_turnAll_81 : decode cX8_turnAll 81 = .ok (.iload 6, 2) := dk_21 6 (dk_at dksX8_turnAll_3 10 rfl rfl)
theorem dX8_turnAll_83 : decode cX8_turnAll 83 = .ok (.iaload, 1) := dk_46 (dk_at dksX8_turnAll_3 12 rfl rfl)
theorem dX8_turnAll_84 : decode cX8_turnAll 84 = .ok (.istore 7, 2) := dk_54 7 (dk_at dksX8_turnAll_3 13 rfl rfl)
theorem dX8_turnAll_86 : decode cX8_turnAll 86 = .ok (.iload 6, 2) := dk_21 6 (dk_at dksX8_turnAll_3 15 rfl rfl)
theorem dX8_turnAll_88 : decode cX8_turnAll 88 = .ok (.iload_n 3, 1) := dk_29 (dk_at dksX8_turnAll_3 17 rfl rfl)
theorem dX8_turnAll_89 : decode cX8_turnAll 89 = .ok (.if_icmp .eq 43, 3) := dk_159 0 43 (dk_at dksX8_turnAll_3 18 rfl rfl)
theorem dX8_turnAll_92 : decode cX8_turnAll 92 = .ok (.aload_n 0, 1) := dk_42 (dk_at dksX8_turnAll_3 21 rfl rfl)
theorem dX8_turnAll_93 : decode cX8_turnAll 93 = .ok (.iload 7, 2) := dk_21 7 (dk_at dksX8_turnAll_3 22 rfl rfl)
theorem dX8_turnAll_95 : decode cX8_turnAll 95 = .ok (.invokevirtual 373, 3) := dk_182 1 117 (dk_at dksX8_turnAll_4 0 rfl rfl)
theorem dX8_turnAll_98 : decode cX8_turnAll 98 = .ok (.ifCond .ne 34, 3) := dk_154 0 34 (dk_at dksX8_turnAll_4 3 rfl rfl)
theorem dX8_turnAll_101 : decode cX8_turnAll 101 = .ok (.aload_n 0, 1) := dk_42 (dk_at dksX8_turnAll_4 6 rfl rfl)
theorem dX8_turnAll_102 : decode cX8_turnAll 102 = .ok (.iload 7, 2) := dk_21 7 (dk_at dksX8_turnAll_4 7 rfl rfl)
theorem dX8_turnAll_104 : decode cX8_turnAll 104 = .ok (.invokevirtual 376, 3) := dk_182 1 120 (dk_at dksX8_turnAll_4 9 rfl rfl)
theorem dX8_turnAll_107 : decode cX8_turnAll 107 = .ok (.ifCond .ne 25, 3) := dk_154 0 25 (dk_at dksX8_turnAll_4 12 rfl rfl)
theorem dX8_turnAll_110 : decode cX8_turnAll 110 = .ok (.aload_n 0, 1) := dk_42 (dk_at dksX8_turnAll_4 15 rfl rfl)
theorem dX8_turnAll_111 : decode cX8_turnAll 111 = .ok (.iload 6, 2) := dk_21 6 (dk_at dksX8_turnAll_4 16 rfl rfl)
theorem dX8_turnAll_113 : decode cX8_turnAll 113 = .ok (.iload_n 3, 1) := dk_29 (dk_at dksX8_turnAll_4 18 rfl rfl)
theorem dX8_turnAll_114 : decode cX8_turnAll 114 = .ok (.invokevirtual 379, 3) := dk_182 1 123 (dk_at dksX8_turnAll_4 19 rfl rfl)
theorem dX8_turnAll_117 : decode cX8_turnAll 117 = .ok (.ifCond .ne 6, 3) := dk_154 0 6 (dk_at dksX8_turnAll_5 0 rfl rfl)
theorem dX8_turnAll_120 : decode cX8_turnAll 120 = .ok (.goto 12, 3) := dk_167 0 12 (dk_at dksX8_turnAll_5 3 rfl rfl)
theorem dX8_turnAll_123 : decode cX8_turnAll 123 = .ok (.aload_n 0, 1) := dk_42 (dk_at dksX8_turnAll_5 6 rfl rfl)
theorem dX8_turnAll_124 : decode cX8_turnAll 124 = .ok (.iload 7, 2) := dk_21 7 (dk_at dksX8_turnAll_5 7 rfl rfl)
theorem dX8_turnAll_126 : decode cX8_turnAll 126 = .ok (.invokevirtual 382, 3) := dk_182 1 126 (dk_at dksX8_turnAll_5 9 rfl rfl)
theorem dX8_turnAll_129 : decode cX8_turnAll 129 = .ok (.iinc 5 1, 3) := dk_132 5 1 (dk_at dksX8_turnAll_5 12 rfl rfl)
theorem dX8_turnAll_132 : decode cX8_turnAll 132 = .ok (.iinc 6 1, 3) := dk_132 6 1 (dk_at dksX8_turnAll_5 15 rfl rfl)
theorem dX8_turnAll_135 : decode cX8_turnAll 135 = .ok (.goto (-64), 3) := dk_167 255 192 (dk_at dksX8_turnAll_5 18 rfl rfl)
theorem dX8_turnAll_138 : decode cX8_turnAll 138 = .ok (.aload_n 0, 1) := dk_42 (dk_at dksX8_turnAll_5 21 rfl rfl)
theorem dX8_turnAll_139 : decode cX8_turnAll 139 = .ok (.getfield 365, 3) := dk_180 1 109 (dk_at dksX8_turnAll_6 0 rfl rfl)
theorem dX8_turnAll_142 : decode cX8_turnAll 142 = .ok (.sipush 1200, 3) := dk_17 4 176 (dk_at dksX8_turnAll_6 3 rfl rfl)
theorem dX8_turnAll_145 : decode cX8_turnAll 145 = .ok (.if_icmp .ge 61, 3) := dk_162 0 61 (dk_at dksX8_turnAll_6 6 rfl rfl)
theorem dX8_turnAll_148 : decode cX8_turnAll 148 = .ok (.aload_n 0, 1) := dk_42 (dk_at dksX8_turnAll_6 9 rfl rfl)
theorem dX8_turnAll_149 : decode cX8_turnAll 149 = .ok (.getfield 111, 3) := dk_180 0 111 (dk_at dksX8_turnAll_6 10 rfl rfl)
theorem dX8_turnAll_152 : decode cX8_turnAll 152 = .ok (.aload_n 0, 1) := dk_42 (dk_at dksX8_turnAll_6 13 rfl rfl)
theorem dX8_turnAll_153 : decode cX8_turnAll 153 = .ok (.getfield 365, 3) := dk_180 1 109 (dk_at dksX8_turnAll_6 14 rfl rfl)
theorem dX8_turnAll_156 : decode cX8_turnAll 156 = .ok (.aload_n 0, 1) := dk_42 (dk_at dksX8_turnAll_6 17 rfl rfl)
theorem dX8_turnAll_157 : decode cX8_turnAll 157 = .ok (.getfield 359, 3) := dk_180 1 103 (dk_at dksX8_turnAll_6 18 rfl rfl)
theorem dX8_turnAll_160 : decode cX8_turnAll 160 = .ok (.iastore, 1) := dk_79 (dk_at dksX8_turnAll_6 21 rfl rfl)
theorem dX8_turnAll_161 : decode cX8_turnAll 161 = .ok (.aload_n 0, 1) := dk_42 (dk_at dksX8_turnAll_6 22 rfl rfl)
theorem dX8_turnAll_162 : decode cX8_turnAll 162 = .ok (.getfield 114, 3) := dk_180 0 114 (dk_at dksX8_turnAll_7 0 rfl rfl)
theorem dX8_turnAll_165 : decode cX8_turnAll 165 = .ok (.aload_n 0, 1) := dk_42 (dk_at dksX8_turnAll_7 3 rfl rfl)
theorem dX8_turnAll_166 : decode cX8_turnAll 166 = .ok (.getfield 365, 3) := dk_180 1 109 (dk_at dksX8_turnAll_7 4 rfl rfl)
theorem dX8_turnAll_169 : decode cX8_turnAll 169 = .ok (.aload_n 0, 1) := dk_42 (dk_at dksX8_turnAll_7 7 rfl rfl)
theorem dX8_turnAll_170 : decode cX8_turnAll 170 = .ok (.getfield 90, 3) := dk_180 0 90 (dk_at dksX8_turnAll_7 8 rfl rfl)
theorem dX8_turnAll_173 : decode cX8_turnAll 173 = .ok (.iload_n 3, 1) := dk_29 (dk_at dksX8_turnAll_7 11 rfl rfl)
theorem dX8_turnAll_174 : decode cX8_turnAll 174 = .ok (.iaload, 1) := dk_46 (dk_at dksX8_turnAll_7 12 rfl rfl)
theorem dX8_turnAll_175 : decode cX8_turnAll 175 = .ok (.iastore, 1) := dk_79 (dk_at dksX8_turnAll_7 13 rfl rfl)
theorem dX8_turnAll_176 : decode cX8_turnAll 176 = .ok (.aload_n 0, 1) := dk_42 (dk_at dksX8_turnAll_7 14 rfl rfl)
theorem dX8_turnAll_177 : decode cX8_turnAll 177 = .ok (.getfield 117, 3) := dk_180 0 117 (dk_at dksX8_turnAll_7 15 rfl rfl)
theorem dX8_turnAll_180 : decode cX8_turnAll 180 = .ok (.aload_n 0, 1) := dk_42 (dk_at dksX8_turnAll_7 18 rfl rfl)
theorem dX8_turnAll_181 : decode cX8_turnAll 181 = .ok (.getfield 365, 3) := dk_180 1 109 (dk_at dksX8_turnAll_7 19 rfl rfl)
theorem dX8_turnAll_184 : decode cX8_turnAll 184 = .ok (.iload 5, 2) := dk_21 5 (dk_at dksX8_turnAll_7 22 rfl rfl)
theorem dX8_turnAll_186 : decode cX8_turnAll 186 = .ok (.iastore, 1) := dk_79 (dk_at dksX8_turnAll_8 0 rfl rfl)
theorem dX8_turnAll_187 : decode cX8_turnAll 187 = .ok (.aload_n 0, 1) := dk_42 (dk_at dksX8_turnAll_8 1 rfl rfl)
theorem dX8_turnAll_188 : decode cX8_turnAll 188 = .ok (.getfield 120, 3) := dk_180 0 120 (dk_at dksX8_turnAll_8 2 rfl rfl)
theorem dX8_turnAll_191 : decode cX8_turnAll 191 = .ok (.aload_n 0, 1) := dk_42 (dk_at dksX8_turnAll_8 5 rfl rfl)
theorem dX8_turnAll_192 : decode cX8_turnAll 192 = .ok (.getfield 365, 3) := dk_180 1 109 (dk_at dksX8_turnAll_8 6 rfl rfl)
theorem dX8_turnAll_195 : decode cX8_turnAll 195 = .ok (.iload 4, 2) := dk_21 4 (dk_at dksX8_turnAll_8 9 rfl rfl)
theorem dX8_turnAll_197 : decode cX8_turnAll 197 = .ok (.ifCond .eq 7, 3) := dk_153 0 7 (dk_at dksX8_turnAll_8 11 rfl rfl)
theorem dX8_turnAll_200 : decode cX8_turnAll 200 = .ok (.iconst 1, 1) := dk_4 (dk_at dksX8_turnAll_8 14 rfl rfl)
theorem dX8_turnAll_201 : decode cX8_turnAll 201 = .ok (.goto 4, 3) := dk_167 0 4 (dk_at dksX8_turnAll_8 15 rfl rfl)
theorem dX8_turnAll_204 : decode cX8_turnAll 204 = .ok (.iconst 0, 1) := dk_3 (dk_at dksX8_turnAll_8 18 rfl rfl)
theorem dX8_turnAll_205 : decode cX8_turnAll 205 = .ok (.iastore, 1) := dk_79 (dk_at dksX8_turnAll_8 19 rfl rfl)
theorem dX8_turnAll_206 : decode cX8_turnAll 206 = .ok (.aload_n 0, 1) := dk_42 (dk_at dksX8_turnAll_8 20 rfl rfl)
theorem dX8_turnAll_207 : decode cX8_turnAll 207 = .ok (.getfield 108, 3) := dk_180 0 108 (dk_at dksX8_turnAll_8 21 rfl rfl)
theorem dX8_turnAll_210 : decode cX8_turnAll 210 = .ok (.aload_n 0, 1) := dk_42 (dk_at dksX8_turnAll_9 0 rfl rfl)
theorem dX8_turnAll_211 : decode cX8_turnAll 211 = .ok (.getfield 90, 3) := dk_180 0 90 (dk_at dksX8_turnAll_9 1 rfl rfl)
theorem dX8_turnAll_214 : decode cX8_turnAll 214 = .ok (.iload_n 3, 1) := dk_29 (dk_at dksX8_turnAll_9 4 rfl rfl)
theorem dX8_turnAll_215 : decode cX8_turnAll 215 = .ok (.iaload, 1) := dk_46 (dk_at dksX8_turnAll_9 5 rfl rfl)
theorem dX8_turnAll_216 : decode cX8_turnAll 216 = .ok (.dup2, 1) := dk_92 (dk_at dksX8_turnAll_9 6 rfl rfl)
theorem dX8_turnAll_217 : decode cX8_turnAll 217 = .ok (.iaload, 1) := dk_46 (dk_at dksX8_turnAll_9 7 rfl rfl)
theorem dX8_turnAll_218 : decode cX8_turnAll 218 = .ok (.iconst 1, 1) := dk_4 (dk_at dksX8_turnAll_9 8 rfl rfl)
theorem dX8_turnAll_219 : decode cX8_turnAll 219 = .ok (.iadd, 1) := dk_96 (dk_at dksX8_turnAll_9 9 rfl rfl)
theorem dX8_turnAll_220 : decode cX8_turnAll 220 = .ok (.iastore, 1) := dk_79 (dk_at dksX8_turnAll_9 10 rfl rfl)
theorem dX8_turnAll_221 : decode cX8_turnAll 221 = .ok (.aload_n 0, 1) := dk_42 (dk_at dksX8_turnAll_9 11 rfl rfl)
theorem dX8_turnAll_222 : decode cX8_turnAll 222 = .ok (.dup, 1) := dk_89 (dk_at dksX8_turnAll_9 12 rfl rfl)
theorem dX8_turnAll_223 : decode cX8_turnAll 223 = .ok (.getfield 365, 3) := dk_180 1 109 (dk_at dksX8_turnAll_9 13 rfl rfl)
theorem dX8_turnAll_226 : decode cX8_turnAll 226 = .ok (.iconst 1, 1) := dk_4 (dk_at dksX8_turnAll_9 16 rfl rfl)
theorem dX8_turnAll_227 : decode cX8_turnAll 227 = .ok (.iadd, 1) := dk_96 (dk_at dksX8_turnAll_9 17 rfl rfl)
theorem dX8_turnAll_228 : decode cX8_turnAll 228 = .ok (.putfield 365, 3) := dk_181 1 109 (dk_at dksX8_turnAll_9 18 rfl rfl)
theorem dX8_turnAll_231 : decode cX8_turnAll 231 = .ok (.aload_n 0, 1) := dk_42 (dk_at dksX8_turnAll_9 21 rfl rfl)
theorem dX8_turnAll_232 : decode cX8_turnAll 232 = .ok (.aload_n 0, 1) := dk_42 (dk_at dksX8_turnAll_9 22 rfl rfl)
theorem dX8_turnAll_233 : decode cX8_turnAll 233 = .ok (.getfield 385, 3) := dk_180 1 129 (dk_at dksX8_turnAll_10 0 rfl rfl)
theorem dX8_turnAll_236 : decode cX8_turnAll 236 = .ok (.aload_n 0, 1) := dk_42 (dk_at dksX8_turnAll_10 3 rfl rfl)
theorem dX8_turnAll_237 : decode cX8_turnAll 237 = .ok (.getfield 359, 3) := dk_180 1 103 (dk_at dksX8_turnAll_10 4 rfl rfl)
theorem dX8_turnAll_240 : decode cX8_turnAll 240 = .ok (.aload_n 0, 1) := dk_42 (dk_at dksX8_turnAll_10 7 rfl rfl)
theorem dX8_turnAll_241 : decode cX8_turnAll 241 = .ok (.getfield 388, 3) := dk_180 1 132 (dk_at dksX8_turnAll_10 8 rfl rfl)
theorem dX8_turnAll_244 : decode cX8_turnAll 244 = .ok (.isub, 1) := dk_100 (dk_at dksX8_turnAll_10 11 rfl rfl)
theorem dX8_turnAll_245 : decode cX8_turnAll 245 = .ok (.iconst 1, 1) := dk_4 (dk_at dksX8_turnAll_10 12 rfl rfl)
theorem dX8_turnAll_246 : decode cX8_turnAll 246 = .ok (.isub, 1) := dk_100 (dk_at dksX8_turnAll_10 13 rfl rfl)
theorem dX8_turnAll_247 : decode cX8_turnAll 247 = .ok (.invokestatic 391, 3) := dk_184 1 135 (dk_at dksX8_turnAll_10 14 rfl rfl)
theorem dX8_turnAll_250 : decode cX8_turnAll 250 = .ok (.putfield 385, 3) := dk_181 1 129 (dk_at dksX8_turnAll_10 17 rfl rfl)
theorem dX8_turnAll_253 : decode cX8_turnAll 253 = .ok (.aload_n 0, 1) := dk_42 (dk_at dksX8_turnAll_10 20 rfl rfl)
theorem dX8_turnAll_254 : decode cX8_turnAll 254 = .ok (.aload_n 0, 1) := dk_42 (dk_at dksX8_turnAll_10 21 rfl rfl)
theorem dX8_turnAll_255 : decode cX8_turnAll 255 = .ok (.getfield 359, 3) := dk_180 1 103 (dk_at dksX8_turnAll_11 0 rfl rfl)
theorem dX8_turnAll_258 : decode cX8_turnAll 258 = .ok (.putfield 388, 3) := dk_181 1 132 (dk_at dksX8_turnAll_11 3 rfl rfl)
theorem dX8_turnAll_261 : decode cX8_turnAll 261 = .ok (.return_, 1) := dk_177 (dk_at dksX8_turnAll_11 6 rfl rfl)
abbrev cX8_isDeaf : ByteArray := prog_21_method_45_code
def yX8_isDeaf : MethodName := ⟨RX8, "isDeaf", "(I)Z"⟩
def dkwX8_isDeaf_1 : List UInt8 := [3, 172]
abbrev dktX8_isDeaf_1 : List UInt8 := dkwX8_isDeaf_1 ++ []
def dkwX8_isDeaf_0 : List UInt8 := [42, 180, 0, 42, 27, 46, 4, 159, 0, 13, 42, 180, 0, 42, 27, 46, 6, 160, 0, 7, 4, 167, 0, 4]
abbrev dktX8_isDeaf_0 : List UInt8 := dkwX8_isDeaf_0 ++ dktX8_isDeaf_1
theorem dksX8_isDeaf_0 : cX8_isDeaf.data.toList.drop 0 = dktX8_isDeaf_0 := by decide +kernel
theorem dksX8_isDeaf_1 : cX8_isDeaf.data.toList.drop 24 = dktX8_isDeaf_1 := dk_seg dksX8_isDeaf_0 24 rfl rfl
theorem dX8_isDeaf_0 : decode cX8_isDeaf 0 = .ok (.aload_n 0, 1) := dk_42 (dk_at dksX8_isDeaf_0 0 rfl rfl)
theorem dX8_isDeaf_1 : decode cX8_isDeaf 1 = .ok (.getfield 42, 3) := dk_180 0 42 (dk_at dksX8_isDeaf_0 1 rfl rfl)
theorem dX8_isDeaf_4 : decode cX8_isDeaf 4 = .ok (.iload_n 1, 1) := dk_27 (dk_at dksX8_isDeaf_0 4 rfl rfl)
theorem dX8_isDeaf_5 : decode cX8_isDeaf 5 = .ok (.iaload, 1) := dk_46 (dk_at dksX8_isDeaf_0 5 rfl rfl)
theorem dX8_isDeaf_6 : decode cX8_isDeaf 6 = .ok (.iconst 1, 1) := dk_4 (dk_at dksX8_isDeaf_0 6 rfl rfl)
theorem dX8_isDeaf_7 : decode cX8_isDeaf 7 = .ok (.if_icmp .eq 13, 3) := dk_159 0 13 (dk_at dksX8_isDeaf_0 7 rfl rfl)
theorem dX8_isDeaf_10 : decode cX8_isDeaf 10 = .ok (.aload_n 0, 1) := dk_42 (dk_at dksX8_isDeaf_0 10 rfl rfl)
theorem dX8_isDeaf_11 : decode cX8_isDeaf 11 = .ok (.getfield 42, 3) := dk_180 0 42 (dk_at dksX8_isDeaf_0 11 rfl rfl)
theorem dX8_isDeaf_14 : decode cX8_isDeaf 14 = .ok (.iload_n 1, 1) := dk_27 (dk_at dksX8_isDeaf_0 14 rfl rfl)
theorem dX8_isDeaf_15 : decode cX8_isDeaf 15 = .ok (.iaload, 1) := dk_46 (dk_at dksX8_isDeaf_0 15 rfl rfl)
theorem dX8_isDeaf_16 : decode cX8_isDeaf 16 = .ok (.iconst 3, 1) := dk_6 (dk_at dksX8_isDeaf_0 16 rfl rfl)
theorem dX8_isDeaf_17 : decode cX8_isDeaf 17 = .ok (.if_icmp .ne 7, 3) := dk_160 0 7 (dk_at dksX8_isDeaf_0 17 rfl rfl)
theorem dX8_isDeaf_20 : decode cX8_isDeaf 20 = .ok (.iconst 1, 1) := dk_4 (dk_at dksX8_isDeaf_0 20 rfl rfl)
theorem dX8_isDeaf_21 : decode cX8_isDeaf 21 = .ok (.goto 4, 3) := dk_167 0 4 (dk_at dksX8_isDeaf_0 21 rfl rfl)
theorem dX8_isDeaf_24 : decode cX8_isDeaf 24 = .ok (.iconst 0, 1) := dk_3 (dk_at dksX8_isDeaf_1 0 rfl rfl)
theorem dX8_isDeaf_25 : decode cX8_isDeaf 25 = .ok (.ireturn, 1) := dk_172 (dk_at dksX8_isDeaf_1 1 rfl rfl)
abbrev cX8_isAwake : ByteArray := prog_21_method_41_code
def yX8_isAwake : MethodName := ⟨RX8, "isAwake", "(I)Z"⟩
def dkwX8_isAwake_1 : List UInt8 := [3, 172]
abbrev dktX8_isAwake_1 : List UInt8 := dkwX8_isAwake_1 ++ []
def dkwX8_isAwake_0 : List UInt8 := [42, 180, 1, 103, 42, 180, 0, 102, 27, 46, 100, 42, 180, 0, 38, 7, 46, 162, 0, 7, 4, 167, 0, 4]
abbrev dktX8_isAwake_0 : List UInt8 := dkwX8_isAwake_0 ++ dktX8_isAwake_1
theorem dksX8_isAwake_0 : cX8_isAwake.data.toList.drop 0 = dktX8_isAwake_0 := by decide +kernel
theorem dksX8_isAwake_1 : cX8_isAwake.data.toList.drop 24 = dktX8_isAwake_1 := dk_seg dksX8_isAwake_0 24 rfl rfl
theorem dX8_isAwake_0 : decode cX8_isAwake 0 = .ok (.aload_n 0, 1) := dk_42 (dk_at dksX8_isAwake_0 0 rfl rfl)
theorem dX8_isAwake_1 : decode cX8_isAwake 1 = .ok (.getfield 359, 3) := dk_180 1 103 (dk_at dksX8_isAwake_0 1 rfl rfl)
theorem dX8_isAwake_4 : decode cX8_isAwake 4 = .ok (.aload_n 0, 1) := dk_42 (dk_at dksX8_isAwake_0 4 rfl rfl)
theorem dX8_isAwake_5 : decode cX8_isAwake 5 = .ok (.getfield 102, 3) := dk_180 0 102 (dk_at dksX8_isAwake_0 5 rfl rfl)
theorem dX8_isAwake_8 : decode cX8_isAwake 8 = .ok (.iload_n 1, 1) := dk_27 (dk_at dksX8_isAwake_0 8 rfl rfl)
theorem dX8_isAwake_9 : decode cX8_isAwake 9 = .ok (.iaload, 1) := dk_46 (dk_at dksX8_isAwake_0 9 rfl rfl)
theorem dX8_isAwake_10 : decode cX8_isAwake 10 = .ok (.isub, 1) := dk_100 (dk_at dksX8_isAwake_0 10 rfl rfl)
theorem dX8_isAwake_11 : decode cX8_isAwake 11 = .ok (.aload_n 0, 1) := dk_42 (dk_at dksX8_isAwake_0 11 rfl rfl)
theorem dX8_isAwake_12 : decode cX8_isAwake 12 = .ok (.getfield 38, 3) := dk_180 0 38 (dk_at dksX8_isAwake_0 12 rfl rfl)
theorem dX8_isAwake_15 : decode cX8_isAwake 15 = .ok (.iconst 4, 1) := dk_7 (dk_at dksX8_isAwake_0 15 rfl rfl)
theorem dX8_isAwake_16 : decode cX8_isAwake 16 = .ok (.iaload, 1) := dk_46 (dk_at dksX8_isAwake_0 16 rfl rfl)
theorem dX8_isAwake_17 : decode cX8_isAwake 17 = .ok (.if_icmp .ge 7, 3) := dk_162 0 7 (dk_at dksX8_isAwake_0 17 rfl rfl)
theorem dX8_isAwake_20 : decode cX8_isAwake 20 = .ok (.iconst 1, 1) := dk_4 (dk_at dksX8_isAwake_0 20 rfl rfl)
theorem dX8_isAwake_21 : decode cX8_isAwake 21 = .ok (.goto 4, 3) := dk_167 0 4 (dk_at dksX8_isAwake_0 21 rfl rfl)
theorem dX8_isAwake_24 : decode cX8_isAwake 24 = .ok (.iconst 0, 1) := dk_3 (dk_at dksX8_isAwake_1 0 rfl rfl)
theorem dX8_isAwake_25 : decode cX8_isAwake 25 = .ok (.ireturn, 1) := dk_172 (dk_at dksX8_isAwake_1 1 rfl rfl)
abbrev cX8_wakes : ByteArray := prog_21_method_43_code
def yX8_wakes : MethodName := ⟨RX8, "wakes", "(II)Z"⟩
def dkwX8_wakes_5 : List UInt8 := [42, 180, 0, 105, 29, 46, 79, 42, 182, 1, 114, 153, 0, 7, 4, 167, 0, 4, 3, 172]
abbrev dktX8_wakes_5 : List UInt8 := dkwX8_wakes_5 ++ []
def dkwX8_wakes_4 : List UInt8 := [182, 1, 111, 79, 42, 180, 0, 84, 8, 42, 180, 1, 85, 4, 100, 27, 100, 79, 42, 180, 0, 84, 16, 6]
abbrev dktX8_wakes_4 : List UInt8 := dkwX8_wakes_4 ++ dktX8_wakes_5
def dkwX8_wakes_3 : List UInt8 := [180, 1, 109, 79, 42, 180, 0, 84, 6, 42, 180, 1, 103, 16, 60, 108, 79, 42, 180, 0, 84, 7, 42, 27]
abbrev dktX8_wakes_3 : List UInt8 := dkwX8_wakes_3 ++ dktX8_wakes_4
def dkwX8_wakes_2 : List UInt8 := [3, 42, 180, 0, 48, 29, 46, 79, 42, 180, 0, 84, 4, 21, 4, 79, 42, 180, 0, 84, 5, 42]
abbrev dktX8_wakes_2 : List UInt8 := dkwX8_wakes_2 ++ dktX8_wakes_3
def dkwX8_wakes_1 : List UInt8 := [154, 0, 20, 21, 4, 42, 180, 0, 48, 29, 46, 163, 0, 7, 4, 167, 0, 4, 3, 172, 42, 180, 0, 84]
abbrev dktX8_wakes_1 : List UInt8 := dkwX8_wakes_1 ++ dktX8_wakes_2
def dkwX8_wakes_0 : List UInt8 := [42, 180, 0, 90, 27, 46, 62, 27, 28, 100, 184, 1, 106, 54, 4, 42, 180, 0, 38, 16, 7, 46]
abbrev dktX8_wakes_0 : List UInt8 := dkwX8_wakes_0 ++ dktX8_wakes_1
theorem dksX8_wakes_0 : cX8_wakes.data.toList.drop 0 = dktX8_wakes_0 := by decide +kernel
theorem dksX8_wakes_1 : cX8_wakes.data.toList.drop 22 = dktX8_wakes_1 := dk_seg dksX8_wakes_0 22 rfl rfl
theorem dksX8_wakes_2 : cX8_wakes.data.toList.drop 46 = dktX8_wakes_2 := dk_seg dksX8_wakes_1 24 rfl rfl
theorem dksX8_wakes_3 : cX8_wakes.data.toList.drop 68 = dktX8_wakes_3 := dk_seg dksX8_wakes_2 22 rfl rfl
theorem dksX8_wakes_4 : cX8_wakes.data.toList.drop 92 = dktX8_wakes_4 := dk_seg dksX8_wakes_3 24 rfl rfl
theorem dksX8_wakes_5 : cX8_wakes.data.toList.drop 116 = dktX8_wakes_5 := dk_seg dksX8_wakes_4 24 rfl rfl
theorem dX8_wakes_0 : decode cX8_wakes 0 = .ok (.aload_n 0, 1) := dk_42 (dk_at dksX8_wakes_0 0 rfl rfl)
theorem dX8_wakes_1 : decode cX8_wakes 1 = .ok (.getfield 90, 3) := dk_180 0 90 (dk_at dksX8_wakes_0 1 rfl rfl)
theorem dX8_wakes_4 : decode cX8_wakes 4 = .ok (.iload_n 1, 1) := dk_27 (dk_at dksX8_wakes_0 4 rfl rfl)
theorem dX8_wakes_5 : decode cX8_wakes 5 = .ok (.iaload, 1) := dk_46 (dk_at dksX8_wakes_0 5 rfl rfl)
theorem dX8_wakes_6 : decode cX8_wakes 6 = .ok (.istore_n 3, 1) := dk_62 (dk_at dksX8_wakes_0 6 rfl rfl)
theorem dX8_wakes_7 : decode cX8_wakes 7 = .ok (.iload_n 1, 1) := dk_27 (dk_at dksX8_wakes_0 7 rfl rfl)
theorem dX8_wakes_8 : decode cX8_wakes 8 = .ok (.iload_n 2, 1) := dk_28 (dk_at dksX8_wakes_0 8 rfl rfl)
theorem dX8_wakes_9 : decode cX8_wakes 9 = .ok (.isub, 1) := dk_100 (dk_at dksX8_wakes_0 9 rfl rfl)
theorem dX8_wakes_10 : decode cX8_wakes 10 = .ok (.invokestatic 362, 3) := dk_184 1 106 (dk_at dksX8_wakes_0 10 rfl rfl)
theorem dX8_wakes_13 : decode cX8_wakes 13 = .ok (.istore 4, 2) := dk_54 4 (dk_at dksX8_wakes_0 13 rfl rfl)
theorem dX8_wakes_15 : decode cX8_wakes 15 = .ok (.aload_n 0, 1) := dk_42 (dk_at dksX8_wakes_0 15 rfl rfl)
theorem dX8_wakes_16 : decode cX8_wakes 16 = .ok (.getfield 38, 3) := dk_180 0 38 (dk_at dksX8_wakes_0 16 rfl rfl)
theorem dX8_wakes_19 : decode cX8_wakes 19 = .ok (.bipush 7, 2) := dk_16 7 (dk_at dksX8_wakes_0 19 rfl rfl)
theorem dX8_wakes_21 : decode cX8_wakes 21 = .ok (.iaload, 1) := dk_46 (dk_at dksX8_wakes_0 21 rfl rfl)
theorem dX8_wakes_22 : decode cX8_wakes 22 = .ok (.ifCond .ne 20, 3) := dk_154 0 20 (dk_at dksX8_wakes_1 0 rfl rfl)
theorem dX8_wakes_25 : decode cX8_wakes 25 = .ok (.iload 4, 2) := dk_21 4 (dk_at dksX8_wakes_1 3 rfl rfl)
theorem dX8_wakes_27 : decode cX8_wakes 27 = .ok (.aload_n 0, 1) := dk_42 (dk_at dksX8_wakes_1 5 rfl rfl)
theorem dX8_wakes_28 : decode cX8_wakes 28 = .ok (.getfield 48, 3) := dk_180 0 48 (dk_at dksX8_wakes_1 6 rfl rfl)
theorem dX8_wakes_31 : decode cX8_wakes 31 = .ok (.iload_n 3, 1) := dk_29 (dk_at dksX8_wakes_1 9 rfl rfl)
theorem dX8_wakes_32 : decode cX8_wakes 32 = .ok (.iaload, 1) := dk_46 (dk_at dksX8_wakes_1 10 rfl rfl)
theorem dX8_wakes_33 : decode cX8_wakes 33 = .ok (.if_icmp .gt 7, 3) := dk_163 0 7 (dk_at dksX8_wakes_1 11 rfl rfl)
theorem dX8_wakes_36 : decode cX8_wakes 36 = .ok (.iconst 1, 1) := dk_4 (dk_at dksX8_wakes_1 14 rfl rfl)
theorem dX8_wakes_37 : decode cX8_wakes 37 = .ok (.goto 4, 3) := dk_167 0 4 (dk_at dksX8_wakes_1 15 rfl rfl)
theorem dX8_wakes_40 : decode cX8_wakes 40 = .ok (.iconst 0, 1) := dk_3 (dk_at dksX8_wakes_1 18 rfl rfl)
theorem dX8_wakes_41 : decode cX8_wakes 41 = .ok (.ireturn, 1) := dk_172 (dk_at dksX8_wakes_1 19 rfl rfl)
theorem dX8_wakes_42 : decode cX8_wakes 42 = .ok (.aload_n 0, 1) := dk_42 (dk_at dksX8_wakes_1 20 rfl rfl)
theorem dX8_wakes_43 : decode cX8_wakes 43 = .ok (.getfield 84, 3) := dk_180 0 84 (dk_at dksX8_wakes_1 21 rfl rfl)
theorem dX8_wakes_46 : decode cX8_wakes 46 = .ok (.iconst 0, 1) := dk_3 (dk_at dksX8_wakes_2 0 rfl rfl)
theorem dX8_wakes_47 : decode cX8_wakes 47 = .ok (.aload_n 0, 1) := dk_42 (dk_at dksX8_wakes_2 1 rfl rfl)
theorem dX8_wakes_48 : decode cX8_wakes 48 = .ok (.getfield 48, 3) := dk_180 0 48 (dk_at dksX8_wakes_2 2 rfl rfl)
theorem dX8_wakes_51 : decode cX8_wakes 51 = .ok (.iload_n 3, 1) := dk_29 (dk_at dksX8_wakes_2 5 rfl rfl)
theorem dX8_wakes_52 : decode cX8_wakes 52 = .ok (.iaload, 1) := dk_46 (dk_at dksX8_wakes_2 6 rfl rfl)
theorem dX8_wakes_53 : decode cX8_wakes 53 = .ok (.iastore, 1) := dk_79 (dk_at dksX8_wakes_2 7 rfl rfl)
theorem dX8_wakes_54 : decode cX8_wakes 54 = .ok (.aload_n 0, 1) := dk_42 (dk_at dksX8_wakes_2 8 rfl rfl)
theorem dX8_wakes_55 : decode cX8_wakes 55 = .ok (.getfield 84, 3) := dk_180 0 84 (dk_at dksX8_wakes_2 9 rfl rfl)
theorem dX8_wakes_58 : decode cX8_wakes 58 = .ok (.iconst 1, 1) := dk_4 (dk_at dksX8_wakes_2 12 rfl rfl)
theorem dX8_wakes_59 : decode cX8_wakes 59 = .ok (.iload 4, 2) := dk_21 4 (dk_at dksX8_wakes_2 13 rfl rfl)
theorem dX8_wakes_61 : decode cX8_wakes 61 = .ok (.iastore, 1) := dk_79 (dk_at dksX8_wakes_2 15 rfl rfl)
theorem dX8_wakes_62 : decode cX8_wakes 62 = .ok (.aload_n 0, 1) := dk_42 (dk_at dksX8_wakes_2 16 rfl rfl)
theorem dX8_wakes_63 : decode cX8_wakes 63 = .ok (.getfield 84, 3) := dk_180 0 84 (dk_at dksX8_wakes_2 17 rfl rfl)
theorem dX8_wakes_66 : decode cX8_wakes 66 = .ok (.iconst 2, 1) := dk_5 (dk_at dksX8_wakes_2 20 rfl rfl)
theorem dX8_wakes_67 : decode cX8_wakes 67 = .ok (.aload_n 0, 1) := dk_42 (dk_at dksX8_wakes_2 21 rfl rfl)
theorem dX8_wakes_68 : decode cX8_wakes 68 = .ok (.getfield 365, 3) := dk_180 1 109 (dk_at dksX8_wakes_3 0 rfl rfl)
theorem dX8_wakes_71 : decode cX8_wakes 71 = .ok (.iastore, 1) := dk_79 (dk_at dksX8_wakes_3 3 rfl rfl)
theorem dX8_wakes_72 : decode cX8_wakes 72 = .ok (.aload_n 0, 1) := dk_42 (dk_at dksX8_wakes_3 4 rfl rfl)
theorem dX8_wakes_73 : decode cX8_wakes 73 = .ok (.getfield 84, 3) := dk_180 0 84 (dk_at dksX8_wakes_3 5 rfl rfl)
theorem dX8_wakes_76 : decode cX8_wakes 76 = .ok (.iconst 3, 1) := dk_6 (dk_at dksX8_wakes_3 8 rfl rfl)
theorem dX8_wakes_77 : decode cX8_wakes 77 = .ok (.aload_n 0, 1) := dk_42 (dk_at dksX8_wakes_3 9 rfl rfl)
theorem dX8_wakes_78 : decode cX8_wakes 78 = .ok (.getfield 359, 3) := dk_180 1 103 (dk_at dksX8_wakes_3 10 rfl rfl)
theorem dX8_wakes_81 : decode cX8_wakes 81 = .ok (.bipush 60, 2) := dk_16 60 (dk_at dksX8_wakes_3 13 rfl rfl)
theorem dX8_wakes_83 : decode cX8_wakes 83 = .ok (.idiv, 1) := dk_108 (dk_at dksX8_wakes_3 15 rfl rfl)
theorem dX8_wakes_84 : decode cX8_wakes 84 = .ok (.iastore, 1) := dk_79 (dk_at dksX8_wakes_3 16 rfl rfl)
theorem dX8_wakes_85 : decode cX8_wakes 85 = .ok (.aload_n 0, 1) := dk_42 (dk_at dksX8_wakes_3 17 rfl rfl)
theorem dX8_wakes_86 : decode cX8_wakes 86 = .ok (.getfield 84, 3) := dk_180 0 84 (dk_at dksX8_wakes_3 18 rfl rfl)
theorem dX8_wakes_89 : decode cX8_wakes 89 = .ok (.iconst 4, 1) := dk_7 (dk_at dksX8_wakes_3 21 rfl rfl)
theorem dX8_wakes_90 : decode cX8_wakes 90 = .ok (.aload_n 0, 1) := dk_42 (dk_at dksX8_wakes_3 22 rfl rfl)
theorem dX8_wakes_91 : decode cX8_wakes 91 = .ok (.iload_n 1, 1) := dk_27 (dk_at dksX8_wakes_3 23 rfl rfl)
theorem dX8_wakes_92 : decode cX8_wakes 92 = .ok (.invokevirtual 367, 3) := dk_182 1 111 (dk_at dksX8_wakes_4 0 rfl rfl)
theorem dX8_wakes_95 : decode cX8_wakes 95 = .ok (.iastore, 1) := dk_79 (dk_at dksX8_wakes_4 3 rfl rfl)
theorem dX8_wakes_96 : decode cX8_wakes 96 = .ok (.aload_n 0, 1) := dk_42 (dk_at dksX8_wakes_4 4 rfl rfl)
theorem dX8_wakes_97 : decode cX8_wakes 97 = .ok (.getfield 84, 3) := dk_180 0 84 (dk_at dksX8_wakes_4 5 rfl rfl)
theorem dX8_wakes_100 : decode cX8_wakes 100 = .ok (.iconst 5, 1) := dk_8 (dk_at dksX8_wakes_4 8 rfl rfl)
theorem dX8_wakes_101 : decode cX8_wakes 101 = .ok (.aload_n 0, 1) := dk_42 (dk_at dksX8_wakes_4 9 rfl rfl)
theorem dX8_wakes_102 : decode cX8_wakes 102 = .ok (.getfield 341, 3) := dk_180 1 85 (dk_at dksX8_wakes_4 10 rfl rfl)
theorem dX8_wakes_105 : decode cX8_wakes 105 = .ok (.iconst 1, 1) := dk_4 (dk_at dksX8_wakes_4 13 rfl rfl)
theorem dX8_wakes_106 : decode cX8_wakes 106 = .ok (.isub, 1) := dk_100 (dk_at dksX8_wakes_4 14 rfl rfl)
theorem dX8_wakes_107 : decode cX8_wakes 107 = .ok (.iload_n 1, 1) := dk_27 (dk_at dksX8_wakes_4 15 rfl rfl)
theorem dX8_wakes_108 : decode cX8_wakes 108 = .ok (.isub, 1) := dk_100 (dk_at dksX8_wakes_4 16 rfl rfl)
theorem dX8_wakes_109 : decode cX8_wakes 109 = .ok (.iastore, 1) := dk_79 (dk_at dksX8_wakes_4 17 rfl rfl)
theorem dX8_wakes_110 : decode cX8_wakes 110 = .ok (.aload_n 0, 1) := dk_42 (dk_at dksX8_wakes_4 18 rfl rfl)
theorem dX8_wakes_111 : decode cX8_wakes 111 = .ok (.getfield 84, 3) := dk_180 0 84 (dk_at dksX8_wakes_4 19 rfl rfl)
theorem dX8_wakes_114 : decode cX8_wakes 114 = .ok (.bipush 6, 2) := dk_16 6 (dk_at dksX8_wakes_4 22 rfl rfl)
theorem dX8_wakes_116 : decode cX8_wakes 116 = .ok (.aload_n 0, 1) := dk_42 (dk_at dksX8_wakes_5 0 rfl rfl)
theorem dX8_wakes_117 : decode cX8_wakes 117 = .ok (.getfield 105, 3) := dk_180 0 105 (dk_at dksX8_wakes_5 1 rfl rfl)
theorem dX8_wakes_120 : decode cX8_wakes 120 = .ok (.iload_n 3, 1) := dk_29 (dk_at dksX8_wakes_5 4 rfl rfl)
theorem dX8_wakes_121 : decode cX8_wakes 121 = .ok (.iaload, 1) := dk_46 (dk_at dksX8_wakes_5 5 rfl rfl)
theorem dX8_wakes_122 : decode cX8_wakes 122 = .ok (.iastore, 1) := dk_79 (dk_at dksX8_wakes_5 6 rfl rfl)
theorem dX8_wakes_123 : decode cX8_wakes 123 = .ok (.aload_n 0, 1) := dk_42 (dk_at dksX8_wakes_5 7 rfl rfl)
theorem dX8_wakes_124 : decode cX8_wakes 124 = .ok (.invokevirtual 370, 3) := dk_182 1 114 (dk_at dksX8_wakes_5 8 rfl rfl)
theorem dX8_wakes_127 : decode cX8_wakes 127 = .ok (.ifCond .eq 7, 3) := dk_153 0 7 (dk_at dksX8_wakes_5 11 rfl rfl)
theorem dX8_wakes_130 : decode cX8_wakes 130 = .ok (.iconst 1, 1) := dk_4 (dk_at dksX8_wakes_5 14 rfl rfl)
theorem dX8_wakes_131 : decode cX8_wakes 131 = .ok (.goto 4, 3) := dk_167 0 4 (dk_at dksX8_wakes_5 15 rfl rfl)
theorem dX8_wakes_134 : decode cX8_wakes 134 = .ok (.iconst 0, 1) := dk_3 (dk_at dksX8_wakes_5 18 rfl rfl)
theorem dX8_wakes_135 : decode cX8_wakes 135 = .ok (.ireturn, 1) := dk_172 (dk_at dksX8_wakes_5 19 rfl rfl)
abbrev cX8_snorersBeside : ByteArray := prog_21_method_42_code
def yX8_snorersBeside : MethodName := ⟨RX8, "snorersBeside", "(I)I"⟩
def dkwX8_snorersBeside_2 : List UInt8 := [96, 46, 46, 5, 160, 0, 7, 4, 167, 0, 4, 3, 96, 172]
abbrev dktX8_snorersBeside_2 : List UInt8 := dkwX8_snorersBeside_2 ++ []
def dkwX8_snorersBeside_1 : List UInt8 := [167, 0, 4, 3, 27, 4, 96, 42, 180, 1, 85, 162, 0, 24, 42, 180, 0, 42, 42, 180, 0, 90, 27, 4]
abbrev dktX8_snorersBeside_1 : List UInt8 := dkwX8_snorersBeside_1 ++ dktX8_snorersBeside_2
def dkwX8_snorersBeside_0 : List UInt8 := [27, 158, 0, 24, 42, 180, 0, 42, 42, 180, 0, 90, 27, 4, 100, 46, 46, 5, 160, 0, 7, 4]
abbrev dktX8_snorersBeside_0 : List UInt8 := dkwX8_snorersBeside_0 ++ dktX8_snorersBeside_1
theorem dksX8_snorersBeside_0 : cX8_snorersBeside.data.toList.drop 0 = dktX8_snorersBeside_0 := by decide +kernel
theorem dksX8_snorersBeside_1 : cX8_snorersBeside.data.toList.drop 22 = dktX8_snorersBeside_1 := dk_seg dksX8_snorersBeside_0 22 rfl rfl
theorem dksX8_snorersBeside_2 : cX8_snorersBeside.data.toList.drop 46 = dktX8_snorersBeside_2 := dk_seg dksX8_snorersBeside_1 24 rfl rfl
theorem dX8_snorersBeside_0 : decode cX8_snorersBeside 0 = .ok (.iload_n 1, 1) := dk_27 (dk_at dksX8_snorersBeside_0 0 rfl rfl)
theorem dX8_snorersBeside_1 : decode cX8_snorersBeside 1 = .ok (.ifCond .le 24, 3) := dk_158 0 24 (dk_at dksX8_snorersBeside_0 1 rfl rfl)
theorem dX8_snorersBeside_4 : decode cX8_snorersBeside 4 = .ok (.aload_n 0, 1) := dk_42 (dk_at dksX8_snorersBeside_0 4 rfl rfl)
theorem dX8_snorersBeside_5 : decode cX8_snorersBeside 5 = .ok (.getfield 42, 3) := dk_180 0 42 (dk_at dksX8_snorersBeside_0 5 rfl rfl)
theorem dX8_snorersBeside_8 : decode cX8_snorersBeside 8 = .ok (.aload_n 0, 1) := dk_42 (dk_at dksX8_snorersBeside_0 8 rfl rfl)
theorem dX8_snorersBeside_9 : decode cX8_snorersBeside 9 = .ok (.getfield 90, 3) := dk_180 0 90 (dk_at dksX8_snorersBeside_0 9 rfl rfl)
theorem dX8_snorersBeside_12 : decode cX8_snorersBeside 12 = .ok (.iload_n 1, 1) := dk_27 (dk_at dksX8_snorersBeside_0 12 rfl rfl)
theorem dX8_snorersBeside_13 : decode cX8_snorersBeside 13 = .ok (.iconst 1, 1) := dk_4 (dk_at dksX8_snorersBeside_0 13 rfl rfl)
theorem dX8_snorersBeside_14 : decode cX8_snorersBeside 14 = .ok (.isub, 1) := dk_100 (dk_at dksX8_snorersBeside_0 14 rfl rfl)
theorem dX8_snorersBeside_15 : decode cX8_snorersBeside 15 = .ok (.iaload, 1) := dk_46 (dk_at dksX8_snorersBeside_0 15 rfl rfl)
theorem dX8_snorersBeside_16 : decode cX8_snorersBeside 16 = .ok (.iaload, 1) := dk_46 (dk_at dksX8_snorersBeside_0 16 rfl rfl)
theorem dX8_snorersBeside_17 : decode cX8_snorersBeside 17 = .ok (.iconst 2, 1) := dk_5 (dk_at dksX8_snorersBeside_0 17 rfl rfl)
theorem dX8_snorersBeside_18 : decode cX8_snorersBeside 18 = .ok (.if_icmp .ne 7, 3) := dk_160 0 7 (dk_at dksX8_snorersBeside_0 18 rfl rfl)
theorem dX8_snorersBeside_21 : decode cX8_snorersBeside 21 = .ok (.iconst 1, 1) := dk_4 (dk_at dksX8_snorersBeside_0 21 rfl rfl)
theorem dX8_snorersBeside_22 : decode cX8_snorersBeside 22 = .ok (.goto 4, 3) := dk_167 0 4 (dk_at dksX8_snorersBeside_1 0 rfl rfl)
theorem dX8_snorersBeside_25 : decode cX8_snorersBeside 25 = .ok (.iconst 0, 1) := dk_3 (dk_at dksX8_snorersBeside_1 3 rfl rfl)
theorem dX8_snorersBeside_26 : decode cX8_snorersBeside 26 = .ok (.iload_n 1, 1) := dk_27 (dk_at dksX8_snorersBeside_1 4 rfl rfl)
theorem dX8_snorersBeside_27 : decode cX8_snorersBeside 27 = .ok (.iconst 1, 1) := dk_4 (dk_at dksX8_snorersBeside_1 5 rfl rfl)
theorem dX8_snorersBeside_28 : decode cX8_snorersBeside 28 = .ok (.iadd, 1) := dk_96 (dk_at dksX8_snorersBeside_1 6 rfl rfl)
theorem dX8_snorersBeside_29 : decode cX8_snorersBeside 29 = .ok (.aload_n 0, 1) := dk_42 (dk_at dksX8_snorersBeside_1 7 rfl rfl)
theorem dX8_snorersBeside_30 : decode cX8_snorersBeside 30 = .ok (.getfield 341, 3) := dk_180 1 85 (dk_at dksX8_snorersBeside_1 8 rfl rfl)
theorem dX8_snorersBeside_33 : decode cX8_snorersBeside 33 = .ok (.if_icmp .ge 24, 3) := dk_162 0 24 (dk_at dksX8_snorersBeside_1 11 rfl rfl)
theorem dX8_snorersBeside_36 : decode cX8_snorersBeside 36 = .ok (.aload_n 0, 1) := dk_42 (dk_at dksX8_snorersBeside_1 14 rfl rfl)
theorem dX8_snorersBeside_37 : decode cX8_snorersBeside 37 = .ok (.getfield 42, 3) := dk_180 0 42 (dk_at dksX8_snorersBeside_1 15 rfl rfl)
theorem dX8_snorersBeside_40 : decode cX8_snorersBeside 40 = .ok (.aload_n 0, 1) := dk_42 (dk_at dksX8_snorersBeside_1 18 rfl rfl)
theorem dX8_snorersBeside_41 : decode cX8_snorersBeside 41 = .ok (.getfield 90, 3) := dk_180 0 90 (dk_at dksX8_snorersBeside_1 19 rfl rfl)
theorem dX8_snorersBeside_44 : decode cX8_snorersBeside 44 = .ok (.iload_n 1, 1) := dk_27 (dk_at dksX8_snorersBeside_1 22 rfl rfl)
theorem dX8_snorersBeside_45 : decode cX8_snorersBeside 45 = .ok (.iconst 1, 1) := dk_4 (dk_at dksX8_snorersBeside_1 23 rfl rfl)
theorem dX8_snorersBeside_46 : decode cX8_snorersBeside 46 = .ok (.iadd, 1) := dk_96 (dk_at dksX8_snorersBeside_2 0 rfl rfl)
theorem dX8_snorersBeside_47 : decode cX8_snorersBeside 47 = .ok (.iaload, 1) := dk_46 (dk_at dksX8_snorersBeside_2 1 rfl rfl)
theorem dX8_snorersBeside_48 : decode cX8_snorersBeside 48 = .ok (.iaload, 1) := dk_46 (dk_at dksX8_snorersBeside_2 2 rfl rfl)
theorem dX8_snorersBeside_49 : decode cX8_snorersBeside 49 = .ok (.iconst 2, 1) := dk_5 (dk_at dksX8_snorersBeside_2 3 rfl rfl)
theorem dX8_snorersBeside_50 : decode cX8_snorersBeside 50 = .ok (.if_icmp .ne 7, 3) := dk_160 0 7 (dk_at dksX8_snorersBeside_2 4 rfl rfl)
theorem dX8_snorersBeside_53 : decode cX8_snorersBeside 53 = .ok (.iconst 1, 1) := dk_4 (dk_at dksX8_snorersBeside_2 7 rfl rfl)
theorem dX8_snorersBeside_54 : decode cX8_snorersBeside 54 = .ok (.goto 4, 3) := dk_167 0 4 (dk_at dksX8_snorersBeside_2 8 rfl rfl)
theorem dX8_snorersBeside_57 : decode cX8_snorersBeside 57 = .ok (.iconst 0, 1) := dk_3 (dk_at dksX8_snorersBeside_2 11 rfl rfl)
theorem dX8_snorersBeside_58 : decode cX8_snorersBeside 58 = .ok (.iadd, 1) := dk_96 (dk_at dksX8_snorersBeside_2 12 rfl rfl)
theorem dX8_snorersBeside_59 : decode cX8_snorersBeside 59 = .ok (.ireturn, 1) := dk_172 (dk_at dksX8_snorersBeside_2 13 rfl rfl)
abbrev cX8_valueNow : ByteArray := prog_21_method_38_code
def yX8_valueNow : MethodName := ⟨RX8, "valueNow", "()I"⟩
def dkwX8_valueNow_5 : List UInt8 := [79, 132, 2, 1, 167, 255, 139, 42, 180, 0, 87, 3, 46, 172]
abbrev dktX8_valueNow_5 : List UInt8 := dkwX8_valueNow_5 ++ []
def dkwX8_valueNow_4 : List UInt8 := [180, 0, 87, 27, 4, 100, 29, 42, 180, 0, 87, 27, 4, 100, 46, 42, 180, 0, 87, 27, 46, 184, 1, 81]
abbrev dktX8_valueNow_4 : List UInt8 := dkwX8_valueNow_4 ++ dktX8_valueNow_5
def dkwX8_valueNow_3 : List UInt8 := [180, 0, 87, 27, 4, 100, 46, 153, 0, 7, 3, 167, 0, 4, 4, 79, 167, 0, 32, 132, 1, 255, 42]
abbrev dktX8_valueNow_3 : List UInt8 := dkwX8_valueNow_3 ++ dktX8_valueNow_4
def dkwX8_valueNow_2 : List UInt8 := [100, 46, 79, 132, 1, 1, 167, 0, 65, 29, 16, 228, 160, 0, 30, 42, 180, 0, 87, 27, 4, 100, 42]
abbrev dktX8_valueNow_2 : List UInt8 := dkwX8_valueNow_2 ++ dktX8_valueNow_3
def dkwX8_valueNow_1 : List UInt8 := [16, 236, 164, 0, 31, 42, 180, 0, 87, 27, 29, 155, 0, 7, 29, 167, 0, 11, 42, 180, 0, 84, 2, 29]
abbrev dktX8_valueNow_1 : List UInt8 := dkwX8_valueNow_1 ++ dktX8_valueNow_2
def dkwX8_valueNow_0 : List UInt8 := [3, 60, 3, 61, 28, 42, 180, 0, 38, 16, 7, 46, 162, 0, 112, 42, 180, 0, 62, 28, 46, 62, 29]
abbrev dktX8_valueNow_0 : List UInt8 := dkwX8_valueNow_0 ++ dktX8_valueNow_1
theorem dksX8_valueNow_0 : cX8_valueNow.data.toList.drop 0 = dktX8_valueNow_0 := by decide +kernel
theorem dksX8_valueNow_1 : cX8_valueNow.data.toList.drop 23 = dktX8_valueNow_1 := dk_seg dksX8_valueNow_0 23 rfl rfl
theorem dksX8_valueNow_2 : cX8_valueNow.data.toList.drop 47 = dktX8_valueNow_2 := dk_seg dksX8_valueNow_1 24 rfl rfl
theorem dksX8_valueNow_3 : cX8_valueNow.data.toList.drop 70 = dktX8_valueNow_3 := dk_seg dksX8_valueNow_2 23 rfl rfl
theorem dksX8_valueNow_4 : cX8_valueNow.data.toList.drop 93 = dktX8_valueNow_4 := dk_seg dksX8_valueNow_3 23 rfl rfl
theorem dksX8_valueNow_5 : cX8_valueNow.data.toList.drop 117 = dktX8_valueNow_5 := dk_seg dksX8_valueNow_4 24 rfl rfl
theorem dX8_valueNow_0 : decode cX8_valueNow 0 = .ok (.iconst 0, 1) := dk_3 (dk_at dksX8_valueNow_0 0 rfl rfl)
theorem dX8_valueNow_1 : decode cX8_valueNow 1 = .ok (.istore_n 1, 1) := dk_60 (dk_at dksX8_valueNow_0 1 rfl rfl)
theorem dX8_valueNow_2 : decode cX8_valueNow 2 = .ok (.iconst 0, 1) := dk_3 (dk_at dksX8_valueNow_0 2 rfl rfl)
theorem dX8_valueNow_3 : decode cX8_valueNow 3 = .ok (.istore_n 2, 1) := dk_61 (dk_at dksX8_valueNow_0 3 rfl rfl)
theorem dX8_valueNow_4 : decode cX8_valueNow 4 = .ok (.iload_n 2, 1) := dk_28 (dk_at dksX8_valueNow_0 4 rfl rfl)
theorem dX8_valueNow_5 : decode cX8_valueNow 5 = .ok (.aload_n 0, 1) := dk_42 (dk_at dksX8_valueNow_0 5 rfl rfl)
theorem dX8_valueNow_6 : decode cX8_valueNow 6 = .ok (.getfield 38, 3) := dk_180 0 38 (dk_at dksX8_valueNow_0 6 rfl rfl)
theorem dX8_valueNow_9 : decode cX8_valueNow 9 = .ok (.bipush 7, 2) := dk_16 7 (dk_at dksX8_valueNow_0 9 rfl rfl)
theorem dX8_valueNow_11 : decode cX8_valueNow 11 = .ok (.iaload, 1) := dk_46 (dk_at dksX8_valueNow_0 11 rfl rfl)
theorem dX8_valueNow_12 : decode cX8_valueNow 12 = .ok (.if_icmp .ge 112, 3) := dk_162 0 112 (dk_at dksX8_valueNow_0 12 rfl rfl)
theorem dX8_valueNow_15 : decode cX8_valueNow 15 = .ok (.aload_n 0, 1) := dk_42 (dk_at dksX8_valueNow_0 15 rfl rfl)
theorem dX8_valueNow_16 : decode cX8_valueNow 16 = .ok (.getfield 62, 3) := dk_180 0 62 (dk_at dksX8_valueNow_0 16 rfl rfl)
theorem dX8_valueNow_19 : decode cX8_valueNow 19 = .ok (.iload_n 2, 1) := dk_28 (dk_at dksX8_valueNow_0 19 rfl rfl)
theorem dX8_valueNow_20 : decode cX8_valueNow 20 = .ok (.iaload, 1) := dk_46 (dk_at dksX8_valueNow_0 20 rfl rfl)
theorem dX8_valueNow_21 : decode cX8_valueNow 21 = .ok (.istore_n 3, 1) := dk_62 (dk_at dksX8_valueNow_0 21 rfl rfl)
theorem dX8_valueNow_22 : decode cX8_valueNow 22 = .ok (.iload_n 3, 1) := dk_29 (dk_at dksX8_valueNow_0 22 rfl rfl)
theorem dX8_valueNow_23 : decode cX8_valueNow 23 = .ok (.bipush (-20), 2) := dk_16 236 (dk_at dksX8_valueNow_1 0 rfl rfl)
theorem dX8_valueNow_25 : decode cX8_valueNow 25 = .ok (.if_icmp .le 31, 3) := dk_164 0 31 (dk_at dksX8_valueNow_1 2 rfl rfl)
theorem dX8_valueNow_28 : decode cX8_valueNow 28 = .ok (.aload_n 0, 1) := dk_42 (dk_at dksX8_valueNow_1 5 rfl rfl)
theorem dX8_valueNow_29 : decode cX8_valueNow 29 = .ok (.getfield 87, 3) := dk_180 0 87 (dk_at dksX8_valueNow_1 6 rfl rfl)
theorem dX8_valueNow_32 : decode cX8_valueNow 32 = .ok (.iload_n 1, 1) := dk_27 (dk_at dksX8_valueNow_1 9 rfl rfl)
theorem dX8_valueNow_33 : decode cX8_valueNow 33 = .ok (.iload_n 3, 1) := dk_29 (dk_at dksX8_valueNow_1 10 rfl rfl)
theorem dX8_valueNow_34 : decode cX8_valueNow 34 = .ok (.ifCond .lt 7, 3) := dk_155 0 7 (dk_at dksX8_valueNow_1 11 rfl rfl)
theorem dX8_valueNow_37 : decode cX8_valueNow 37 = .ok (.iload_n 3, 1) := dk_29 (dk_at dksX8_valueNow_1 14 rfl rfl)
theorem dX8_valueNow_38 : decode cX8_valueNow 38 = .ok (.goto 11, 3) := dk_167 0 11 (dk_at dksX8_valueNow_1 15 rfl rfl)
theorem dX8_valueNow_41 : decode cX8_valueNow 41 = .ok (.aload_n 0, 1) := dk_42 (dk_at dksX8_valueNow_1 18 rfl rfl)
theorem dX8_valueNow_42 : decode cX8_valueNow 42 = .ok (.getfield 84, 3) := dk_180 0 84 (dk_at dksX8_valueNow_1 19 rfl rfl)
theorem dX8_valueNow_45 : decode cX8_valueNow 45 = .ok (.iconst (-1), 1) := dk_2 (dk_at dksX8_valueNow_1 22 rfl rfl)
theorem dX8_valueNow_46 : decode cX8_valueNow 46 = .ok (.iload_n 3, 1) := dk_29 (dk_at dksX8_valueNow_1 23 rfl rfl)
theorem dX8_valueNow_47 : decode cX8_valueNow 47 = .ok (.isub, 1) := dk_100 (dk_at dksX8_valueNow_2 0 rfl rfl)
theorem dX8_valueNow_48 : decode cX8_valueNow 48 = .ok (.iaload, 1) := dk_46 (dk_at dksX8_valueNow_2 1 rfl rfl)
theorem dX8_valueNow_49 : decode cX8_valueNow 49 = .ok (.iastore, 1) := dk_79 (dk_at dksX8_valueNow_2 2 rfl rfl)
theorem dX8_valueNow_50 : decode cX8_valueNow 50 = .ok (.iinc 1 1, 3) := dk_132 1 1 (dk_at dksX8_valueNow_2 3 rfl rfl)
theorem dX8_valueNow_53 : decode cX8_valueNow 53 = .ok (.goto 65, 3) := dk_167 0 65 (dk_at dksX8_valueNow_2 6 rfl rfl)
theorem dX8_valueNow_56 : decode cX8_valueNow 56 = .ok (.iload_n 3, 1) := dk_29 (dk_at dksX8_valueNow_2 9 rfl rfl)
theorem dX8_valueNow_57 : decode cX8_valueNow 57 = .ok (.bipush (-28), 2) := dk_16 228 (dk_at dksX8_valueNow_2 10 rfl rfl)
theorem dX8_valueNow_59 : decode cX8_valueNow 59 = .ok (.if_icmp .ne 30, 3) := dk_160 0 30 (dk_at dksX8_valueNow_2 12 rfl rfl)
theorem dX8_valueNow_62 : decode cX8_valueNow 62 = .ok (.aload_n 0, 1) := dk_42 (dk_at dksX8_valueNow_2 15 rfl rfl)
theorem dX8_valueNow_63 : decode cX8_valueNow 63 = .ok (.getfield 87, 3) := dk_180 0 87 (dk_at dksX8_valueNow_2 16 rfl rfl)
theorem dX8_valueNow_66 : decode cX8_valueNow 66 = .ok (.iload_n 1, 1) := dk_27 (dk_at dksX8_valueNow_2 19 rfl rfl)
theorem dX8_valueNow_67 : decode cX8_valueNow 67 = .ok (.iconst 1, 1) := dk_4 (dk_at dksX8_valueNow_2 20 rfl rfl)
theorem dX8_valueNow_68 : decode cX8_valueNow 68 = .ok (.isub, 1) := dk_100 (dk_at dksX8_valueNow_2 21 rfl rfl)
theorem dX8_valueNow_69 : decode cX8_valueNow 69 = .ok (.aload_n 0, 1) := dk_42 (dk_at dksX8_valueNow_2 22 rfl rfl)
theorem dX8_valueNow_70 : decode cX8_valueNow 70 = .ok (.getfield 87, 3) := dk_180 0 87 (dk_at dksX8_valueNow_3 0 rfl rfl)
theorem dX8_valueNow_73 : decode cX8_valueNow 73 = .ok (.iload_n 1, 1) := dk_27 (dk_at dksX8_valueNow_3 3 rfl rfl)
theorem dX8_valueNow_74 : decode cX8_valueNow 74 = .ok (.iconst 1, 1) := dk_4 (dk_at dksX8_valueNow_3 4 rfl rfl)
theorem dX8_valueNow_75 : decode cX8_valueNow 75 = .ok (.isub, 1) := dk_100 (dk_at dksX8_valueNow_3 5 rfl rfl)
theorem dX8_valueNow_76 : decode cX8_valueNow 76 = .ok (.iaload, 1) := dk_46 (dk_at dksX8_valueNow_3 6 rfl rfl)
theorem dX8_valueNow_77 : decode cX8_valueNow 77 = .ok (.ifCond .eq 7, 3) := dk_153 0 7 (dk_at dksX8_valueNow_3 7 rfl rfl)
theorem dX8_valueNow_80 : decode cX8_valueNow 80 = .ok (.iconst 0, 1) := dk_3 (dk_at dksX8_valueNow_3 10 rfl rfl)
theorem dX8_valueNow_81 : decode cX8_valueNow 81 = .ok (.goto 4, 3) := dk_167 0 4 (dk_at dksX8_valueNow_3 11 rfl rfl)
theorem dX8_valueNow_84 : decode cX8_valueNow 84 = .ok (.iconst 1, 1) := dk_4 (dk_at dksX8_valueNow_3 14 rfl rfl)
theorem dX8_valueNow_85 : decode cX8_valueNow 85 = .ok (.iastore, 1) := dk_79 (dk_at dksX8_valueNow_3 15 rfl rfl)
theorem dX8_valueNow_86 : decode cX8_valueNow 86 = .ok (.goto 32, 3) := dk_167 0 32 (dk_at dksX8_valueNow_3 16 rfl rfl)
theorem dX8_valueNow_89 : decode cX8_valueNow 89 = .ok (.iinc 1 (-1), 3) := dk_132 1 255 (dk_at dksX8_valueNow_3 19 rfl rfl)
theorem dX8_valueNow_92 : decode cX8_valueNow 92 = .ok (.aload_n 0, 1) := dk_42 (dk_at dksX8_valueNow_3 22 rfl rfl)
theorem dX8_valueNow_93 : decode cX8_valueNow 93 = .ok (.getfield 87, 3) := dk_180 0 87 (dk_at dksX8_valueNow_4 0 rfl rfl)
theorem dX8_valueNow_96 : decode cX8_valueNow 96 = .ok (.iload_n 1, 1) := dk_27 (dk_at dksX8_valueNow_4 3 rfl rfl)
theorem dX8_valueNow_97 : decode cX8_valueNow 97 = .ok (.iconst 1, 1) := dk_4 (dk_at dksX8_valueNow_4 4 rfl rfl)
theorem dX8_valueNow_98 : decode cX8_valueNow 98 = .ok (.isub, 1) := dk_100 (dk_at dksX8_valueNow_4 5 rfl rfl)
theorem dX8_valueNow_99 : decode cX8_valueNow 99 = .ok (.iload_n 3, 1) := dk_29 (dk_at dksX8_valueNow_4 6 rfl rfl)
theorem dX8_valueNow_100 : decode cX8_valueNow 100 = .ok (.aload_n 0, 1) := dk_42 (dk_at dksX8_valueNow_4 7 rfl rfl)
theorem dX8_valueNow_101 : decode cX8_valueNow 101 = .ok (.getfield 87, 3) := dk_180 0 87 (dk_at dksX8_valueNow_4 8 rfl rfl)
theorem dX8_valueNow_104 : decode cX8_valueNow 104 = .ok (.iload_n 1, 1) := dk_27 (dk_at dksX8_valueNow_4 11 rfl rfl)
theorem dX8_valueNow_105 : decode cX8_valueNow 105 = .ok (.iconst 1, 1) := dk_4 (dk_at dksX8_valueNow_4 12 rfl rfl)
theorem dX8_valueNow_106 : decode cX8_valueNow 106 = .ok (.isub, 1) := dk_100 (dk_at dksX8_valueNow_4 13 rfl rfl)
theorem dX8_valueNow_107 : decode cX8_valueNow 107 = .ok (.iaload, 1) := dk_46 (dk_at dksX8_valueNow_4 14 rfl rfl)
theorem dX8_valueNow_108 : decode cX8_valueNow 108 = .ok (.aload_n 0, 1) := dk_42 (dk_at dksX8_valueNow_4 15 rfl rfl)
theorem dX8_valueNow_109 : decode cX8_valueNow 109 = .ok (.getfield 87, 3) := dk_180 0 87 (dk_at dksX8_valueNow_4 16 rfl rfl)
theorem dX8_valueNow_112 : decode cX8_valueNow 112 = .ok (.iload_n 1, 1) := dk_27 (dk_at dksX8_valueNow_4 19 rfl rfl)
theorem dX8_valueNow_113 : decode cX8_valueNow 113 = .ok (.iaload, 1) := dk_46 (dk_at dksX8_valueNow_4 20 rfl rfl)
theorem dX8_valueNow_114 : decode cX8_valueNow 114 = .ok (.invokestatic 337, 3) := dk_184 1 81 (dk_at dksX8_valueNow_4 21 rfl rfl)
theorem dX8_valueNow_117 : decode cX8_valueNow 117 = .ok (.iastore, 1) := dk_79 (dk_at dksX8_valueNow_5 0 rfl rfl)
theorem dX8_valueNow_118 : decode cX8_valueNow 118 = .ok (.iinc 2 1, 3) := dk_132 2 1 (dk_at dksX8_valueNow_5 1 rfl rfl)
theorem dX8_valueNow_121 : decode cX8_valueNow 121 = .ok (.goto (-117), 3) := dk_167 255 139 (dk_at dksX8_valueNow_5 4 rfl rfl)
theorem dX8_valueNow_124 : decode cX8_valueNow 124 = .ok (.aload_n 0, 1) := dk_42 (dk_at dksX8_valueNow_5 7 rfl rfl)
theorem dX8_valueNow_125 : decode cX8_valueNow 125 = .ok (.getfield 87, 3) := dk_180 0 87 (dk_at dksX8_valueNow_5 8 rfl rfl)
theorem dX8_valueNow_128 : decode cX8_valueNow 128 = .ok (.iconst 0, 1) := dk_3 (dk_at dksX8_valueNow_5 11 rfl rfl)
theorem dX8_valueNow_129 : decode cX8_valueNow 129 = .ok (.iaload, 1) := dk_46 (dk_at dksX8_valueNow_5 12 rfl rfl)
theorem dX8_valueNow_130 : decode cX8_valueNow 130 = .ok (.ireturn, 1) := dk_172 (dk_at dksX8_valueNow_5 13 rfl rfl)
abbrev cX8_reckon : ByteArray := prog_21_method_37_code
def yX8_reckon : MethodName := ⟨RX8, "reckon", "(III)I"⟩
def dkwX8_reckon_5 : List UInt8 := [167, 0, 4, 3, 172]
abbrev dktX8_reckon_5 : List UInt8 := dkwX8_reckon_5 ++ []
def dkwX8_reckon_4 : List UInt8 := [153, 0, 11, 28, 153, 0, 7, 4, 167, 0, 4, 3, 172, 27, 154, 0, 7, 28, 153, 0, 7, 4]
abbrev dktX8_reckon_4 : List UInt8 := dkwX8_reckon_4 ++ dktX8_reckon_5
def dkwX8_reckon_3 : List UInt8 := [27, 28, 162, 0, 7, 4, 167, 0, 4, 3, 172, 27, 28, 160, 0, 7, 4, 167, 0, 4, 3, 172, 27]
abbrev dktX8_reckon_3 : List UInt8 := dkwX8_reckon_3 ++ dktX8_reckon_4
def dkwX8_reckon_2 : List UInt8 := [27, 28, 96, 172, 27, 28, 100, 172, 27, 28, 104, 172, 28, 154, 0, 7, 3, 167, 0, 6, 27, 28, 108, 172]
abbrev dktX8_reckon_2 : List UInt8 := dkwX8_reckon_2 ++ dktX8_reckon_3
def dkwX8_reckon_1 : List UInt8 := [170, 0, 0, 0, 0, 0, 103, 255, 255, 255, 230, 255, 255, 255, 236, 0, 0, 0, 89, 0, 0, 0, 78, 0, 0, 0, 67, 0, 0, 0, 55, 0, 0, 0, 51, 0, 0, 0, 47, 0, 0, 0, 43]
abbrev dktX8_reckon_1 : List UInt8 := dkwX8_reckon_1 ++ dktX8_reckon_2
def dkwX8_reckon_0 : List UInt8 := [26]
abbrev dktX8_reckon_0 : List UInt8 := dkwX8_reckon_0 ++ dktX8_reckon_1
theorem dksX8_reckon_0 : cX8_reckon.data.toList.drop 0 = dktX8_reckon_0 := by decide +kernel
theorem dksX8_reckon_1 : cX8_reckon.data.toList.drop 1 = dktX8_reckon_1 := dk_seg dksX8_reckon_0 1 rfl rfl
theorem dksX8_reckon_2 : cX8_reckon.data.toList.drop 44 = dktX8_reckon_2 := dk_seg dksX8_reckon_1 43 rfl rfl
theorem dksX8_reckon_3 : cX8_reckon.data.toList.drop 68 = dktX8_reckon_3 := dk_seg dksX8_reckon_2 24 rfl rfl
theorem dksX8_reckon_4 : cX8_reckon.data.toList.drop 91 = dktX8_reckon_4 := dk_seg dksX8_reckon_3 23 rfl rfl
theorem dksX8_reckon_5 : cX8_reckon.data.toList.drop 113 = dktX8_reckon_5 := dk_seg dksX8_reckon_4 22 rfl rfl
theorem dX8_reckon_0 : decode cX8_reckon 0 = .ok (.iload_n 0, 1) := dk_26 (dk_at dksX8_reckon_0 0 rfl rfl)
theorem dX8_reckon_1 : decode cX8_reckon 1 = .ok (.tableswitch 103 (-26) (-20) #[89, 78, 67, 55, 51, 47, 43], 43) := by decide +kernel
theorem dX8_reckon_44 : decode cX8_reckon 44 = .ok (.iload_n 1, 1) := dk_27 (dk_at dksX8_reckon_2 0 rfl rfl)
theorem dX8_reckon_45 : decode cX8_reckon 45 = .ok (.iload_n 2, 1) := dk_28 (dk_at dksX8_reckon_2 1 rfl rfl)
theorem dX8_reckon_46 : decode cX8_reckon 46 = .ok (.iadd, 1) := dk_96 (dk_at dksX8_reckon_2 2 rfl rfl)
theorem dX8_reckon_47 : decode cX8_reckon 47 = .ok (.ireturn, 1) := dk_172 (dk_at dksX8_reckon_2 3 rfl rfl)
theorem dX8_reckon_48 : decode cX8_reckon 48 = .ok (.iload_n 1, 1) := dk_27 (dk_at dksX8_reckon_2 4 rfl rfl)
theorem dX8_reckon_49 : decode cX8_reckon 49 = .ok (.iload_n 2, 1) := dk_28 (dk_at dksX8_reckon_2 5 rfl rfl)
theorem dX8_reckon_50 : decode cX8_reckon 50 = .ok (.isub, 1) := dk_100 (dk_at dksX8_reckon_2 6 rfl rfl)
theorem dX8_reckon_51 : decode cX8_reckon 51 = .ok (.ireturn, 1) := dk_172 (dk_at dksX8_reckon_2 7 rfl rfl)
theorem dX8_reckon_52 : decode cX8_reckon 52 = .ok (.iload_n 1, 1) := dk_27 (dk_at dksX8_reckon_2 8 rfl rfl)
theorem dX8_reckon_53 : decode cX8_reckon 53 = .ok (.iload_n 2, 1) := dk_28 (dk_at dksX8_reckon_2 9 rfl rfl)
theorem dX8_reckon_54 : decode cX8_reckon 54 = .ok (.imul, 1) := dk_104 (dk_at dksX8_reckon_2 10 rfl rfl)
theorem dX8_reckon_55 : decode cX8_reckon 55 = .ok (.ireturn, 1) := dk_172 (dk_at dksX8_reckon_2 11 rfl rfl)
theorem dX8_reckon_56 : decode cX8_reckon 56 = .ok (.iload_n 2, 1) := dk_28 (dk_at dksX8_reckon_2 12 rfl rfl)
theorem dX8_reckon_57 : decode cX8_reckon 57 = .ok (.ifCond .ne 7, 3) := dk_154 0 7 (dk_at dksX8_reckon_2 13 rfl rfl)
theorem dX8_reckon_60 : decode cX8_reckon 60 = .ok (.iconst 0, 1) := dk_3 (dk_at dksX8_reckon_2 16 rfl rfl)
theorem dX8_reckon_61 : decode cX8_reckon 61 = .ok (.goto 6, 3) := dk_167 0 6 (dk_at dksX8_reckon_2 17 rfl rfl)
theorem dX8_reckon_64 : decode cX8_reckon 64 = .ok (.iload_n 1, 1) := dk_27 (dk_at dksX8_reckon_2 20 rfl rfl)
theorem dX8_reckon_65 : decode cX8_reckon 65 = .ok (.iload_n 2, 1) := dk_28 (dk_at dksX8_reckon_2 21 rfl rfl)
theorem dX8_reckon_66 : decode cX8_reckon 66 = .ok (.idiv, 1) := dk_108 (dk_at dksX8_reckon_2 22 rfl rfl)
theorem dX8_reckon_67 : decode cX8_reckon 67 = .ok (.ireturn, 1) := dk_172 (dk_at dksX8_reckon_2 23 rfl rfl)
theorem dX8_reckon_68 : decode cX8_reckon 68 = .ok (.iload_n 1, 1) := dk_27 (dk_at dksX8_reckon_3 0 rfl rfl)
theorem dX8_reckon_69 : decode cX8_reckon 69 = .ok (.iload_n 2, 1) := dk_28 (dk_at dksX8_reckon_3 1 rfl rfl)
theorem dX8_reckon_70 : decode cX8_reckon 70 = .ok (.if_icmp .ge 7, 3) := dk_162 0 7 (dk_at dksX8_reckon_3 2 rfl rfl)
theorem dX8_reckon_73 : decode cX8_reckon 73 = .ok (.iconst 1, 1) := dk_4 (dk_at dksX8_reckon_3 5 rfl rfl)
theorem dX8_reckon_74 : decode cX8_reckon 74 = .ok (.goto 4, 3) := dk_167 0 4 (dk_at dksX8_reckon_3 6 rfl rfl)
theorem dX8_reckon_77 : decode cX8_reckon 77 = .ok (.iconst 0, 1) := dk_3 (dk_at dksX8_reckon_3 9 rfl rfl)
theorem dX8_reckon_78 : decode cX8_reckon 78 = .ok (.ireturn, 1) := dk_172 (dk_at dksX8_reckon_3 10 rfl rfl)
theorem dX8_reckon_79 : decode cX8_reckon 79 = .ok (.iload_n 1, 1) := dk_27 (dk_at dksX8_reckon_3 11 rfl rfl)
theorem dX8_reckon_80 : decode cX8_reckon 80 = .ok (.iload_n 2, 1) := dk_28 (dk_at dksX8_reckon_3 12 rfl rfl)
theorem dX8_reckon_81 : decode cX8_reckon 81 = .ok (.if_icmp .ne 7, 3) := dk_160 0 7 (dk_at dksX8_reckon_3 13 rfl rfl)
theorem dX8_reckon_84 : decode cX8_reckon 84 = .ok (.iconst 1, 1) := dk_4 (dk_at dksX8_reckon_3 16 rfl rfl)
theorem dX8_reckon_85 : decode cX8_reckon 85 = .ok (.goto 4, 3) := dk_167 0 4 (dk_at dksX8_reckon_3 17 rfl rfl)
theorem dX8_reckon_88 : decode cX8_reckon 88 = .ok (.iconst 0, 1) := dk_3 (dk_at dksX8_reckon_3 20 rfl rfl)
theorem dX8_reckon_89 : decode cX8_reckon 89 = .ok (.ireturn, 1) := dk_172 (dk_at dksX8_reckon_3 21 rfl rfl)
theorem dX8_reckon_90 : decode cX8_reckon 90 = .ok (.iload_n 1, 1) := dk_27 (dk_at dksX8_reckon_3 22 rfl rfl)
theorem dX8_reckon_91 : decode cX8_reckon 91 = .ok (.ifCond .eq 11, 3) := dk_153 0 11 (dk_at dksX8_reckon_4 0 rfl rfl)
theorem dX8_reckon_94 : decode cX8_reckon 94 = .ok (.iload_n 2, 1) := dk_28 (dk_at dksX8_reckon_4 3 rfl rfl)
theorem dX8_reckon_95 : decode cX8_reckon 95 = .ok (.ifCond .eq 7, 3) := dk_153 0 7 (dk_at dksX8_reckon_4 4 rfl rfl)
theorem dX8_reckon_98 : decode cX8_reckon 98 = .ok (.iconst 1, 1) := dk_4 (dk_at dksX8_reckon_4 7 rfl rfl)
theorem dX8_reckon_99 : decode cX8_reckon 99 = .ok (.goto 4, 3) := dk_167 0 4 (dk_at dksX8_reckon_4 8 rfl rfl)
theorem dX8_reckon_102 : decode cX8_reckon 102 = .ok (.iconst 0, 1) := dk_3 (dk_at dksX8_reckon_4 11 rfl rfl)
theorem dX8_reckon_103 : decode cX8_reckon 103 = .ok (.ireturn, 1) := dk_172 (dk_at dksX8_reckon_4 12 rfl rfl)
theorem dX8_reckon_104 : decode cX8_reckon 104 = .ok (.iload_n 1, 1) := dk_27 (dk_at dksX8_reckon_4 13 rfl rfl)
theorem dX8_reckon_105 : decode cX8_reckon 105 = .ok (.ifCond .ne 7, 3) := dk_154 0 7 (dk_at dksX8_reckon_4 14 rfl rfl)
theorem dX8_reckon_108 : decode cX8_reckon 108 = .ok (.iload_n 2, 1) := dk_28 (dk_at dksX8_reckon_4 17 rfl rfl)
theorem dX8_reckon_109 : decode cX8_reckon 109 = .ok (.ifCond .eq 7, 3) := dk_153 0 7 (dk_at dksX8_reckon_4 18 rfl rfl)
theorem dX8_reckon_112 : decode cX8_reckon 112 = .ok (.iconst 1, 1) := dk_4 (dk_at dksX8_reckon_4 21 rfl rfl)
theorem dX8_reckon_113 : decode cX8_reckon 113 = .ok (.goto 4, 3) := dk_167 0 4 (dk_at dksX8_reckon_5 0 rfl rfl)
theorem dX8_reckon_116 : decode cX8_reckon 116 = .ok (.iconst 0, 1) := dk_3 (dk_at dksX8_reckon_5 3 rfl rfl)
theorem dX8_reckon_117 : decode cX8_reckon 117 = .ok (.ireturn, 1) := dk_172 (dk_at dksX8_reckon_5 4 rfl rfl)
abbrev cX8_wake : ByteArray := prog_21_method_44_code
def yX8_wake : MethodName := ⟨RX8, "wake", "(I)V"⟩
def dkwX8_wake_0 : List UInt8 := [42, 180, 0, 102, 27, 42, 180, 1, 103, 79, 42, 180, 0, 105, 27, 92, 46, 4, 96, 79, 177]
abbrev dktX8_wake_0 : List UInt8 := dkwX8_wake_0 ++ []
theorem dksX8_wake_0 : cX8_wake.data.toList.drop 0 = dktX8_wake_0 := by decide +kernel
theorem dX8_wake_0 : decode cX8_wake 0 = .ok (.aload_n 0, 1) := dk_42 (dk_at dksX8_wake_0 0 rfl rfl)
theorem dX8_wake_1 : decode cX8_wake 1 = .ok (.getfield 102, 3) := dk_180 0 102 (dk_at dksX8_wake_0 1 rfl rfl)
theorem dX8_wake_4 : decode cX8_wake 4 = .ok (.iload_n 1, 1) := dk_27 (dk_at dksX8_wake_0 4 rfl rfl)
theorem dX8_wake_5 : decode cX8_wake 5 = .ok (.aload_n 0, 1) := dk_42 (dk_at dksX8_wake_0 5 rfl rfl)
theorem dX8_wake_6 : decode cX8_wake 6 = .ok (.getfield 359, 3) := dk_180 1 103 (dk_at dksX8_wake_0 6 rfl rfl)
theorem dX8_wake_9 : decode cX8_wake 9 = .ok (.iastore, 1) := dk_79 (dk_at dksX8_wake_0 9 rfl rfl)
theorem dX8_wake_10 : decode cX8_wake 10 = .ok (.aload_n 0, 1) := dk_42 (dk_at dksX8_wake_0 10 rfl rfl)
theorem dX8_wake_11 : decode cX8_wake 11 = .ok (.getfield 105, 3) := dk_180 0 105 (dk_at dksX8_wake_0 11 rfl rfl)
theorem dX8_wake_14 : decode cX8_wake 14 = .ok (.iload_n 1, 1) := dk_27 (dk_at dksX8_wake_0 14 rfl rfl)
theorem dX8_wake_15 : decode cX8_wake 15 = .ok (.dup2, 1) := dk_92 (dk_at dksX8_wake_0 15 rfl rfl)
theorem dX8_wake_16 : decode cX8_wake 16 = .ok (.iaload, 1) := dk_46 (dk_at dksX8_wake_0 16 rfl rfl)
theorem dX8_wake_17 : decode cX8_wake 17 = .ok (.iconst 1, 1) := dk_4 (dk_at dksX8_wake_0 17 rfl rfl)
theorem dX8_wake_18 : decode cX8_wake 18 = .ok (.iadd, 1) := dk_96 (dk_at dksX8_wake_0 18 rfl rfl)
theorem dX8_wake_19 : decode cX8_wake 19 = .ok (.iastore, 1) := dk_79 (dk_at dksX8_wake_0 19 rfl rfl)
theorem dX8_wake_20 : decode cX8_wake 20 = .ok (.return_, 1) := dk_177 (dk_at dksX8_wake_0 20 rfl rfl)
abbrev cX8_groupEnd : ByteArray := prog_21_method_49_code
def yX8_groupEnd : MethodName := ⟨RX8, "groupEnd", "(I)I"⟩
def dkwX8_groupEnd_1 : List UInt8 := [122, 4, 126, 154, 0, 9, 132, 2, 1, 167, 255, 227, 28, 172]
abbrev dktX8_groupEnd_1 : List UInt8 := dkwX8_groupEnd_1 ++ []
def dkwX8_groupEnd_0 : List UInt8 := [27, 4, 96, 61, 28, 42, 180, 1, 85, 162, 0, 27, 42, 180, 1, 100, 154, 0, 20, 42, 180, 1, 94, 28]
abbrev dktX8_groupEnd_0 : List UInt8 := dkwX8_groupEnd_0 ++ dktX8_groupEnd_1
theorem dksX8_groupEnd_0 : cX8_groupEnd.data.toList.drop 0 = dktX8_groupEnd_0 := by decide +kernel
theorem dksX8_groupEnd_1 : cX8_groupEnd.data.toList.drop 24 = dktX8_groupEnd_1 := dk_seg dksX8_groupEnd_0 24 rfl rfl
theorem dX8_groupEnd_0 : decode cX8_groupEnd 0 = .ok (.iload_n 1, 1) := dk_27 (dk_at dksX8_groupEnd_0 0 rfl rfl)
theorem dX8_groupEnd_1 : decode cX8_groupEnd 1 = .ok (.iconst 1, 1) := dk_4 (dk_at dksX8_groupEnd_0 1 rfl rfl)
theorem dX8_groupEnd_2 : decode cX8_groupEnd 2 = .ok (.iadd, 1) := dk_96 (dk_at dksX8_groupEnd_0 2 rfl rfl)
theorem dX8_groupEnd_3 : decode cX8_groupEnd 3 = .ok (.istore_n 2, 1) := dk_61 (dk_at dksX8_groupEnd_0 3 rfl rfl)
theorem dX8_groupEnd_4 : decode cX8_groupEnd 4 = .ok (.iload_n 2, 1) := dk_28 (dk_at dksX8_groupEnd_0 4 rfl rfl)
theorem dX8_groupEnd_5 : decode cX8_groupEnd 5 = .ok (.aload_n 0, 1) := dk_42 (dk_at dksX8_groupEnd_0 5 rfl rfl)
theorem dX8_groupEnd_6 : decode cX8_groupEnd 6 = .ok (.getfield 341, 3) := dk_180 1 85 (dk_at dksX8_groupEnd_0 6 rfl rfl)
theorem dX8_groupEnd_9 : decode cX8_groupEnd 9 = .ok (.if_icmp .ge 27, 3) := dk_162 0 27 (dk_at dksX8_groupEnd_0 9 rfl rfl)
theorem dX8_groupEnd_12 : decode cX8_groupEnd 12 = .ok (.aload_n 0, 1) := dk_42 (dk_at dksX8_groupEnd_0 12 rfl rfl)
theorem dX8_groupEnd_13 : decode cX8_groupEnd 13 = .ok (.getfield 356, 3) := dk_180 1 100 (dk_at dksX8_groupEnd_0 13 rfl rfl)
theorem dX8_groupEnd_16 : decode cX8_groupEnd 16 = .ok (.ifCond .ne 20, 3) := dk_154 0 20 (dk_at dksX8_groupEnd_0 16 rfl rfl)
theorem dX8_groupEnd_19 : decode cX8_groupEnd 19 = .ok (.aload_n 0, 1) := dk_42 (dk_at dksX8_groupEnd_0 19 rfl rfl)
theorem dX8_groupEnd_20 : decode cX8_groupEnd 20 = .ok (.getfield 350, 3) := dk_180 1 94 (dk_at dksX8_groupEnd_0 20 rfl rfl)
theorem dX8_groupEnd_23 : decode cX8_groupEnd 23 = .ok (.iload_n 2, 1) := dk_28 (dk_at dksX8_groupEnd_0 23 rfl rfl)
theorem dX8_groupEnd_24 : decode cX8_groupEnd 24 = .ok (.ishr, 1) := dk_122 (dk_at dksX8_groupEnd_1 0 rfl rfl)
theorem dX8_groupEnd_25 : decode cX8_groupEnd 25 = .ok (.iconst 1, 1) := dk_4 (dk_at dksX8_groupEnd_1 1 rfl rfl)
theorem dX8_groupEnd_26 : decode cX8_groupEnd 26 = .ok (.iand, 1) := dk_126 (dk_at dksX8_groupEnd_1 2 rfl rfl)
theorem dX8_groupEnd_27 : decode cX8_groupEnd 27 = .ok (.ifCond .ne 9, 3) := dk_154 0 9 (dk_at dksX8_groupEnd_1 3 rfl rfl)
theorem dX8_groupEnd_30 : decode cX8_groupEnd 30 = .ok (.iinc 2 1, 3) := dk_132 2 1 (dk_at dksX8_groupEnd_1 6 rfl rfl)
theorem dX8_groupEnd_33 : decode cX8_groupEnd 33 = .ok (.goto (-29), 3) := dk_167 255 227 (dk_at dksX8_groupEnd_1 9 rfl rfl)
theorem dX8_groupEnd_36 : decode cX8_groupEnd 36 = .ok (.iload_n 2, 1) := dk_28 (dk_at dksX8_groupEnd_1 12 rfl rfl)
theorem dX8_groupEnd_37 : decode cX8_groupEnd 37 = .ok (.ireturn, 1) := dk_172 (dk_at dksX8_groupEnd_1 13 rfl rfl)
abbrev cX8_hasEnough : ByteArray := prog_21_method_48_code
def yX8_hasEnough : MethodName := ⟨RX8, "hasEnough", "(I)Z"⟩
def dkwX8_hasEnough_1 : List UInt8 := [180, 0, 45, 5, 27, 104, 42, 180, 0, 96, 27, 46, 96, 46, 161, 0, 7, 4, 167, 0, 4, 3, 172]
abbrev dktX8_hasEnough_1 : List UInt8 := dkwX8_hasEnough_1 ++ []
def dkwX8_hasEnough_0 : List UInt8 := [42, 180, 0, 42, 27, 46, 6, 159, 0, 36, 42, 180, 1, 103, 42, 180, 0, 99, 27, 46, 100, 42]
abbrev dktX8_hasEnough_0 : List UInt8 := dkwX8_hasEnough_0 ++ dktX8_hasEnough_1
theorem dksX8_hasEnough_0 : cX8_hasEnough.data.toList.drop 0 = dktX8_hasEnough_0 := by decide +kernel
theorem dksX8_hasEnough_1 : cX8_hasEnough.data.toList.drop 22 = dktX8_hasEnough_1 := dk_seg dksX8_hasEnough_0 22 rfl rfl
theorem dX8_hasEnough_0 : decode cX8_hasEnough 0 = .ok (.aload_n 0, 1) := dk_42 (dk_at dksX8_hasEnough_0 0 rfl rfl)
theorem dX8_hasEnough_1 : decode cX8_hasEnough 1 = .ok (.getfield 42, 3) := dk_180 0 42 (dk_at dksX8_hasEnough_0 1 rfl rfl)
theorem dX8_hasEnough_4 : decode cX8_hasEnough 4 = .ok (.iload_n 1, 1) := dk_27 (dk_at dksX8_hasEnough_0 4 rfl rfl)
theorem dX8_hasEnough_5 : decode cX8_hasEnough 5 = .ok (.iaload, 1) := dk_46 (dk_at dksX8_hasEnough_0 5 rfl rfl)
theorem dX8_hasEnough_6 : decode cX8_hasEnough 6 = .ok (.iconst 3, 1) := dk_6 (dk_at dksX8_hasEnough_0 6 rfl rfl)
theorem dX8_hasEnough_7 : decode cX8_hasEnough 7 = .ok (.if_icmp .eq 36, 3) := dk_159 0 36 (dk_at dksX8_hasEnough_0 7 rfl rfl)
theorem dX8_hasEnough_10 : decode cX8_hasEnough 10 = .ok (.aload_n 0, 1) := dk_42 (dk_at dksX8_hasEnough_0 10 rfl rfl)
theorem dX8_hasEnough_11 : decode cX8_hasEnough 11 = .ok (.getfield 359, 3) := dk_180 1 103 (dk_at dksX8_hasEnough_0 11 rfl rfl)
theorem dX8_hasEnough_14 : decode cX8_hasEnough 14 = .ok (.aload_n 0, 1) := dk_42 (dk_at dksX8_hasEnough_0 14 rfl rfl)
theorem dX8_hasEnough_15 : decode cX8_hasEnough 15 = .ok (.getfield 99, 3) := dk_180 0 99 (dk_at dksX8_hasEnough_0 15 rfl rfl)
theorem dX8_hasEnough_18 : decode cX8_hasEnough 18 = .ok (.iload_n 1, 1) := dk_27 (dk_at dksX8_hasEnough_0 18 rfl rfl)
theorem dX8_hasEnough_19 : decode cX8_hasEnough 19 = .ok (.iaload, 1) := dk_46 (dk_at dksX8_hasEnough_0 19 rfl rfl)
theorem dX8_hasEnough_20 : decode cX8_hasEnough 20 = .ok (.isub, 1) := dk_100 (dk_at dksX8_hasEnough_0 20 rfl rfl)
theorem dX8_hasEnough_21 : decode cX8_hasEnough 21 = .ok (.aload_n 0, 1) := dk_42 (dk_at dksX8_hasEnough_0 21 rfl rfl)
theorem dX8_hasEnough_22 : decode cX8_hasEnough 22 = .ok (.getfield 45, 3) := dk_180 0 45 (dk_at dksX8_hasEnough_1 0 rfl rfl)
theorem dX8_hasEnough_25 : decode cX8_hasEnough 25 = .ok (.iconst 2, 1) := dk_5 (dk_at dksX8_hasEnough_1 3 rfl rfl)
theorem dX8_hasEnough_26 : decode cX8_hasEnough 26 = .ok (.iload_n 1, 1) := dk_27 (dk_at dksX8_hasEnough_1 4 rfl rfl)
theorem dX8_hasEnough_27 : decode cX8_hasEnough 27 = .ok (.imul, 1) := dk_104 (dk_at dksX8_hasEnough_1 5 rfl rfl)
theorem dX8_hasEnough_28 : decode cX8_hasEnough 28 = .ok (.aload_n 0, 1) := dk_42 (dk_at dksX8_hasEnough_1 6 rfl rfl)
theorem dX8_hasEnough_29 : decode cX8_hasEnough 29 = .ok (.getfield 96, 3) := dk_180 0 96 (dk_at dksX8_hasEnough_1 7 rfl rfl)
theorem dX8_hasEnough_32 : decode cX8_hasEnough 32 = .ok (.iload_n 1, 1) := dk_27 (dk_at dksX8_hasEnough_1 10 rfl rfl)
theorem dX8_hasEnough_33 : decode cX8_hasEnough 33 = .ok (.iaload, 1) := dk_46 (dk_at dksX8_hasEnough_1 11 rfl rfl)
theorem dX8_hasEnough_34 : decode cX8_hasEnough 34 = .ok (.iadd, 1) := dk_96 (dk_at dksX8_hasEnough_1 12 rfl rfl)
theorem dX8_hasEnough_35 : decode cX8_hasEnough 35 = .ok (.iaload, 1) := dk_46 (dk_at dksX8_hasEnough_1 13 rfl rfl)
theorem dX8_hasEnough_36 : decode cX8_hasEnough 36 = .ok (.if_icmp .lt 7, 3) := dk_161 0 7 (dk_at dksX8_hasEnough_1 14 rfl rfl)
theorem dX8_hasEnough_39 : decode cX8_hasEnough 39 = .ok (.iconst 1, 1) := dk_4 (dk_at dksX8_hasEnough_1 17 rfl rfl)
theorem dX8_hasEnough_40 : decode cX8_hasEnough 40 = .ok (.goto 4, 3) := dk_167 0 4 (dk_at dksX8_hasEnough_1 18 rfl rfl)
theorem dX8_hasEnough_43 : decode cX8_hasEnough 43 = .ok (.iconst 0, 1) := dk_3 (dk_at dksX8_hasEnough_1 21 rfl rfl)
theorem dX8_hasEnough_44 : decode cX8_hasEnough 44 = .ok (.ireturn, 1) := dk_172 (dk_at dksX8_hasEnough_1 22 rfl rfl)
abbrev cX8_allWoken : ByteArray := prog_21_method_53_code
def yX8_allWoken : MethodName := ⟨RX8, "allWoken", "()I"⟩
def dkwX8_allWoken_1 : List UInt8 := [132, 2, 1, 167, 255, 234, 27, 172]
abbrev dktX8_allWoken_1 : List UInt8 := dkwX8_allWoken_1 ++ []
def dkwX8_allWoken_0 : List UInt8 := [3, 60, 3, 61, 28, 42, 180, 0, 38, 3, 46, 162, 0, 18, 27, 42, 180, 0, 105, 28, 46, 96, 60]
abbrev dktX8_allWoken_0 : List UInt8 := dkwX8_allWoken_0 ++ dktX8_allWoken_1
theorem dksX8_allWoken_0 : cX8_allWoken.data.toList.drop 0 = dktX8_allWoken_0 := by decide +kernel
theorem dksX8_allWoken_1 : cX8_allWoken.data.toList.drop 23 = dktX8_allWoken_1 := dk_seg dksX8_allWoken_0 23 rfl rfl
theorem dX8_allWoken_0 : decode cX8_allWoken 0 = .ok (.iconst 0, 1) := dk_3 (dk_at dksX8_allWoken_0 0 rfl rfl)
theorem dX8_allWoken_1 : decode cX8_allWoken 1 = .ok (.istore_n 1, 1) := dk_60 (dk_at dksX8_allWoken_0 1 rfl rfl)
theorem dX8_allWoken_2 : decode cX8_allWoken 2 = .ok (.iconst 0, 1) := dk_3 (dk_at dksX8_allWoken_0 2 rfl rfl)
theorem dX8_allWoken_3 : decode cX8_allWoken 3 = .ok (.istore_n 2, 1) := dk_61 (dk_at dksX8_allWoken_0 3 rfl rfl)
theorem dX8_allWoken_4 : decode cX8_allWoken 4 = .ok (.iload_n 2, 1) := dk_28 (dk_at dksX8_allWoken_0 4 rfl rfl)
theorem dX8_allWoken_5 : decode cX8_allWoken 5 = .ok (.aload_n 0, 1) := dk_42 (dk_at dksX8_allWoken_0 5 rfl rfl)
theorem dX8_allWoken_6 : decode cX8_allWoken 6 = .ok (.getfield 38, 3) := dk_180 0 38 (dk_at dksX8_allWoken_0 6 rfl rfl)
theorem dX8_allWoken_9 : decode cX8_allWoken 9 = .ok (.iconst 0, 1) := dk_3 (dk_at dksX8_allWoken_0 9 rfl rfl)
theorem dX8_allWoken_10 : decode cX8_allWoken 10 = .ok (.iaload, 1) := dk_46 (dk_at dksX8_allWoken_0 10 rfl rfl)
theorem dX8_allWoken_11 : decode cX8_allWoken 11 = .ok (.if_icmp .ge 18, 3) := dk_162 0 18 (dk_at dksX8_allWoken_0 11 rfl rfl)
theorem dX8_allWoken_14 : decode cX8_allWoken 14 = .ok (.iload_n 1, 1) := dk_27 (dk_at dksX8_allWoken_0 14 rfl rfl)
theorem dX8_allWoken_15 : decode cX8_allWoken 15 = .ok (.aload_n 0, 1) := dk_42 (dk_at dksX8_allWoken_0 15 rfl rfl)
theorem dX8_allWoken_16 : decode cX8_allWoken 16 = .ok (.getfield 105, 3) := dk_180 0 105 (dk_at dksX8_allWoken_0 16 rfl rfl)
theorem dX8_allWoken_19 : decode cX8_allWoken 19 = .ok (.iload_n 2, 1) := dk_28 (dk_at dksX8_allWoken_0 19 rfl rfl)
theorem dX8_allWoken_20 : decode cX8_allWoken 20 = .ok (.iaload, 1) := dk_46 (dk_at dksX8_allWoken_0 20 rfl rfl)
theorem dX8_allWoken_21 : decode cX8_allWoken 21 = .ok (.iadd, 1) := dk_96 (dk_at dksX8_allWoken_0 21 rfl rfl)
theorem dX8_allWoken_22 : decode cX8_allWoken 22 = .ok (.istore_n 1, 1) := dk_60 (dk_at dksX8_allWoken_0 22 rfl rfl)
theorem dX8_allWoken_23 : decode cX8_allWoken 23 = .ok (.iinc 2 1, 3) := dk_132 2 1 (dk_at dksX8_allWoken_1 0 rfl rfl)
theorem dX8_allWoken_26 : decode cX8_allWoken 26 = .ok (.goto (-22), 3) := dk_167 255 234 (dk_at dksX8_allWoken_1 3 rfl rfl)
theorem dX8_allWoken_29 : decode cX8_allWoken 29 = .ok (.iload_n 1, 1) := dk_27 (dk_at dksX8_allWoken_1 6 rfl rfl)
theorem dX8_allWoken_30 : decode cX8_allWoken 30 = .ok (.ireturn, 1) := dk_172 (dk_at dksX8_allWoken_1 7 rfl rfl)
abbrev cX8_worst : ByteArray := prog_21_method_65_code
def yX8_worst : MethodName := ⟨RX8, "worst", "()I"⟩
def dkwX8_worst_1 : List UInt8 := [46, 42, 180, 0, 105, 27, 46, 164, 0, 5, 28, 60, 132, 2, 1, 167, 255, 221, 27, 172]
abbrev dktX8_worst_1 : List UInt8 := dkwX8_worst_1 ++ []
def dkwX8_worst_0 : List UInt8 := [2, 60, 3, 61, 28, 42, 180, 0, 38, 3, 46, 162, 0, 31, 27, 2, 159, 0, 18, 42, 180, 0, 105, 28]
abbrev dktX8_worst_0 : List UInt8 := dkwX8_worst_0 ++ dktX8_worst_1
theorem dksX8_worst_0 : cX8_worst.data.toList.drop 0 = dktX8_worst_0 := by decide +kernel
theorem dksX8_worst_1 : cX8_worst.data.toList.drop 24 = dktX8_worst_1 := dk_seg dksX8_worst_0 24 rfl rfl
theorem dX8_worst_0 : decode cX8_worst 0 = .ok (.iconst (-1), 1) := dk_2 (dk_at dksX8_worst_0 0 rfl rfl)
theorem dX8_worst_1 : decode cX8_worst 1 = .ok (.istore_n 1, 1) := dk_60 (dk_at dksX8_worst_0 1 rfl rfl)
theorem dX8_worst_2 : decode cX8_worst 2 = .ok (.iconst 0, 1) := dk_3 (dk_at dksX8_worst_0 2 rfl rfl)
theorem dX8_worst_3 : decode cX8_worst 3 = .ok (.istore_n 2, 1) := dk_61 (dk_at dksX8_worst_0 3 rfl rfl)
theorem dX8_worst_4 : decode cX8_worst 4 = .ok (.iload_n 2, 1) := dk_28 (dk_at dksX8_worst_0 4 rfl rfl)
theorem dX8_worst_5 : decode cX8_worst 5 = .ok (.aload_n 0, 1) := dk_42 (dk_at dksX8_worst_0 5 rfl rfl)
theorem dX8_worst_6 : decode cX8_worst 6 = .ok (.getfield 38, 3) := dk_180 0 38 (dk_at dksX8_worst_0 6 rfl rfl)
theorem dX8_worst_9 : decode cX8_worst 9 = .ok (.iconst 0, 1) := dk_3 (dk_at dksX8_worst_0 9 rfl rfl)
theorem dX8_worst_10 : decode cX8_worst 10 = .ok (.iaload, 1) := dk_46 (dk_at dksX8_worst_0 10 rfl rfl)
theorem dX8_worst_11 : decode cX8_worst 11 = .ok (.if_icmp .ge 31, 3) := dk_162 0 31 (dk_at dksX8_worst_0 11 rfl rfl)
theorem dX8_worst_14 : decode cX8_worst 14 = .ok (.iload_n 1, 1) := dk_27 (dk_at dksX8_worst_0 14 rfl rfl)
theorem dX8_worst_15 : decode cX8_worst 15 = .ok (.iconst (-1), 1) := dk_2 (dk_at dksX8_worst_0 15 rfl rfl)
theorem dX8_worst_16 : decode cX8_worst 16 = .ok (.if_icmp .eq 18, 3) := dk_159 0 18 (dk_at dksX8_worst_0 16 rfl rfl)
theorem dX8_worst_19 : decode cX8_worst 19 = .ok (.aload_n 0, 1) := dk_42 (dk_at dksX8_worst_0 19 rfl rfl)
theorem dX8_worst_20 : decode cX8_worst 20 = .ok (.getfield 105, 3) := dk_180 0 105 (dk_at dksX8_worst_0 20 rfl rfl)
theorem dX8_worst_23 : decode cX8_worst 23 = .ok (.iload_n 2, 1) := dk_28 (dk_at dksX8_worst_0 23 rfl rfl)
theorem dX8_worst_24 : decode cX8_worst 24 = .ok (.iaload, 1) := dk_46 (dk_at dksX8_worst_1 0 rfl rfl)
theorem dX8_worst_25 : decode cX8_worst 25 = .ok (.aload_n 0, 1) := dk_42 (dk_at dksX8_worst_1 1 rfl rfl)
theorem dX8_worst_26 : decode cX8_worst 26 = .ok (.getfield 105, 3) := dk_180 0 105 (dk_at dksX8_worst_1 2 rfl rfl)
theorem dX8_worst_29 : decode cX8_worst 29 = .ok (.iload_n 1, 1) := dk_27 (dk_at dksX8_worst_1 5 rfl rfl)
theorem dX8_worst_30 : decode cX8_worst 30 = .ok (.iaload, 1) := dk_46 (dk_at dksX8_worst_1 6 rfl rfl)
theorem dX8_worst_31 : decode cX8_worst 31 = .ok (.if_icmp .le 5, 3) := dk_164 0 5 (dk_at dksX8_worst_1 7 rfl rfl)
theorem dX8_worst_34 : decode cX8_worst 34 = .ok (.iload_n 2, 1) := dk_28 (dk_at dksX8_worst_1 10 rfl rfl)
theorem dX8_worst_35 : decode cX8_worst 35 = .ok (.istore_n 1, 1) := dk_60 (dk_at dksX8_worst_1 11 rfl rfl)
theorem dX8_worst_36 : decode cX8_worst 36 = .ok (.iinc 2 1, 3) := dk_132 2 1 (dk_at dksX8_worst_1 12 rfl rfl)
theorem dX8_worst_39 : decode cX8_worst 39 = .ok (.goto (-35), 3) := dk_167 255 221 (dk_at dksX8_worst_1 15 rfl rfl)
theorem dX8_worst_42 : decode cX8_worst 42 = .ok (.iload_n 1, 1) := dk_27 (dk_at dksX8_worst_1 18 rfl rfl)
theorem dX8_worst_43 : decode cX8_worst 43 = .ok (.ireturn, 1) := dk_172 (dk_at dksX8_worst_1 19 rfl rfl)
abbrev cX8_woken : ByteArray := prog_21_method_67_code
def yX8_woken : MethodName := ⟨RX8, "woken", "(II)I"⟩
def dkwX8_woken_2 : List UInt8 := [180, 0, 108, 27, 46, 172]
abbrev dktX8_woken_2 : List UInt8 := dkwX8_woken_2 ++ []
def dkwX8_woken_1 : List UInt8 := [182, 1, 46, 172, 42, 182, 1, 188, 28, 154, 0, 12, 42, 180, 0, 105, 27, 46, 167, 0, 9, 42]
abbrev dktX8_woken_1 : List UInt8 := dkwX8_woken_1 ++ dktX8_woken_2
def dkwX8_woken_0 : List UInt8 := [42, 3, 181, 0, 159, 42, 27, 182, 1, 164, 153, 0, 12, 28, 155, 0, 8, 28, 4, 164, 0, 9, 42, 4]
abbrev dktX8_woken_0 : List UInt8 := dkwX8_woken_0 ++ dktX8_woken_1
theorem dksX8_woken_0 : cX8_woken.data.toList.drop 0 = dktX8_woken_0 := by decide +kernel
theorem dksX8_woken_1 : cX8_woken.data.toList.drop 24 = dktX8_woken_1 := dk_seg dksX8_woken_0 24 rfl rfl
theorem dksX8_woken_2 : cX8_woken.data.toList.drop 46 = dktX8_woken_2 := dk_seg dksX8_woken_1 22 rfl rfl
theorem dX8_woken_0 : decode cX8_woken 0 = .ok (.aload_n 0, 1) := dk_42 (dk_at dksX8_woken_0 0 rfl rfl)
theorem dX8_woken_1 : decode cX8_woken 1 = .ok (.iconst 0, 1) := dk_3 (dk_at dksX8_woken_0 1 rfl rfl)
theorem dX8_woken_2 : decode cX8_woken 2 = .ok (.putfield 159, 3) := dk_181 0 159 (dk_at dksX8_woken_0 2 rfl rfl)
theorem dX8_woken_5 : decode cX8_woken 5 = .ok (.aload_n 0, 1) := dk_42 (dk_at dksX8_woken_0 5 rfl rfl)
theorem dX8_woken_6 : decode cX8_woken 6 = .ok (.iload_n 1, 1) := dk_27 (dk_at dksX8_woken_0 6 rfl rfl)
theorem dX8_woken_7 : decode cX8_woken 7 = .ok (.invokevirtual 420, 3) := dk_182 1 164 (dk_at dksX8_woken_0 7 rfl rfl)
theorem dX8_woken_10 : decode cX8_woken 10 = .ok (.ifCond .eq 12, 3) := dk_153 0 12 (dk_at dksX8_woken_0 10 rfl rfl)
theorem dX8_woken_13 : decode cX8_woken 13 = .ok (.iload_n 2, 1) := dk_28 (dk_at dksX8_woken_0 13 rfl rfl)
theorem dX8_woken_14 : decode cX8_woken 14 = .ok (.ifCond .lt 8, 3) := dk_155 0 8 (dk_at dksX8_woken_0 14 rfl rfl)
theorem dX8_woken_17 : decode cX8_woken 17 = .ok (.iload_n 2, 1) := dk_28 (dk_at dksX8_woken_0 17 rfl rfl)
theorem dX8_woken_18 : decode cX8_woken 18 = .ok (.iconst 1, 1) := dk_4 (dk_at dksX8_woken_0 18 rfl rfl)
theorem dX8_woken_19 : decode cX8_woken 19 = .ok (.if_icmp .le 9, 3) := dk_164 0 9 (dk_at dksX8_woken_0 19 rfl rfl)
theorem dX8_woken_22 : decode cX8_woken 22 = .ok (.aload_n 0, 1) := dk_42 (dk_at dksX8_woken_0 22 rfl rfl)
theorem dX8_woken_23 : decode cX8_woken 23 = .ok (.iconst 1, 1) := dk_4 (dk_at dksX8_woken_0 23 rfl rfl)
theorem dX8_woken_24 : decode cX8_woken 24 = .ok (.invokevirtual 302, 3) := dk_182 1 46 (dk_at dksX8_woken_1 0 rfl rfl)
theorem dX8_woken_27 : decode cX8_woken 27 = .ok (.ireturn, 1) := dk_172 (dk_at dksX8_woken_1 3 rfl rfl)
theorem dX8_woken_28 : decode cX8_woken 28 = .ok (.aload_n 0, 1) := dk_42 (dk_at dksX8_woken_1 4 rfl rfl)
theorem dX8_woken_29 : decode cX8_woken 29 = .ok (.invokevirtual 444, 3) := dk_182 1 188 (dk_at dksX8_woken_1 5 rfl rfl)
theorem dX8_woken_32 : decode cX8_woken 32 = .ok (.iload_n 2, 1) := dk_28 (dk_at dksX8_woken_1 8 rfl rfl)
theorem dX8_woken_33 : decode cX8_woken 33 = .ok (.ifCond .ne 12, 3) := dk_154 0 12 (dk_at dksX8_woken_1 9 rfl rfl)
theorem dX8_woken_36 : decode cX8_woken 36 = .ok (.aload_n 0, 1) := dk_42 (dk_at dksX8_woken_1 12 rfl rfl)
theorem dX8_woken_37 : decode cX8_woken 37 = .ok (.getfield 105, 3) := dk_180 0 105 (dk_at dksX8_woken_1 13 rfl rfl)
theorem dX8_woken_40 : decode cX8_woken 40 = .ok (.iload_n 1, 1) := dk_27 (dk_at dksX8_woken_1 16 rfl rfl)
theorem dX8_woken_41 : decode cX8_woken 41 = .ok (.iaload, 1) := dk_46 (dk_at dksX8_woken_1 17 rfl rfl)
theorem dX8_woken_42 : decode cX8_woken 42 = .ok (.goto 9, 3) := dk_167 0 9 (dk_at dksX8_woken_1 18 rfl rfl)
theorem dX8_woken_45 : decode cX8_woken 45 = .ok (.aload_n 0, 1) := dk_42 (dk_at dksX8_woken_1 21 rfl rfl)
theorem dX8_woken_46 : decode cX8_woken 46 = .ok (.getfield 108, 3) := dk_180 0 108 (dk_at dksX8_woken_2 0 rfl rfl)
theorem dX8_woken_49 : decode cX8_woken 49 = .ok (.iload_n 1, 1) := dk_27 (dk_at dksX8_woken_2 3 rfl rfl)
theorem dX8_woken_50 : decode cX8_woken 50 = .ok (.iaload, 1) := dk_46 (dk_at dksX8_woken_2 4 rfl rfl)
theorem dX8_woken_51 : decode cX8_woken 51 = .ok (.ireturn, 1) := dk_172 (dk_at dksX8_woken_2 5 rfl rfl)
abbrev cX8_lies : ByteArray := prog_21_method_68_code
def yX8_lies : MethodName := ⟨RX8, "lies", "(III)I"⟩
def dkwX8_lies_3 : List UInt8 := [180, 0, 96, 27, 46, 167, 0, 16, 42, 27, 182, 1, 120, 153, 0, 7, 4, 167, 0, 4, 3, 172]
abbrev dktX8_lies_3 : List UInt8 := dkwX8_lies_3 ++ []
def dkwX8_lies_2 : List UInt8 := [182, 1, 46, 172, 42, 182, 1, 157, 42, 42, 180, 1, 59, 28, 182, 1, 160, 29, 154, 0, 12, 42]
abbrev dktX8_lies_2 : List UInt8 := dkwX8_lies_2 ++ dktX8_lies_3
def dkwX8_lies_1 : List UInt8 := [182, 1, 46, 172, 28, 133, 9, 42, 180, 0, 38, 6, 46, 133, 184, 0, 162, 154, 0, 9, 42, 5]
abbrev dktX8_lies_1 : List UInt8 := dkwX8_lies_1 ++ dktX8_lies_2
def dkwX8_lies_0 : List UInt8 := [42, 3, 181, 0, 159, 42, 27, 182, 1, 164, 153, 0, 12, 29, 155, 0, 8, 29, 4, 164, 0, 9, 42, 4]
abbrev dktX8_lies_0 : List UInt8 := dkwX8_lies_0 ++ dktX8_lies_1
theorem dksX8_lies_0 : cX8_lies.data.toList.drop 0 = dktX8_lies_0 := by decide +kernel
theorem dksX8_lies_1 : cX8_lies.data.toList.drop 24 = dktX8_lies_1 := dk_seg dksX8_lies_0 24 rfl rfl
theorem dksX8_lies_2 : cX8_lies.data.toList.drop 46 = dktX8_lies_2 := dk_seg dksX8_lies_1 22 rfl rfl
theorem dksX8_lies_3 : cX8_lies.data.toList.drop 68 = dktX8_lies_3 := dk_seg dksX8_lies_2 22 rfl rfl
theorem dX8_lies_0 : decode cX8_lies 0 = .ok (.aload_n 0, 1) := dk_42 (dk_at dksX8_lies_0 0 rfl rfl)
theorem dX8_lies_1 : decode cX8_lies 1 = .ok (.iconst 0, 1) := dk_3 (dk_at dksX8_lies_0 1 rfl rfl)
theorem dX8_lies_2 : decode cX8_lies 2 = .ok (.putfield 159, 3) := dk_181 0 159 (dk_at dksX8_lies_0 2 rfl rfl)
theorem dX8_lies_5 : decode cX8_lies 5 = .ok (.aload_n 0, 1) := dk_42 (dk_at dksX8_lies_0 5 rfl rfl)
theorem dX8_lies_6 : decode cX8_lies 6 = .ok (.iload_n 1, 1) := dk_27 (dk_at dksX8_lies_0 6 rfl rfl)
theorem dX8_lies_7 : decode cX8_lies 7 = .ok (.invokevirtual 420, 3) := dk_182 1 164 (dk_at dksX8_lies_0 7 rfl rfl)
theorem dX8_lies_10 : decode cX8_lies 10 = .ok (.ifCond .eq 12, 3) := dk_153 0 12 (dk_at dksX8_lies_0 10 rfl rfl)
theorem dX8_lies_13 : decode cX8_lies 13 = .ok (.iload_n 3, 1) := dk_29 (dk_at dksX8_lies_0 13 rfl rfl)
theorem dX8_lies_14 : decode cX8_lies 14 = .ok (.ifCond .lt 8, 3) := dk_155 0 8 (dk_at dksX8_lies_0 14 rfl rfl)
theorem dX8_lies_17 : decode cX8_lies 17 = .ok (.iload_n 3, 1) := dk_29 (dk_at dksX8_lies_0 17 rfl rfl)
theorem dX8_lies_18 : decode cX8_lies 18 = .ok (.iconst 1, 1) := dk_4 (dk_at dksX8_lies_0 18 rfl rfl)
theorem dX8_lies_19 : decode cX8_lies 19 = .ok (.if_icmp .le 9, 3) := dk_164 0 9 (dk_at dksX8_lies_0 19 rfl rfl)
theorem dX8_lies_22 : decode cX8_lies 22 = .ok (.aload_n 0, 1) := dk_42 (dk_at dksX8_lies_0 22 rfl rfl)
theorem dX8_lies_23 : decode cX8_lies 23 = .ok (.iconst 1, 1) := dk_4 (dk_at dksX8_lies_0 23 rfl rfl)
theorem dX8_lies_24 : decode cX8_lies 24 = .ok (.invokevirtual 302, 3) := dk_182 1 46 (dk_at dksX8_lies_1 0 rfl rfl)
theorem dX8_lies_27 : decode cX8_lies 27 = .ok (.ireturn, 1) := dk_172 (dk_at dksX8_lies_1 3 rfl rfl)
theorem dX8_lies_28 : decode cX8_lies 28 = .ok (.iload_n 2, 1) := dk_28 (dk_at dksX8_lies_1 4 rfl rfl)
theorem dX8_lies_29 : decode cX8_lies 29 = .ok (.i2l, 1) := dk_133 (dk_at dksX8_lies_1 5 rfl rfl)
theorem dX8_lies_30 : decode cX8_lies 30 = .ok (.lconst 0, 1) := dk_9 (dk_at dksX8_lies_1 6 rfl rfl)
theorem dX8_lies_31 : decode cX8_lies 31 = .ok (.aload_n 0, 1) := dk_42 (dk_at dksX8_lies_1 7 rfl rfl)
theorem dX8_lies_32 : decode cX8_lies 32 = .ok (.getfield 38, 3) := dk_180 0 38 (dk_at dksX8_lies_1 8 rfl rfl)
theorem dX8_lies_35 : decode cX8_lies 35 = .ok (.iconst 3, 1) := dk_6 (dk_at dksX8_lies_1 11 rfl rfl)
theorem dX8_lies_36 : decode cX8_lies 36 = .ok (.iaload, 1) := dk_46 (dk_at dksX8_lies_1 12 rfl rfl)
theorem dX8_lies_37 : decode cX8_lies 37 = .ok (.i2l, 1) := dk_133 (dk_at dksX8_lies_1 13 rfl rfl)
theorem dX8_lies_38 : decode cX8_lies 38 = .ok (.invokestatic 162, 3) := dk_184 0 162 (dk_at dksX8_lies_1 14 rfl rfl)
theorem dX8_lies_41 : decode cX8_lies 41 = .ok (.ifCond .ne 9, 3) := dk_154 0 9 (dk_at dksX8_lies_1 17 rfl rfl)
theorem dX8_lies_44 : decode cX8_lies 44 = .ok (.aload_n 0, 1) := dk_42 (dk_at dksX8_lies_1 20 rfl rfl)
theorem dX8_lies_45 : decode cX8_lies 45 = .ok (.iconst 2, 1) := dk_5 (dk_at dksX8_lies_1 21 rfl rfl)
theorem dX8_lies_46 : decode cX8_lies 46 = .ok (.invokevirtual 302, 3) := dk_182 1 46 (dk_at dksX8_lies_2 0 rfl rfl)
theorem dX8_lies_49 : decode cX8_lies 49 = .ok (.ireturn, 1) := dk_172 (dk_at dksX8_lies_2 3 rfl rfl)
theorem dX8_lies_50 : decode cX8_lies 50 = .ok (.aload_n 0, 1) := dk_42 (dk_at dksX8_lies_2 4 rfl rfl)
theorem dX8_lies_51 : decode cX8_lies 51 = .ok (.invokevirtual 413, 3) := dk_182 1 157 (dk_at dksX8_lies_2 5 rfl rfl)
theorem dX8_lies_54 : decode cX8_lies 54 = .ok (.aload_n 0, 1) := dk_42 (dk_at dksX8_lies_2 8 rfl rfl)
theorem dX8_lies_55 : decode cX8_lies 55 = .ok (.aload_n 0, 1) := dk_42 (dk_at dksX8_lies_2 9 rfl rfl)
theorem dX8_lies_56 : decode cX8_lies 56 = .ok (.getfield 315, 3) := dk_180 1 59 (dk_at dksX8_lies_2 10 rfl rfl)
theorem dX8_lies_59 : decode cX8_lies 59 = .ok (.iload_n 2, 1) := dk_28 (dk_at dksX8_lies_2 13 rfl rfl)
theorem dX8_lies_60 : decode cX8_lies 60 = .ok (.invokevirtual 416, 3) := dk_182 1 160 (dk_at dksX8_lies_2 14 rfl rfl)
theorem dX8_lies_63 : decode cX8_lies 63 = .ok (.iload_n 3, 1) := dk_29 (dk_at dksX8_lies_2 17 rfl rfl)
theorem dX8_lies_64 : decode cX8_lies 64 = .ok (.ifCond .ne 12, 3) := dk_154 0 12 (dk_at dksX8_lies_2 18 rfl rfl)
theorem dX8_lies_67 : decode cX8_lies 67 = .ok (.aload_n 0, 1) := dk_42 (dk_at dksX8_lies_2 21 rfl rfl)
theorem dX8_lies_68 : decode cX8_lies 68 = .ok (.getfield 96, 3) := dk_180 0 96 (dk_at dksX8_lies_3 0 rfl rfl)
theorem dX8_lies_71 : decode cX8_lies 71 = .ok (.iload_n 1, 1) := dk_27 (dk_at dksX8_lies_3 3 rfl rfl)
theorem dX8_lies_72 : decode cX8_lies 72 = .ok (.iaload, 1) := dk_46 (dk_at dksX8_lies_3 4 rfl rfl)
theorem dX8_lies_73 : decode cX8_lies 73 = .ok (.goto 16, 3) := dk_167 0 16 (dk_at dksX8_lies_3 5 rfl rfl)
theorem dX8_lies_76 : decode cX8_lies 76 = .ok (.aload_n 0, 1) := dk_42 (dk_at dksX8_lies_3 8 rfl rfl)
theorem dX8_lies_77 : decode cX8_lies 77 = .ok (.iload_n 1, 1) := dk_27 (dk_at dksX8_lies_3 9 rfl rfl)
theorem dX8_lies_78 : decode cX8_lies 78 = .ok (.invokevirtual 376, 3) := dk_182 1 120 (dk_at dksX8_lies_3 10 rfl rfl)
theorem dX8_lies_81 : decode cX8_lies 81 = .ok (.ifCond .eq 7, 3) := dk_153 0 7 (dk_at dksX8_lies_3 13 rfl rfl)
theorem dX8_lies_84 : decode cX8_lies 84 = .ok (.iconst 1, 1) := dk_4 (dk_at dksX8_lies_3 16 rfl rfl)
theorem dX8_lies_85 : decode cX8_lies 85 = .ok (.goto 4, 3) := dk_167 0 4 (dk_at dksX8_lies_3 17 rfl rfl)
theorem dX8_lies_88 : decode cX8_lies 88 = .ok (.iconst 0, 1) := dk_3 (dk_at dksX8_lies_3 20 rfl rfl)
theorem dX8_lies_89 : decode cX8_lies 89 = .ok (.ireturn, 1) := dk_172 (dk_at dksX8_lies_3 21 rfl rfl)
abbrev cX8_turn : ByteArray := prog_21_method_69_code
def yX8_turn : MethodName := ⟨RX8, "turn", "(II)I"⟩
def dkwX8_turn_4 : List UInt8 := [167, 0, 9, 42, 180, 0, 120, 27, 46, 172]
abbrev dktX8_turn_4 : List UInt8 := dkwX8_turn_4 ++ []
def dkwX8_turn_3 : List UInt8 := [160, 0, 12, 42, 180, 0, 114, 27, 46, 167, 0, 23, 28, 5, 160, 0, 12, 42, 180, 0, 117, 27, 46]
abbrev dktX8_turn_3 : List UInt8 := dkwX8_turn_3 ++ dktX8_turn_4
def dkwX8_turn_2 : List UInt8 := [154, 0, 9, 42, 4, 182, 1, 46, 172, 28, 154, 0, 12, 42, 180, 0, 111, 27, 46, 167, 0, 37, 28, 4]
abbrev dktX8_turn_2 : List UInt8 := dkwX8_turn_2 ++ dktX8_turn_3
def dkwX8_turn_1 : List UInt8 := [182, 1, 188, 27, 133, 9, 42, 180, 1, 109, 17, 4, 176, 184, 0, 196, 4, 100, 133, 184, 0, 162]
abbrev dktX8_turn_1 : List UInt8 := dkwX8_turn_1 ++ dktX8_turn_2
def dkwX8_turn_0 : List UInt8 := [42, 3, 181, 0, 159, 28, 133, 9, 20, 1, 186, 184, 0, 162, 154, 0, 9, 42, 4, 182, 1, 46, 172, 42]
abbrev dktX8_turn_0 : List UInt8 := dkwX8_turn_0 ++ dktX8_turn_1
theorem dksX8_turn_0 : cX8_turn.data.toList.drop 0 = dktX8_turn_0 := by decide +kernel
theorem dksX8_turn_1 : cX8_turn.data.toList.drop 24 = dktX8_turn_1 := dk_seg dksX8_turn_0 24 rfl rfl
theorem dksX8_turn_2 : cX8_turn.data.toList.drop 46 = dktX8_turn_2 := dk_seg dksX8_turn_1 22 rfl rfl
theorem dksX8_turn_3 : cX8_turn.data.toList.drop 70 = dktX8_turn_3 := dk_seg dksX8_turn_2 24 rfl rfl
theorem dksX8_turn_4 : cX8_turn.data.toList.drop 93 = dktX8_turn_4 := dk_seg dksX8_turn_3 23 rfl rfl
theorem dX8_turn_0 : decode cX8_turn 0 = .ok (.aload_n 0, 1) := dk_42 (dk_at dksX8_turn_0 0 rfl rfl)
theorem dX8_turn_1 : decode cX8_turn 1 = .ok (.iconst 0, 1) := dk_3 (dk_at dksX8_turn_0 1 rfl rfl)
theorem dX8_turn_2 : decode cX8_turn 2 = .ok (.putfield 159, 3) := dk_181 0 159 (dk_at dksX8_turn_0 2 rfl rfl)
theorem dX8_turn_5 : decode cX8_turn 5 = .ok (.iload_n 2, 1) := dk_28 (dk_at dksX8_turn_0 5 rfl rfl)
theorem dX8_turn_6 : decode cX8_turn 6 = .ok (.i2l, 1) := dk_133 (dk_at dksX8_turn_0 6 rfl rfl)
theorem dX8_turn_7 : decode cX8_turn 7 = .ok (.lconst 0, 1) := dk_9 (dk_at dksX8_turn_0 7 rfl rfl)
theorem dX8_turn_8 : decode cX8_turn 8 = .ok (.ldc2_w 442, 3) := dk_20 1 186 (dk_at dksX8_turn_0 8 rfl rfl)
theorem dX8_turn_11 : decode cX8_turn 11 = .ok (.invokestatic 162, 3) := dk_184 0 162 (dk_at dksX8_turn_0 11 rfl rfl)
theorem dX8_turn_14 : decode cX8_turn 14 = .ok (.ifCond .ne 9, 3) := dk_154 0 9 (dk_at dksX8_turn_0 14 rfl rfl)
theorem dX8_turn_17 : decode cX8_turn 17 = .ok (.aload_n 0, 1) := dk_42 (dk_at dksX8_turn_0 17 rfl rfl)
theorem dX8_turn_18 : decode cX8_turn 18 = .ok (.iconst 1, 1) := dk_4 (dk_at dksX8_turn_0 18 rfl rfl)
theorem dX8_turn_19 : decode cX8_turn 19 = .ok (.invokevirtual 302, 3) := dk_182 1 46 (dk_at dksX8_turn_0 19 rfl rfl)
theorem dX8_turn_22 : decode cX8_turn 22 = .ok (.ireturn, 1) := dk_172 (dk_at dksX8_turn_0 22 rfl rfl)
theorem dX8_turn_23 : decode cX8_turn 23 = .ok (.aload_n 0, 1) := dk_42 (dk_at dksX8_turn_0 23 rfl rfl)
theorem dX8_turn_24 : decode cX8_turn 24 = .ok (.invokevirtual 444, 3) := dk_182 1 188 (dk_at dksX8_turn_1 0 rfl rfl)
theorem dX8_turn_27 : decode cX8_turn 27 = .ok (.iload_n 1, 1) := dk_27 (dk_at dksX8_turn_1 3 rfl rfl)
theorem dX8_turn_28 : decode cX8_turn 28 = .ok (.i2l, 1) := dk_133 (dk_at dksX8_turn_1 4 rfl rfl)
theorem dX8_turn_29 : decode cX8_turn 29 = .ok (.lconst 0, 1) := dk_9 (dk_at dksX8_turn_1 5 rfl rfl)
theorem dX8_turn_30 : decode cX8_turn 30 = .ok (.aload_n 0, 1) := dk_42 (dk_at dksX8_turn_1 6 rfl rfl)
theorem dX8_turn_31 : decode cX8_turn 31 = .ok (.getfield 365, 3) := dk_180 1 109 (dk_at dksX8_turn_1 7 rfl rfl)
theorem dX8_turn_34 : decode cX8_turn 34 = .ok (.sipush 1200, 3) := dk_17 4 176 (dk_at dksX8_turn_1 10 rfl rfl)
theorem dX8_turn_37 : decode cX8_turn 37 = .ok (.invokestatic 196, 3) := dk_184 0 196 (dk_at dksX8_turn_1 13 rfl rfl)
theorem dX8_turn_40 : decode cX8_turn 40 = .ok (.iconst 1, 1) := dk_4 (dk_at dksX8_turn_1 16 rfl rfl)
theorem dX8_turn_41 : decode cX8_turn 41 = .ok (.isub, 1) := dk_100 (dk_at dksX8_turn_1 17 rfl rfl)
theorem dX8_turn_42 : decode cX8_turn 42 = .ok (.i2l, 1) := dk_133 (dk_at dksX8_turn_1 18 rfl rfl)
theorem dX8_turn_43 : decode cX8_turn 43 = .ok (.invokestatic 162, 3) := dk_184 0 162 (dk_at dksX8_turn_1 19 rfl rfl)
theorem dX8_turn_46 : decode cX8_turn 46 = .ok (.ifCond .ne 9, 3) := dk_154 0 9 (dk_at dksX8_turn_2 0 rfl rfl)
theorem dX8_turn_49 : decode cX8_turn 49 = .ok (.aload_n 0, 1) := dk_42 (dk_at dksX8_turn_2 3 rfl rfl)
theorem dX8_turn_50 : decode cX8_turn 50 = .ok (.iconst 1, 1) := dk_4 (dk_at dksX8_turn_2 4 rfl rfl)
theorem dX8_turn_51 : decode cX8_turn 51 = .ok (.invokevirtual 302, 3) := dk_182 1 46 (dk_at dksX8_turn_2 5 rfl rfl)
theorem dX8_turn_54 : decode cX8_turn 54 = .ok (.ireturn, 1) := dk_172 (dk_at dksX8_turn_2 8 rfl rfl)
theorem dX8_turn_55 : decode cX8_turn 55 = .ok (.iload_n 2, 1) := dk_28 (dk_at dksX8_turn_2 9 rfl rfl)
theorem dX8_turn_56 : decode cX8_turn 56 = .ok (.ifCond .ne 12, 3) := dk_154 0 12 (dk_at dksX8_turn_2 10 rfl rfl)
theorem dX8_turn_59 : decode cX8_turn 59 = .ok (.aload_n 0, 1) := dk_42 (dk_at dksX8_turn_2 13 rfl rfl)
theorem dX8_turn_60 : decode cX8_turn 60 = .ok (.getfield 111, 3) := dk_180 0 111 (dk_at dksX8_turn_2 14 rfl rfl)
theorem dX8_turn_63 : decode cX8_turn 63 = .ok (.iload_n 1, 1) := dk_27 (dk_at dksX8_turn_2 17 rfl rfl)
theorem dX8_turn_64 : decode cX8_turn 64 = .ok (.iaload, 1) := dk_46 (dk_at dksX8_turn_2 18 rfl rfl)
theorem dX8_turn_65 : decode cX8_turn 65 = .ok (.goto 37, 3) := dk_167 0 37 (dk_at dksX8_turn_2 19 rfl rfl)
theorem dX8_turn_68 : decode cX8_turn 68 = .ok (.iload_n 2, 1) := dk_28 (dk_at dksX8_turn_2 22 rfl rfl)
theorem dX8_turn_69 : decode cX8_turn 69 = .ok (.iconst 1, 1) := dk_4 (dk_at dksX8_turn_2 23 rfl rfl)
theorem dX8_turn_70 : decode cX8_turn 70 = .ok (.if_icmp .ne 12, 3) := dk_160 0 12 (dk_at dksX8_turn_3 0 rfl rfl)
theorem dX8_turn_73 : decode cX8_turn 73 = .ok (.aload_n 0, 1) := dk_42 (dk_at dksX8_turn_3 3 rfl rfl)
theorem dX8_turn_74 : decode cX8_turn 74 = .ok (.getfield 114, 3) := dk_180 0 114 (dk_at dksX8_turn_3 4 rfl rfl)
theorem dX8_turn_77 : decode cX8_turn 77 = .ok (.iload_n 1, 1) := dk_27 (dk_at dksX8_turn_3 7 rfl rfl)
theorem dX8_turn_78 : decode cX8_turn 78 = .ok (.iaload, 1) := dk_46 (dk_at dksX8_turn_3 8 rfl rfl)
theorem dX8_turn_79 : decode cX8_turn 79 = .ok (.goto 23, 3) := dk_167 0 23 (dk_at dksX8_turn_3 9 rfl rfl)
theorem dX8_turn_82 : decode cX8_turn 82 = .ok (.iload_n 2, 1) := dk_28 (dk_at dksX8_turn_3 12 rfl rfl)
theorem dX8_turn_83 : decode cX8_turn 83 = .ok (.iconst 2, 1) := dk_5 (dk_at dksX8_turn_3 13 rfl rfl)
theorem dX8_turn_84 : decode cX8_turn 84 = .ok (.if_icmp .ne 12, 3) := dk_160 0 12 (dk_at dksX8_turn_3 14 rfl rfl)
theorem dX8_turn_87 : decode cX8_turn 87 = .ok (.aload_n 0, 1) := dk_42 (dk_at dksX8_turn_3 17 rfl rfl)
theorem dX8_turn_88 : decode cX8_turn 88 = .ok (.getfield 117, 3) := dk_180 0 117 (dk_at dksX8_turn_3 18 rfl rfl)
theorem dX8_turn_91 : decode cX8_turn 91 = .ok (.iload_n 1, 1) := dk_27 (dk_at dksX8_turn_3 21 rfl rfl)
theorem dX8_turn_92 : decode cX8_turn 92 = .ok (.iaload, 1) := dk_46 (dk_at dksX8_turn_3 22 rfl rfl)
theorem dX8_turn_93 : decode cX8_turn 93 = .ok (.goto 9, 3) := dk_167 0 9 (dk_at dksX8_turn_4 0 rfl rfl)
theorem dX8_turn_96 : decode cX8_turn 96 = .ok (.aload_n 0, 1) := dk_42 (dk_at dksX8_turn_4 3 rfl rfl)
theorem dX8_turn_97 : decode cX8_turn 97 = .ok (.getfield 120, 3) := dk_180 0 120 (dk_at dksX8_turn_4 4 rfl rfl)
theorem dX8_turn_100 : decode cX8_turn 100 = .ok (.iload_n 1, 1) := dk_27 (dk_at dksX8_turn_4 7 rfl rfl)
theorem dX8_turn_101 : decode cX8_turn 101 = .ok (.iaload, 1) := dk_46 (dk_at dksX8_turn_4 8 rfl rfl)
theorem dX8_turn_102 : decode cX8_turn 102 = .ok (.ireturn, 1) := dk_172 (dk_at dksX8_turn_4 9 rfl rfl)
abbrev cX8_orders : ByteArray := prog_21_method_75_code
def yX8_orders : MethodName := ⟨RX8, "orders", "()I"⟩
def dkwX8_orders_1 : List UInt8 := [42, 180, 1, 200, 172]
abbrev dktX8_orders_1 : List UInt8 := dkwX8_orders_1 ++ []
def dkwX8_orders_0 : List UInt8 := [42, 3, 181, 0, 159, 42, 180, 0, 38, 3, 46, 16, 6, 164, 0, 6, 16, 254, 172, 42, 3, 182, 1, 213]
abbrev dktX8_orders_0 : List UInt8 := dkwX8_orders_0 ++ dktX8_orders_1
theorem dksX8_orders_0 : cX8_orders.data.toList.drop 0 = dktX8_orders_0 := by decide +kernel
theorem dksX8_orders_1 : cX8_orders.data.toList.drop 24 = dktX8_orders_1 := dk_seg dksX8_orders_0 24 rfl rfl
theorem dX8_orders_0 : decode cX8_orders 0 = .ok (.aload_n 0, 1) := dk_42 (dk_at dksX8_orders_0 0 rfl rfl)
theorem dX8_orders_1 : decode cX8_orders 1 = .ok (.iconst 0, 1) := dk_3 (dk_at dksX8_orders_0 1 rfl rfl)
theorem dX8_orders_2 : decode cX8_orders 2 = .ok (.putfield 159, 3) := dk_181 0 159 (dk_at dksX8_orders_0 2 rfl rfl)
theorem dX8_orders_5 : decode cX8_orders 5 = .ok (.aload_n 0, 1) := dk_42 (dk_at dksX8_orders_0 5 rfl rfl)
theorem dX8_orders_6 : decode cX8_orders 6 = .ok (.getfield 38, 3) := dk_180 0 38 (dk_at dksX8_orders_0 6 rfl rfl)
theorem dX8_orders_9 : decode cX8_orders 9 = .ok (.iconst 0, 1) := dk_3 (dk_at dksX8_orders_0 9 rfl rfl)
theorem dX8_orders_10 : decode cX8_orders 10 = .ok (.iaload, 1) := dk_46 (dk_at dksX8_orders_0 10 rfl rfl)
theorem dX8_orders_11 : decode cX8_orders 11 = .ok (.bipush 6, 2) := dk_16 6 (dk_at dksX8_orders_0 11 rfl rfl)
theorem dX8_orders_13 : decode cX8_orders 13 = .ok (.if_icmp .le 6, 3) := dk_164 0 6 (dk_at dksX8_orders_0 13 rfl rfl)
theorem dX8_orders_16 : decode cX8_orders 16 = .ok (.bipush (-2), 2) := dk_16 254 (dk_at dksX8_orders_0 16 rfl rfl)
theorem dX8_orders_18 : decode cX8_orders 18 = .ok (.ireturn, 1) := dk_172 (dk_at dksX8_orders_0 18 rfl rfl)
theorem dX8_orders_19 : decode cX8_orders 19 = .ok (.aload_n 0, 1) := dk_42 (dk_at dksX8_orders_0 19 rfl rfl)
theorem dX8_orders_20 : decode cX8_orders 20 = .ok (.iconst 0, 1) := dk_3 (dk_at dksX8_orders_0 20 rfl rfl)
theorem dX8_orders_21 : decode cX8_orders 21 = .ok (.invokevirtual 469, 3) := dk_182 1 213 (dk_at dksX8_orders_0 21 rfl rfl)
theorem dX8_orders_24 : decode cX8_orders 24 = .ok (.aload_n 0, 1) := dk_42 (dk_at dksX8_orders_1 0 rfl rfl)
theorem dX8_orders_25 : decode cX8_orders 25 = .ok (.getfield 456, 3) := dk_180 1 200 (dk_at dksX8_orders_1 1 rfl rfl)
theorem dX8_orders_28 : decode cX8_orders 28 = .ok (.ireturn, 1) := dk_172 (dk_at dksX8_orders_1 4 rfl rfl)
abbrev cX8_tellOrders : ByteArray := prog_21_method_73_code
def yX8_tellOrders : MethodName := ⟨RX8, "tellOrders", "(I)V"⟩
def dkwX8_tellOrders_0 : List UInt8 := [42, 182, 1, 157, 42, 3, 181, 1, 200, 42, 3, 4, 42, 180, 1, 85, 120, 4, 100, 27, 182, 1, 209, 177]
abbrev dktX8_tellOrders_0 : List UInt8 := dkwX8_tellOrders_0 ++ []
theorem dksX8_tellOrders_0 : cX8_tellOrders.data.toList.drop 0 = dktX8_tellOrders_0 := by decide +kernel
theorem dX8_tellOrders_0 : decode cX8_tellOrders 0 = .ok (.aload_n 0, 1) := dk_42 (dk_at dksX8_tellOrders_0 0 rfl rfl)
theorem dX8_tellOrders_1 : decode cX8_tellOrders 1 = .ok (.invokevirtual 413, 3) := dk_182 1 157 (dk_at dksX8_tellOrders_0 1 rfl rfl)
theorem dX8_tellOrders_4 : decode cX8_tellOrders 4 = .ok (.aload_n 0, 1) := dk_42 (dk_at dksX8_tellOrders_0 4 rfl rfl)
theorem dX8_tellOrders_5 : decode cX8_tellOrders 5 = .ok (.iconst 0, 1) := dk_3 (dk_at dksX8_tellOrders_0 5 rfl rfl)
theorem dX8_tellOrders_6 : decode cX8_tellOrders 6 = .ok (.putfield 456, 3) := dk_181 1 200 (dk_at dksX8_tellOrders_0 6 rfl rfl)
theorem dX8_tellOrders_9 : decode cX8_tellOrders 9 = .ok (.aload_n 0, 1) := dk_42 (dk_at dksX8_tellOrders_0 9 rfl rfl)
theorem dX8_tellOrders_10 : decode cX8_tellOrders 10 = .ok (.iconst 0, 1) := dk_3 (dk_at dksX8_tellOrders_0 10 rfl rfl)
theorem dX8_tellOrders_11 : decode cX8_tellOrders 11 = .ok (.iconst 1, 1) := dk_4 (dk_at dksX8_tellOrders_0 11 rfl rfl)
theorem dX8_tellOrders_12 : decode cX8_tellOrders 12 = .ok (.aload_n 0, 1) := dk_42 (dk_at dksX8_tellOrders_0 12 rfl rfl)
theorem dX8_tellOrders_13 : decode cX8_tellOrders 13 = .ok (.getfield 341, 3) := dk_180 1 85 (dk_at dksX8_tellOrders_0 13 rfl rfl)
theorem dX8_tellOrders_16 : decode cX8_tellOrders 16 = .ok (.ishl, 1) := dk_120 (dk_at dksX8_tellOrders_0 16 rfl rfl)
theorem dX8_tellOrders_17 : decode cX8_tellOrders 17 = .ok (.iconst 1, 1) := dk_4 (dk_at dksX8_tellOrders_0 17 rfl rfl)
theorem dX8_tellOrders_18 : decode cX8_tellOrders 18 = .ok (.isub, 1) := dk_100 (dk_at dksX8_tellOrders_0 18 rfl rfl)
theorem dX8_tellOrders_19 : decode cX8_tellOrders 19 = .ok (.iload_n 1, 1) := dk_27 (dk_at dksX8_tellOrders_0 19 rfl rfl)
theorem dX8_tellOrders_20 : decode cX8_tellOrders 20 = .ok (.invokevirtual 465, 3) := dk_182 1 209 (dk_at dksX8_tellOrders_0 20 rfl rfl)
theorem dX8_tellOrders_23 : decode cX8_tellOrders 23 = .ok (.return_, 1) := dk_177 (dk_at dksX8_tellOrders_0 23 rfl rfl)
abbrev cX8_orderOn : ByteArray := prog_21_method_72_code
def yX8_orderOn : MethodName := ⟨RX8, "orderOn", "(III)V"⟩
def dkwX8_orderOn_7 : List UInt8 := [120, 2, 130, 126, 29, 182, 1, 209, 132, 4, 1, 167, 255, 175, 177]
abbrev dktX8_orderOn_7 : List UInt8 := dkwX8_orderOn_7 ++ []
def dkwX8_orderOn_6 : List UInt8 := [126, 4, 160, 0, 6, 167, 0, 27, 42, 180, 0, 90, 27, 21, 4, 79, 42, 27, 4, 96, 28, 4, 21, 4]
abbrev dktX8_orderOn_6 : List UInt8 := dkwX8_orderOn_6 ++ dktX8_orderOn_7
def dkwX8_orderOn_5 : List UInt8 := [162, 0, 32, 27, 158, 0, 28, 42, 180, 0, 59, 42, 180, 0, 90, 27, 4, 100, 46, 46, 21, 4, 122, 4]
abbrev dktX8_orderOn_5 : List UInt8 := dkwX8_orderOn_5 ++ dktX8_orderOn_6
def dkwX8_orderOn_4 : List UInt8 := [21, 4, 42, 180, 0, 38, 3, 46, 162, 0, 76, 28, 21, 4, 122, 4, 126, 153, 0, 61, 29, 5]
abbrev dktX8_orderOn_4 : List UInt8 := dkwX8_orderOn_4 ++ dktX8_orderOn_5
def dkwX8_orderOn_3 : List UInt8 := [180, 0, 126, 21, 5, 42, 180, 0, 90, 21, 5, 46, 79, 132, 5, 1, 167, 255, 230, 177, 3, 54, 4]
abbrev dktX8_orderOn_3 : List UInt8 := dkwX8_orderOn_3 ++ dktX8_orderOn_4
def dkwX8_orderOn_2 : List UInt8 := [161, 0, 4, 177, 42, 21, 4, 181, 1, 206, 3, 54, 5, 21, 5, 42, 180, 1, 85, 162, 0, 23, 42]
abbrev dktX8_orderOn_2 : List UInt8 := dkwX8_orderOn_2 ++ dktX8_orderOn_3
def dkwX8_orderOn_1 : List UInt8 := [167, 0, 8, 42, 29, 182, 1, 203, 54, 4, 42, 180, 1, 200, 4, 164, 0, 13, 21, 4, 42, 180, 1, 206]
abbrev dktX8_orderOn_1 : List UInt8 := dkwX8_orderOn_1 ++ dktX8_orderOn_2
def dkwX8_orderOn_0 : List UInt8 := [27, 42, 180, 1, 85, 160, 0, 85, 42, 89, 180, 1, 200, 4, 96, 181, 1, 200, 29, 154, 0, 7, 3]
abbrev dktX8_orderOn_0 : List UInt8 := dkwX8_orderOn_0 ++ dktX8_orderOn_1
theorem dksX8_orderOn_0 : cX8_orderOn.data.toList.drop 0 = dktX8_orderOn_0 := by decide +kernel
theorem dksX8_orderOn_1 : cX8_orderOn.data.toList.drop 23 = dktX8_orderOn_1 := dk_seg dksX8_orderOn_0 23 rfl rfl
theorem dksX8_orderOn_2 : cX8_orderOn.data.toList.drop 47 = dktX8_orderOn_2 := dk_seg dksX8_orderOn_1 24 rfl rfl
theorem dksX8_orderOn_3 : cX8_orderOn.data.toList.drop 70 = dktX8_orderOn_3 := dk_seg dksX8_orderOn_2 23 rfl rfl
theorem dksX8_orderOn_4 : cX8_orderOn.data.toList.drop 93 = dktX8_orderOn_4 := dk_seg dksX8_orderOn_3 23 rfl rfl
theorem dksX8_orderOn_5 : cX8_orderOn.data.toList.drop 115 = dktX8_orderOn_5 := dk_seg dksX8_orderOn_4 22 rfl rfl
theorem dksX8_orderOn_6 : cX8_orderOn.data.toList.drop 139 = dktX8_orderOn_6 := dk_seg dksX8_orderOn_5 24 rfl rfl
theorem dksX8_orderOn_7 : cX8_orderOn.data.toList.drop 163 = dktX8_orderOn_7 := dk_seg dksX8_orderOn_6 24 rfl rfl
theorem dX8_orderOn_0 : decode cX8_orderOn 0 = .ok (.iload_n 1, 1) := dk_27 (dk_at dksX8_orderOn_0 0 rfl rfl)
theorem dX8_orderOn_1 : decode cX8_orderOn 1 = .ok (.aload_n 0, 1) := dk_42 (dk_at dksX8_orderOn_0 1 rfl rfl)
theorem dX8_orderOn_2 : decode cX8_orderOn 2 = .ok (.getfield 341, 3) := dk_180 1 85 (dk_at dksX8_orderOn_0 2 rfl rfl)
theorem dX8_orderOn_5 : decode cX8_orderOn 5 = .ok (.if_icmp .ne 85, 3) := dk_160 0 85 (dk_at dksX8_orderOn_0 5 rfl rfl)
theorem dX8_orderOn_8 : decode cX8_orderOn 8 = .ok (.aload_n 0, 1) := dk_42 (dk_at dksX8_orderOn_0 8 rfl rfl)
theorem dX8_orderOn_9 : decode cX8_orderOn 9 = .ok (.dup, 1) := dk_89 (dk_at dksX8_orderOn_0 9 rfl rfl)
theorem dX8_orderOn_10 : decode cX8_orderOn 10 = .ok (.getfield 456, 3) := dk_180 1 200 (dk_at dksX8_orderOn_0 10 rfl rfl)
theorem dX8_orderOn_13 : decode cX8_orderOn 13 = .ok (.iconst 1, 1) := dk_4 (dk_at dksX8_orderOn_0 13 rfl rfl)
theorem dX8_orderOn_14 : decode cX8_orderOn 14 = .ok (.iadd, 1) := dk_96 (dk_at dksX8_orderOn_0 14 rfl rfl)
theorem dX8_orderOn_15 : decode cX8_orderOn 15 = .ok (.putfield 456, 3) := dk_181 1 200 (dk_at dksX8_orderOn_0 15 rfl rfl)
theorem dX8_orderOn_18 : decode cX8_orderOn 18 = .ok (.iload_n 3, 1) := dk_29 (dk_at dksX8_orderOn_0 18 rfl rfl)
theorem dX8_orderOn_19 : decode cX8_orderOn 19 = .ok (.ifCond .ne 7, 3) := dk_154 0 7 (dk_at dksX8_orderOn_0 19 rfl rfl)
theorem dX8_orderOn_22 : decode cX8_orderOn 22 = .ok (.iconst 0, 1) := dk_3 (dk_at dksX8_orderOn_0 22 rfl rfl)
theorem dX8_orderOn_23 : decode cX8_orderOn 23 = .ok (.goto 8, 3) := dk_167 0 8 (dk_at dksX8_orderOn_1 0 rfl rfl)
theorem dX8_orderOn_26 : decode cX8_orderOn 26 = .ok (.aload_n 0, 1) := dk_42 (dk_at dksX8_orderOn_1 3 rfl rfl)
theorem dX8_orderOn_27 : decode cX8_orderOn 27 = .ok (.iload_n 3, 1) := dk_29 (dk_at dksX8_orderOn_1 4 rfl rfl)
theorem dX8_orderOn_28 : decode cX8_orderOn 28 = .ok (.invokevirtual 459, 3) := dk_182 1 203 (dk_at dksX8_orderOn_1 5 rfl rfl)
theorem dX8_orderOn_31 : decode cX8_orderOn 31 = .ok (.istore 4, 2) := dk_54 4 (dk_at dksX8_orderOn_1 8 rfl rfl)
theorem dX8_orderOn_33 : decode cX8_orderOn 33 = .ok (.aload_n 0, 1) := dk_42 (dk_at dksX8_orderOn_1 10 rfl rfl)
theorem dX8_orderOn_34 : decode cX8_orderOn 34 = .ok (.getfield 456, 3) := dk_180 1 200 (dk_at dksX8_orderOn_1 11 rfl rfl)
theorem dX8_orderOn_37 : decode cX8_orderOn 37 = .ok (.iconst 1, 1) := dk_4 (dk_at dksX8_orderOn_1 14 rfl rfl)
theorem dX8_orderOn_38 : decode cX8_orderOn 38 = .ok (.if_icmp .le 13, 3) := dk_164 0 13 (dk_at dksX8_orderOn_1 15 rfl rfl)
theorem dX8_orderOn_41 : decode cX8_orderOn 41 = .ok (.iload 4, 2) := dk_21 4 (dk_at dksX8_orderOn_1 18 rfl rfl)
theorem dX8_orderOn_43 : decode cX8_orderOn 43 = .ok (.aload_n 0, 1) := dk_42 (dk_at dksX8_orderOn_1 20 rfl rfl)
theorem dX8_orderOn_44 : decode cX8_orderOn 44 = .ok (.getfield 462, 3) := dk_180 1 206 (dk_at dksX8_orderOn_1 21 rfl rfl)
theorem dX8_orderOn_47 : decode cX8_orderOn 47 = .ok (.if_icmp .lt 4, 3) := dk_161 0 4 (dk_at dksX8_orderOn_2 0 rfl rfl)
theorem dX8_orderOn_50 : decode cX8_orderOn 50 = .ok (.return_, 1) := dk_177 (dk_at dksX8_orderOn_2 3 rfl rfl)
theorem dX8_orderOn_51 : decode cX8_orderOn 51 = .ok (.aload_n 0, 1) := dk_42 (dk_at dksX8_orderOn_2 4 rfl rfl)
theorem dX8_orderOn_52 : decode cX8_orderOn 52 = .ok (.iload 4, 2) := dk_21 4 (dk_at dksX8_orderOn_2 5 rfl rfl)
theorem dX8_orderOn_54 : decode cX8_orderOn 54 = .ok (.putfield 462, 3) := dk_181 1 206 (dk_at dksX8_orderOn_2 7 rfl rfl)
theorem dX8_orderOn_57 : decode cX8_orderOn 57 = .ok (.iconst 0, 1) := dk_3 (dk_at dksX8_orderOn_2 10 rfl rfl)
theorem dX8_orderOn_58 : decode cX8_orderOn 58 = .ok (.istore 5, 2) := dk_54 5 (dk_at dksX8_orderOn_2 11 rfl rfl)
theorem dX8_orderOn_60 : decode cX8_orderOn 60 = .ok (.iload 5, 2) := dk_21 5 (dk_at dksX8_orderOn_2 13 rfl rfl)
theorem dX8_orderOn_62 : decode cX8_orderOn 62 = .ok (.aload_n 0, 1) := dk_42 (dk_at dksX8_orderOn_2 15 rfl rfl)
theorem dX8_orderOn_63 : decode cX8_orderOn 63 = .ok (.getfield 341, 3) := dk_180 1 85 (dk_at dksX8_orderOn_2 16 rfl rfl)
theorem dX8_orderOn_66 : decode cX8_orderOn 66 = .ok (.if_icmp .ge 23, 3) := dk_162 0 23 (dk_at dksX8_orderOn_2 19 rfl rfl)
theorem dX8_orderOn_69 : decode cX8_orderOn 69 = .ok (.aload_n 0, 1) := dk_42 (dk_at dksX8_orderOn_2 22 rfl rfl)
theorem dX8_orderOn_70 : decode cX8_orderOn 70 = .ok (.getfield 126, 3) := dk_180 0 126 (dk_at dksX8_orderOn_3 0 rfl rfl)
theorem dX8_orderOn_73 : decode cX8_orderOn 73 = .ok (.iload 5, 2) := dk_21 5 (dk_at dksX8_orderOn_3 3 rfl rfl)
theorem dX8_orderOn_75 : decode cX8_orderOn 75 = .ok (.aload_n 0, 1) := dk_42 (dk_at dksX8_orderOn_3 5 rfl rfl)
theorem dX8_orderOn_76 : decode cX8_orderOn 76 = .ok (.getfield 90, 3) := dk_180 0 90 (dk_at dksX8_orderOn_3 6 rfl rfl)
theorem dX8_orderOn_79 : decode cX8_orderOn 79 = .ok (.iload 5, 2) := dk_21 5 (dk_at dksX8_orderOn_3 9 rfl rfl)
theorem dX8_orderOn_81 : decode cX8_orderOn 81 = .ok (.iaload, 1) := dk_46 (dk_at dksX8_orderOn_3 11 rfl rfl)
theorem dX8_orderOn_82 : decode cX8_orderOn 82 = .ok (.iastore, 1) := dk_79 (dk_at dksX8_orderOn_3 12 rfl rfl)
theorem dX8_orderOn_83 : decode cX8_orderOn 83 = .ok (.iinc 5 1, 3) := dk_132 5 1 (dk_at dksX8_orderOn_3 13 rfl rfl)
theorem dX8_orderOn_86 : decode cX8_orderOn 86 = .ok (.goto (-26), 3) := dk_167 255 230 (dk_at dksX8_orderOn_3 16 rfl rfl)
theorem dX8_orderOn_89 : decode cX8_orderOn 89 = .ok (.return_, 1) := dk_177 (dk_at dksX8_orderOn_3 19 rfl rfl)
theorem dX8_orderOn_90 : decode cX8_orderOn 90 = .ok (.iconst 0, 1) := dk_3 (dk_at dksX8_orderOn_3 20 rfl rfl)
theorem dX8_orderOn_91 : decode cX8_orderOn 91 = .ok (.istore 4, 2) := dk_54 4 (dk_at dksX8_orderOn_3 21 rfl rfl)
theorem dX8_orderOn_93 : decode cX8_orderOn 93 = .ok (.iload 4, 2) := dk_21 4 (dk_at dksX8_orderOn_4 0 rfl rfl)
theorem dX8_orderOn_95 : decode cX8_orderOn 95 = .ok (.aload_n 0, 1) := dk_42 (dk_at dksX8_orderOn_4 2 rfl rfl)
theorem dX8_orderOn_96 : decode cX8_orderOn 96 = .ok (.getfield 38, 3) := dk_180 0 38 (dk_at dksX8_orderOn_4 3 rfl rfl)
theorem dX8_orderOn_99 : decode cX8_orderOn 99 = .ok (.iconst 0, 1) := dk_3 (dk_at dksX8_orderOn_4 6 rfl rfl)
theorem dX8_orderOn_100 : decode cX8_orderOn 100 = .ok (.iaload, 1) := dk_46 (dk_at dksX8_orderOn_4 7 rfl rfl)
theorem dX8_orderOn_101 : decode cX8_orderOn 101 = .ok (.if_icmp .ge 76, 3) := dk_162 0 76 (dk_at dksX8_orderOn_4 8 rfl rfl)
theorem dX8_orderOn_104 : decode cX8_orderOn 104 = .ok (.iload_n 2, 1) := dk_28 (dk_at dksX8_orderOn_4 11 rfl rfl)
theorem dX8_orderOn_105 : decode cX8_orderOn 105 = .ok (.iload 4, 2) := dk_21 4 (dk_at dksX8_orderOn_4 12 rfl rfl)
theorem dX8_orderOn_107 : decode cX8_orderOn 107 = .ok (.ishr, 1) := dk_122 (dk_at dksX8_orderOn_4 14 rfl rfl)
theorem dX8_orderOn_108 : decode cX8_orderOn 108 = .ok (.iconst 1, 1) := dk_4 (dk_at dksX8_orderOn_4 15 rfl rfl)
theorem dX8_orderOn_109 : decode cX8_orderOn 109 = .ok (.iand, 1) := dk_126 (dk_at dksX8_orderOn_4 16 rfl rfl)
theorem dX8_orderOn_110 : decode cX8_orderOn 110 = .ok (.ifCond .eq 61, 3) := dk_153 0 61 (dk_at dksX8_orderOn_4 17 rfl rfl)
theorem dX8_orderOn_113 : decode cX8_orderOn 113 = .ok (.iload_n 3, 1) := dk_29 (dk_at dksX8_orderOn_4 20 rfl rfl)
theorem dX8_orderOn_114 : decode cX8_orderOn 114 = .ok (.iconst 2, 1) := dk_5 (dk_at dksX8_orderOn_4 21 rfl rfl)
theorem dX8_orderOn_115 : decode cX8_orderOn 115 = .ok (.if_icmp .ge 32, 3) := dk_162 0 32 (dk_at dksX8_orderOn_5 0 rfl rfl)
theorem dX8_orderOn_118 : decode cX8_orderOn 118 = .ok (.iload_n 1, 1) := dk_27 (dk_at dksX8_orderOn_5 3 rfl rfl)
theorem dX8_orderOn_119 : decode cX8_orderOn 119 = .ok (.ifCond .le 28, 3) := dk_158 0 28 (dk_at dksX8_orderOn_5 4 rfl rfl)
theorem dX8_orderOn_122 : decode cX8_orderOn 122 = .ok (.aload_n 0, 1) := dk_42 (dk_at dksX8_orderOn_5 7 rfl rfl)
theorem dX8_orderOn_123 : decode cX8_orderOn 123 = .ok (.getfield 59, 3) := dk_180 0 59 (dk_at dksX8_orderOn_5 8 rfl rfl)
theorem dX8_orderOn_126 : decode cX8_orderOn 126 = .ok (.aload_n 0, 1) := dk_42 (dk_at dksX8_orderOn_5 11 rfl rfl)
theorem dX8_orderOn_127 : decode cX8_orderOn 127 = .ok (.getfield 90, 3) := dk_180 0 90 (dk_at dksX8_orderOn_5 12 rfl rfl)
theorem dX8_orderOn_130 : decode cX8_orderOn 130 = .ok (.iload_n 1, 1) := dk_27 (dk_at dksX8_orderOn_5 15 rfl rfl)
theorem dX8_orderOn_131 : decode cX8_orderOn 131 = .ok (.iconst 1, 1) := dk_4 (dk_at dksX8_orderOn_5 16 rfl rfl)
theorem dX8_orderOn_132 : decode cX8_orderOn 132 = .ok (.isub, 1) := dk_100 (dk_at dksX8_orderOn_5 17 rfl rfl)
theorem dX8_orderOn_133 : decode cX8_orderOn 133 = .ok (.iaload, 1) := dk_46 (dk_at dksX8_orderOn_5 18 rfl rfl)
theorem dX8_orderOn_134 : decode cX8_orderOn 134 = .ok (.iaload, 1) := dk_46 (dk_at dksX8_orderOn_5 19 rfl rfl)
theorem dX8_orderOn_135 : decode cX8_orderOn 135 = .ok (.iload 4, 2) := dk_21 4 (dk_at dksX8_orderOn_5 20 rfl rfl)
theorem dX8_orderOn_137 : decode cX8_orderOn 137 = .ok (.ishr, 1) := dk_122 (dk_at dksX8_orderOn_5 22 rfl rfl)
theorem dX8_orderOn_138 : decode cX8_orderOn 138 = .ok (.iconst 1, 1) := dk_4 (dk_at dksX8_orderOn_5 23 rfl rfl)
theorem dX8_orderOn_139 : decode cX8_orderOn 139 = .ok (.iand, 1) := dk_126 (dk_at dksX8_orderOn_6 0 rfl rfl)
theorem dX8_orderOn_140 : decode cX8_orderOn 140 = .ok (.iconst 1, 1) := dk_4 (dk_at dksX8_orderOn_6 1 rfl rfl)
theorem dX8_orderOn_141 : decode cX8_orderOn 141 = .ok (.if_icmp .ne 6, 3) := dk_160 0 6 (dk_at dksX8_orderOn_6 2 rfl rfl)
theorem dX8_orderOn_144 : decode cX8_orderOn 144 = .ok (.goto 27, 3) := dk_167 0 27 (dk_at dksX8_orderOn_6 5 rfl rfl)
theorem dX8_orderOn_147 : decode cX8_orderOn 147 = .ok (.aload_n 0, 1) := dk_42 (dk_at dksX8_orderOn_6 8 rfl rfl)
theorem dX8_orderOn_148 : decode cX8_orderOn 148 = .ok (.getfield 90, 3) := dk_180 0 90 (dk_at dksX8_orderOn_6 9 rfl rfl)
theorem dX8_orderOn_151 : decode cX8_orderOn 151 = .ok (.iload_n 1, 1) := dk_27 (dk_at dksX8_orderOn_6 12 rfl rfl)
theorem dX8_orderOn_152 : decode cX8_orderOn 152 = .ok (.iload 4, 2) := dk_21 4 (dk_at dksX8_orderOn_6 13 rfl rfl)
theorem dX8_orderOn_154 : decode cX8_orderOn 154 = .ok (.iastore, 1) := dk_79 (dk_at dksX8_orderOn_6 15 rfl rfl)
theorem dX8_orderOn_155 : decode cX8_orderOn 155 = .ok (.aload_n 0, 1) := dk_42 (dk_at dksX8_orderOn_6 16 rfl rfl)
theorem dX8_orderOn_156 : decode cX8_orderOn 156 = .ok (.iload_n 1, 1) := dk_27 (dk_at dksX8_orderOn_6 17 rfl rfl)
theorem dX8_orderOn_157 : decode cX8_orderOn 157 = .ok (.iconst 1, 1) := dk_4 (dk_at dksX8_orderOn_6 18 rfl rfl)
theorem dX8_orderOn_158 : decode cX8_orderOn 158 = .ok (.iadd, 1) := dk_96 (dk_at dksX8_orderOn_6 19 rfl rfl)
theorem dX8_orderOn_159 : decode cX8_orderOn 159 = .ok (.iload_n 2, 1) := dk_28 (dk_at dksX8_orderOn_6 20 rfl rfl)
theorem dX8_orderOn_160 : decode cX8_orderOn 160 = .ok (.iconst 1, 1) := dk_4 (dk_at dksX8_orderOn_6 21 rfl rfl)
theorem dX8_orderOn_161 : decode cX8_orderOn 161 = .ok (.iload 4, 2) := dk_21 4 (dk_at dksX8_orderOn_6 22 rfl rfl)
theorem dX8_orderOn_163 : decode cX8_orderOn 163 = .ok (.ishl, 1) := dk_120 (dk_at dksX8_orderOn_7 0 rfl rfl)
theorem dX8_orderOn_164 : decode cX8_orderOn 164 = .ok (.iconst (-1), 1) := dk_2 (dk_at dksX8_orderOn_7 1 rfl rfl)
theorem dX8_orderOn_165 : decode cX8_orderOn 165 = .ok (.ixor, 1) := dk_130 (dk_at dksX8_orderOn_7 2 rfl rfl)
theorem dX8_orderOn_166 : decode cX8_orderOn 166 = .ok (.iand, 1) := dk_126 (dk_at dksX8_orderOn_7 3 rfl rfl)
theorem dX8_orderOn_167 : decode cX8_orderOn 167 = .ok (.iload_n 3, 1) := dk_29 (dk_at dksX8_orderOn_7 4 rfl rfl)
theorem dX8_orderOn_168 : decode cX8_orderOn 168 = .ok (.invokevirtual 465, 3) := dk_182 1 209 (dk_at dksX8_orderOn_7 5 rfl rfl)
theorem dX8_orderOn_171 : decode cX8_orderOn 171 = .ok (.iinc 4 1, 3) := dk_132 4 1 (dk_at dksX8_orderOn_7 8 rfl rfl)
theorem dX8_orderOn_174 : decode cX8_orderOn 174 = .ok (.goto (-81), 3) := dk_167 255 175 (dk_at dksX8_orderOn_7 11 rfl rfl)
theorem dX8_orderOn_177 : decode cX8_orderOn 177 = .ok (.return_, 1) := dk_177 (dk_at dksX8_orderOn_7 14 rfl rfl)
abbrev cX8_valueOf : ByteArray := prog_21_method_70_code
def yX8_valueOf : MethodName := ⟨RX8, "valueOf", "(I)I"⟩
def dkwX8_valueOf_1 : List UInt8 := [42, 182, 1, 191, 172]
abbrev dktX8_valueOf_1 : List UInt8 := dkwX8_valueOf_1 ++ []
def dkwX8_valueOf_0 : List UInt8 := [27, 5, 160, 0, 8, 42, 182, 1, 197, 172, 42, 42, 180, 1, 59, 42, 180, 0, 38, 6, 46, 182, 1, 160]
abbrev dktX8_valueOf_0 : List UInt8 := dkwX8_valueOf_0 ++ dktX8_valueOf_1
theorem dksX8_valueOf_0 : cX8_valueOf.data.toList.drop 0 = dktX8_valueOf_0 := by decide +kernel
theorem dksX8_valueOf_1 : cX8_valueOf.data.toList.drop 24 = dktX8_valueOf_1 := dk_seg dksX8_valueOf_0 24 rfl rfl
theorem dX8_valueOf_0 : decode cX8_valueOf 0 = .ok (.iload_n 1, 1) := dk_27 (dk_at dksX8_valueOf_0 0 rfl rfl)
theorem dX8_valueOf_1 : decode cX8_valueOf 1 = .ok (.iconst 2, 1) := dk_5 (dk_at dksX8_valueOf_0 1 rfl rfl)
theorem dX8_valueOf_2 : decode cX8_valueOf 2 = .ok (.if_icmp .ne 8, 3) := dk_160 0 8 (dk_at dksX8_valueOf_0 2 rfl rfl)
theorem dX8_valueOf_5 : decode cX8_valueOf 5 = .ok (.aload_n 0, 1) := dk_42 (dk_at dksX8_valueOf_0 5 rfl rfl)
theorem dX8_valueOf_6 : decode cX8_valueOf 6 = .ok (.invokevirtual 453, 3) := dk_182 1 197 (dk_at dksX8_valueOf_0 6 rfl rfl)
theorem dX8_valueOf_9 : decode cX8_valueOf 9 = .ok (.ireturn, 1) := dk_172 (dk_at dksX8_valueOf_0 9 rfl rfl)
theorem dX8_valueOf_10 : decode cX8_valueOf 10 = .ok (.aload_n 0, 1) := dk_42 (dk_at dksX8_valueOf_0 10 rfl rfl)
theorem dX8_valueOf_11 : decode cX8_valueOf 11 = .ok (.aload_n 0, 1) := dk_42 (dk_at dksX8_valueOf_0 11 rfl rfl)
theorem dX8_valueOf_12 : decode cX8_valueOf 12 = .ok (.getfield 315, 3) := dk_180 1 59 (dk_at dksX8_valueOf_0 12 rfl rfl)
theorem dX8_valueOf_15 : decode cX8_valueOf 15 = .ok (.aload_n 0, 1) := dk_42 (dk_at dksX8_valueOf_0 15 rfl rfl)
theorem dX8_valueOf_16 : decode cX8_valueOf 16 = .ok (.getfield 38, 3) := dk_180 0 38 (dk_at dksX8_valueOf_0 16 rfl rfl)
theorem dX8_valueOf_19 : decode cX8_valueOf 19 = .ok (.iconst 3, 1) := dk_6 (dk_at dksX8_valueOf_0 19 rfl rfl)
theorem dX8_valueOf_20 : decode cX8_valueOf 20 = .ok (.iaload, 1) := dk_46 (dk_at dksX8_valueOf_0 20 rfl rfl)
theorem dX8_valueOf_21 : decode cX8_valueOf 21 = .ok (.invokevirtual 416, 3) := dk_182 1 160 (dk_at dksX8_valueOf_0 21 rfl rfl)
theorem dX8_valueOf_24 : decode cX8_valueOf 24 = .ok (.aload_n 0, 1) := dk_42 (dk_at dksX8_valueOf_1 0 rfl rfl)
theorem dX8_valueOf_25 : decode cX8_valueOf 25 = .ok (.invokevirtual 447, 3) := dk_182 1 191 (dk_at dksX8_valueOf_1 1 rfl rfl)
theorem dX8_valueOf_28 : decode cX8_valueOf 28 = .ok (.ireturn, 1) := dk_172 (dk_at dksX8_valueOf_1 4 rfl rfl)
abbrev cX8_tenthsNow : ByteArray := prog_21_method_71_code
def yX8_tenthsNow : MethodName := ⟨RX8, "tenthsNow", "()I"⟩
def dkwX8_tenthsNow_2 : List UInt8 := [167, 0, 4, 4, 96, 61, 132, 3, 255, 167, 255, 212, 27, 172]
abbrev dktX8_tenthsNow_2 : List UInt8 := dkwX8_tenthsNow_2 ++ []
def dkwX8_tenthsNow_1 : List UInt8 := [29, 46, 46, 28, 104, 96, 60, 28, 42, 42, 180, 0, 90, 29, 46, 182, 1, 117, 153, 0, 7, 3]
abbrev dktX8_tenthsNow_1 : List UInt8 := dkwX8_tenthsNow_1 ++ dktX8_tenthsNow_2
def dkwX8_tenthsNow_0 : List UInt8 := [3, 60, 3, 61, 42, 180, 1, 85, 4, 100, 62, 29, 155, 0, 46, 27, 42, 180, 0, 56, 42, 180, 0, 90]
abbrev dktX8_tenthsNow_0 : List UInt8 := dkwX8_tenthsNow_0 ++ dktX8_tenthsNow_1
theorem dksX8_tenthsNow_0 : cX8_tenthsNow.data.toList.drop 0 = dktX8_tenthsNow_0 := by decide +kernel
theorem dksX8_tenthsNow_1 : cX8_tenthsNow.data.toList.drop 24 = dktX8_tenthsNow_1 := dk_seg dksX8_tenthsNow_0 24 rfl rfl
theorem dksX8_tenthsNow_2 : cX8_tenthsNow.data.toList.drop 46 = dktX8_tenthsNow_2 := dk_seg dksX8_tenthsNow_1 22 rfl rfl
theorem dX8_tenthsNow_0 : decode cX8_tenthsNow 0 = .ok (.iconst 0, 1) := dk_3 (dk_at dksX8_tenthsNow_0 0 rfl rfl)
theorem dX8_tenthsNow_1 : decode cX8_tenthsNow 1 = .ok (.istore_n 1, 1) := dk_60 (dk_at dksX8_tenthsNow_0 1 rfl rfl)
theorem dX8_tenthsNow_2 : decode cX8_tenthsNow 2 = .ok (.iconst 0, 1) := dk_3 (dk_at dksX8_tenthsNow_0 2 rfl rfl)
theorem dX8_tenthsNow_3 : decode cX8_tenthsNow 3 = .ok (.istore_n 2, 1) := dk_61 (dk_at dksX8_tenthsNow_0 3 rfl rfl)
theorem dX8_tenthsNow_4 : decode cX8_tenthsNow 4 = .ok (.aload_n 0, 1) := dk_42 (dk_at dksX8_tenthsNow_0 4 rfl rfl)
theorem dX8_tenthsNow_5 : decode cX8_tenthsNow 5 = .ok (.getfield 341, 3) := dk_180 1 85 (dk_at dksX8_tenthsNow_0 5 rfl rfl)
theorem dX8_tenthsNow_8 : decode cX8_tenthsNow 8 = .ok (.iconst 1, 1) := dk_4 (dk_at dksX8_tenthsNow_0 8 rfl rfl)
theorem dX8_tenthsNow_9 : decode cX8_tenthsNow 9 = .ok (.isub, 1) := dk_100 (dk_at dksX8_tenthsNow_0 9 rfl rfl)
theorem dX8_tenthsNow_10 : decode cX8_tenthsNow 10 = .ok (.istore_n 3, 1) := dk_62 (dk_at dksX8_tenthsNow_0 10 rfl rfl)
theorem dX8_tenthsNow_11 : decode cX8_tenthsNow 11 = .ok (.iload_n 3, 1) := dk_29 (dk_at dksX8_tenthsNow_0 11 rfl rfl)
theorem dX8_tenthsNow_12 : decode cX8_tenthsNow 12 = .ok (.ifCond .lt 46, 3) := dk_155 0 46 (dk_at dksX8_tenthsNow_0 12 rfl rfl)
theorem dX8_tenthsNow_15 : decode cX8_tenthsNow 15 = .ok (.iload_n 1, 1) := dk_27 (dk_at dksX8_tenthsNow_0 15 rfl rfl)
theorem dX8_tenthsNow_16 : decode cX8_tenthsNow 16 = .ok (.aload_n 0, 1) := dk_42 (dk_at dksX8_tenthsNow_0 16 rfl rfl)
theorem dX8_tenthsNow_17 : decode cX8_tenthsNow 17 = .ok (.getfield 56, 3) := dk_180 0 56 (dk_at dksX8_tenthsNow_0 17 rfl rfl)
theorem dX8_tenthsNow_20 : decode cX8_tenthsNow 20 = .ok (.aload_n 0, 1) := dk_42 (dk_at dksX8_tenthsNow_0 20 rfl rfl)
theorem dX8_tenthsNow_21 : decode cX8_tenthsNow 21 = .ok (.getfield 90, 3) := dk_180 0 90 (dk_at dksX8_tenthsNow_0 21 rfl rfl)
theorem dX8_tenthsNow_24 : decode cX8_tenthsNow 24 = .ok (.iload_n 3, 1) := dk_29 (dk_at dksX8_tenthsNow_1 0 rfl rfl)
theorem dX8_tenthsNow_25 : decode cX8_tenthsNow 25 = .ok (.iaload, 1) := dk_46 (dk_at dksX8_tenthsNow_1 1 rfl rfl)
theorem dX8_tenthsNow_26 : decode cX8_tenthsNow 26 = .ok (.iaload, 1) := dk_46 (dk_at dksX8_tenthsNow_1 2 rfl rfl)
theorem dX8_tenthsNow_27 : decode cX8_tenthsNow 27 = .ok (.iload_n 2, 1) := dk_28 (dk_at dksX8_tenthsNow_1 3 rfl rfl)
theorem dX8_tenthsNow_28 : decode cX8_tenthsNow 28 = .ok (.imul, 1) := dk_104 (dk_at dksX8_tenthsNow_1 4 rfl rfl)
theorem dX8_tenthsNow_29 : decode cX8_tenthsNow 29 = .ok (.iadd, 1) := dk_96 (dk_at dksX8_tenthsNow_1 5 rfl rfl)
theorem dX8_tenthsNow_30 : decode cX8_tenthsNow 30 = .ok (.istore_n 1, 1) := dk_60 (dk_at dksX8_tenthsNow_1 6 rfl rfl)
theorem dX8_tenthsNow_31 : decode cX8_tenthsNow 31 = .ok (.iload_n 2, 1) := dk_28 (dk_at dksX8_tenthsNow_1 7 rfl rfl)
theorem dX8_tenthsNow_32 : decode cX8_tenthsNow 32 = .ok (.aload_n 0, 1) := dk_42 (dk_at dksX8_tenthsNow_1 8 rfl rfl)
theorem dX8_tenthsNow_33 : decode cX8_tenthsNow 33 = .ok (.aload_n 0, 1) := dk_42 (dk_at dksX8_tenthsNow_1 9 rfl rfl)
theorem dX8_tenthsNow_34 : decode cX8_tenthsNow 34 = .ok (.getfield 90, 3) := dk_180 0 90 (dk_at dksX8_tenthsNow_1 10 rfl rfl)
theorem dX8_tenthsNow_37 : decode cX8_tenthsNow 37 = .ok (.iload_n 3, 1) := dk_29 (dk_at dksX8_tenthsNow_1 13 rfl rfl)
theorem dX8_tenthsNow_38 : decode cX8_tenthsNow 38 = .ok (.iaload, 1) := dk_46 (dk_at dksX8_tenthsNow_1 14 rfl rfl)
theorem dX8_tenthsNow_39 : decode cX8_tenthsNow 39 = .ok (.invokevirtual 373, 3) := dk_182 1 117 (dk_at dksX8_tenthsNow_1 15 rfl rfl)
theorem dX8_tenthsNow_42 : decode cX8_tenthsNow 42 = .ok (.ifCond .eq 7, 3) := dk_153 0 7 (dk_at dksX8_tenthsNow_1 18 rfl rfl)
theorem dX8_tenthsNow_45 : decode cX8_tenthsNow 45 = .ok (.iconst 0, 1) := dk_3 (dk_at dksX8_tenthsNow_1 21 rfl rfl)
theorem dX8_tenthsNow_46 : decode cX8_tenthsNow 46 = .ok (.goto 4, 3) := dk_167 0 4 (dk_at dksX8_tenthsNow_2 0 rfl rfl)
theorem dX8_tenthsNow_49 : decode cX8_tenthsNow 49 = .ok (.iconst 1, 1) := dk_4 (dk_at dksX8_tenthsNow_2 3 rfl rfl)
theorem dX8_tenthsNow_50 : decode cX8_tenthsNow 50 = .ok (.iadd, 1) := dk_96 (dk_at dksX8_tenthsNow_2 4 rfl rfl)
theorem dX8_tenthsNow_51 : decode cX8_tenthsNow 51 = .ok (.istore_n 2, 1) := dk_61 (dk_at dksX8_tenthsNow_2 5 rfl rfl)
theorem dX8_tenthsNow_52 : decode cX8_tenthsNow 52 = .ok (.iinc 3 (-1), 3) := dk_132 3 255 (dk_at dksX8_tenthsNow_2 6 rfl rfl)
theorem dX8_tenthsNow_55 : decode cX8_tenthsNow 55 = .ok (.goto (-44), 3) := dk_167 255 212 (dk_at dksX8_tenthsNow_2 9 rfl rfl)
theorem dX8_tenthsNow_58 : decode cX8_tenthsNow 58 = .ok (.iload_n 1, 1) := dk_27 (dk_at dksX8_tenthsNow_2 12 rfl rfl)
theorem dX8_tenthsNow_59 : decode cX8_tenthsNow 59 = .ok (.ireturn, 1) := dk_172 (dk_at dksX8_tenthsNow_2 13 rfl rfl)
abbrev cX8_order : ByteArray := prog_21_method_76_code
def yX8_order : MethodName := ⟨RX8, "order", "()I"⟩
def dkwX8_order_1 : List UInt8 := [42, 180, 1, 200, 154, 0, 5, 2, 172, 42, 182, 1, 216, 42, 180, 1, 206, 172]
abbrev dktX8_order_1 : List UInt8 := dkwX8_order_1 ++ []
def dkwX8_order_0 : List UInt8 := [42, 3, 181, 0, 159, 42, 180, 0, 38, 3, 46, 16, 6, 164, 0, 6, 16, 254, 172, 42, 4, 182, 1, 213]
abbrev dktX8_order_0 : List UInt8 := dkwX8_order_0 ++ dktX8_order_1
theorem dksX8_order_0 : cX8_order.data.toList.drop 0 = dktX8_order_0 := by decide +kernel
theorem dksX8_order_1 : cX8_order.data.toList.drop 24 = dktX8_order_1 := dk_seg dksX8_order_0 24 rfl rfl
theorem dX8_order_0 : decode cX8_order 0 = .ok (.aload_n 0, 1) := dk_42 (dk_at dksX8_order_0 0 rfl rfl)
theorem dX8_order_1 : decode cX8_order 1 = .ok (.iconst 0, 1) := dk_3 (dk_at dksX8_order_0 1 rfl rfl)
theorem dX8_order_2 : decode cX8_order 2 = .ok (.putfield 159, 3) := dk_181 0 159 (dk_at dksX8_order_0 2 rfl rfl)
theorem dX8_order_5 : decode cX8_order 5 = .ok (.aload_n 0, 1) := dk_42 (dk_at dksX8_order_0 5 rfl rfl)
theorem dX8_order_6 : decode cX8_order 6 = .ok (.getfield 38, 3) := dk_180 0 38 (dk_at dksX8_order_0 6 rfl rfl)
theorem dX8_order_9 : decode cX8_order 9 = .ok (.iconst 0, 1) := dk_3 (dk_at dksX8_order_0 9 rfl rfl)
theorem dX8_order_10 : decode cX8_order 10 = .ok (.iaload, 1) := dk_46 (dk_at dksX8_order_0 10 rfl rfl)
theorem dX8_order_11 : decode cX8_order 11 = .ok (.bipush 6, 2) := dk_16 6 (dk_at dksX8_order_0 11 rfl rfl)
theorem dX8_order_13 : decode cX8_order 13 = .ok (.if_icmp .le 6, 3) := dk_164 0 6 (dk_at dksX8_order_0 13 rfl rfl)
theorem dX8_order_16 : decode cX8_order 16 = .ok (.bipush (-2), 2) := dk_16 254 (dk_at dksX8_order_0 16 rfl rfl)
theorem dX8_order_18 : decode cX8_order 18 = .ok (.ireturn, 1) := dk_172 (dk_at dksX8_order_0 18 rfl rfl)
theorem dX8_order_19 : decode cX8_order 19 = .ok (.aload_n 0, 1) := dk_42 (dk_at dksX8_order_0 19 rfl rfl)
theorem dX8_order_20 : decode cX8_order 20 = .ok (.iconst 1, 1) := dk_4 (dk_at dksX8_order_0 20 rfl rfl)
theorem dX8_order_21 : decode cX8_order 21 = .ok (.invokevirtual 469, 3) := dk_182 1 213 (dk_at dksX8_order_0 21 rfl rfl)
theorem dX8_order_24 : decode cX8_order 24 = .ok (.aload_n 0, 1) := dk_42 (dk_at dksX8_order_1 0 rfl rfl)
theorem dX8_order_25 : decode cX8_order 25 = .ok (.getfield 456, 3) := dk_180 1 200 (dk_at dksX8_order_1 1 rfl rfl)
theorem dX8_order_28 : decode cX8_order 28 = .ok (.ifCond .ne 5, 3) := dk_154 0 5 (dk_at dksX8_order_1 4 rfl rfl)
theorem dX8_order_31 : decode cX8_order 31 = .ok (.iconst (-1), 1) := dk_2 (dk_at dksX8_order_1 7 rfl rfl)
theorem dX8_order_32 : decode cX8_order 32 = .ok (.ireturn, 1) := dk_172 (dk_at dksX8_order_1 8 rfl rfl)
theorem dX8_order_33 : decode cX8_order 33 = .ok (.aload_n 0, 1) := dk_42 (dk_at dksX8_order_1 9 rfl rfl)
theorem dX8_order_34 : decode cX8_order 34 = .ok (.invokevirtual 472, 3) := dk_182 1 216 (dk_at dksX8_order_1 10 rfl rfl)
theorem dX8_order_37 : decode cX8_order 37 = .ok (.aload_n 0, 1) := dk_42 (dk_at dksX8_order_1 13 rfl rfl)
theorem dX8_order_38 : decode cX8_order 38 = .ok (.getfield 462, 3) := dk_180 1 206 (dk_at dksX8_order_1 14 rfl rfl)
theorem dX8_order_41 : decode cX8_order 41 = .ok (.ireturn, 1) := dk_172 (dk_at dksX8_order_1 17 rfl rfl)
abbrev cX8_keepBest : ByteArray := prog_21_method_74_code
def yX8_keepBest : MethodName := ⟨RX8, "keepBest", "()V"⟩
def dkwX8_keepBest_1 : List UInt8 := [27, 46, 79, 132, 1, 1, 167, 255, 233, 177]
abbrev dktX8_keepBest_1 : List UInt8 := dkwX8_keepBest_1 ++ []
def dkwX8_keepBest_0 : List UInt8 := [42, 4, 181, 1, 74, 3, 60, 27, 42, 180, 1, 85, 162, 0, 21, 42, 180, 0, 123, 27, 42, 180, 0, 126]
abbrev dktX8_keepBest_0 : List UInt8 := dkwX8_keepBest_0 ++ dktX8_keepBest_1
theorem dksX8_keepBest_0 : cX8_keepBest.data.toList.drop 0 = dktX8_keepBest_0 := by decide +kernel
theorem dksX8_keepBest_1 : cX8_keepBest.data.toList.drop 24 = dktX8_keepBest_1 := dk_seg dksX8_keepBest_0 24 rfl rfl
theorem dX8_keepBest_0 : decode cX8_keepBest 0 = .ok (.aload_n 0, 1) := dk_42 (dk_at dksX8_keepBest_0 0 rfl rfl)
theorem dX8_keepBest_1 : decode cX8_keepBest 1 = .ok (.iconst 1, 1) := dk_4 (dk_at dksX8_keepBest_0 1 rfl rfl)
theorem dX8_keepBest_2 : decode cX8_keepBest 2 = .ok (.putfield 330, 3) := dk_181 1 74 (dk_at dksX8_keepBest_0 2 rfl rfl)
theorem dX8_keepBest_5 : decode cX8_keepBest 5 = .ok (.iconst 0, 1) := dk_3 (dk_at dksX8_keepBest_0 5 rfl rfl)
theorem dX8_keepBest_6 : decode cX8_keepBest 6 = .ok (.istore_n 1, 1) := dk_60 (dk_at dksX8_keepBest_0 6 rfl rfl)
theorem dX8_keepBest_7 : decode cX8_keepBest 7 = .ok (.iload_n 1, 1) := dk_27 (dk_at dksX8_keepBest_0 7 rfl rfl)
theorem dX8_keepBest_8 : decode cX8_keepBest 8 = .ok (.aload_n 0, 1) := dk_42 (dk_at dksX8_keepBest_0 8 rfl rfl)
theorem dX8_keepBest_9 : decode cX8_keepBest 9 = .ok (.getfield 341, 3) := dk_180 1 85 (dk_at dksX8_keepBest_0 9 rfl rfl)
theorem dX8_keepBest_12 : decode cX8_keepBest 12 = .ok (.if_icmp .ge 21, 3) := dk_162 0 21 (dk_at dksX8_keepBest_0 12 rfl rfl)
theorem dX8_keepBest_15 : decode cX8_keepBest 15 = .ok (.aload_n 0, 1) := dk_42 (dk_at dksX8_keepBest_0 15 rfl rfl)
theorem dX8_keepBest_16 : decode cX8_keepBest 16 = .ok (.getfield 123, 3) := dk_180 0 123 (dk_at dksX8_keepBest_0 16 rfl rfl)
theorem dX8_keepBest_19 : decode cX8_keepBest 19 = .ok (.iload_n 1, 1) := dk_27 (dk_at dksX8_keepBest_0 19 rfl rfl)
theorem dX8_keepBest_20 : decode cX8_keepBest 20 = .ok (.aload_n 0, 1) := dk_42 (dk_at dksX8_keepBest_0 20 rfl rfl)
theorem dX8_keepBest_21 : decode cX8_keepBest 21 = .ok (.getfield 126, 3) := dk_180 0 126 (dk_at dksX8_keepBest_0 21 rfl rfl)
theorem dX8_keepBest_24 : decode cX8_keepBest 24 = .ok (.iload_n 1, 1) := dk_27 (dk_at dksX8_keepBest_1 0 rfl rfl)
theorem dX8_keepBest_25 : decode cX8_keepBest 25 = .ok (.iaload, 1) := dk_46 (dk_at dksX8_keepBest_1 1 rfl rfl)
theorem dX8_keepBest_26 : decode cX8_keepBest 26 = .ok (.iastore, 1) := dk_79 (dk_at dksX8_keepBest_1 2 rfl rfl)
theorem dX8_keepBest_27 : decode cX8_keepBest 27 = .ok (.iinc 1 1, 3) := dk_132 1 1 (dk_at dksX8_keepBest_1 3 rfl rfl)
theorem dX8_keepBest_30 : decode cX8_keepBest 30 = .ok (.goto (-23), 3) := dk_167 255 233 (dk_at dksX8_keepBest_1 6 rfl rfl)
theorem dX8_keepBest_33 : decode cX8_keepBest 33 = .ok (.return_, 1) := dk_177 (dk_at dksX8_keepBest_1 9 rfl rfl)
abbrev cX8_kept : ByteArray := prog_21_method_77_code
def yX8_kept : MethodName := ⟨RX8, "kept", "(I)I"⟩
def dkwX8_kept_1 : List UInt8 := [27, 46, 167, 0, 8, 42, 4, 182, 1, 46, 172]
abbrev dktX8_kept_1 : List UInt8 := dkwX8_kept_1 ++ []
def dkwX8_kept_0 : List UInt8 := [42, 3, 181, 0, 159, 42, 180, 1, 74, 153, 0, 20, 42, 27, 182, 1, 164, 153, 0, 12, 42, 180, 0, 123]
abbrev dktX8_kept_0 : List UInt8 := dkwX8_kept_0 ++ dktX8_kept_1
theorem dksX8_kept_0 : cX8_kept.data.toList.drop 0 = dktX8_kept_0 := by decide +kernel
theorem dksX8_kept_1 : cX8_kept.data.toList.drop 24 = dktX8_kept_1 := dk_seg dksX8_kept_0 24 rfl rfl
theorem dX8_kept_0 : decode cX8_kept 0 = .ok (.aload_n 0, 1) := dk_42 (dk_at dksX8_kept_0 0 rfl rfl)
theorem dX8_kept_1 : decode cX8_kept 1 = .ok (.iconst 0, 1) := dk_3 (dk_at dksX8_kept_0 1 rfl rfl)
theorem dX8_kept_2 : decode cX8_kept 2 = .ok (.putfield 159, 3) := dk_181 0 159 (dk_at dksX8_kept_0 2 rfl rfl)
theorem dX8_kept_5 : decode cX8_kept 5 = .ok (.aload_n 0, 1) := dk_42 (dk_at dksX8_kept_0 5 rfl rfl)
theorem dX8_kept_6 : decode cX8_kept 6 = .ok (.getfield 330, 3) := dk_180 1 74 (dk_at dksX8_kept_0 6 rfl rfl)
theorem dX8_kept_9 : decode cX8_kept 9 = .ok (.ifCond .eq 20, 3) := dk_153 0 20 (dk_at dksX8_kept_0 9 rfl rfl)
theorem dX8_kept_12 : decode cX8_kept 12 = .ok (.aload_n 0, 1) := dk_42 (dk_at dksX8_kept_0 12 rfl rfl)
theorem dX8_kept_13 : decode cX8_kept 13 = .ok (.iload_n 1, 1) := dk_27 (dk_at dksX8_kept_0 13 rfl rfl)
theorem dX8_kept_14 : decode cX8_kept 14 = .ok (.invokevirtual 420, 3) := dk_182 1 164 (dk_at dksX8_kept_0 14 rfl rfl)
theorem dX8_kept_17 : decode cX8_kept 17 = .ok (.ifCond .eq 12, 3) := dk_153 0 12 (dk_at dksX8_kept_0 17 rfl rfl)
theorem dX8_kept_20 : decode cX8_kept 20 = .ok (.aload_n 0, 1) := dk_42 (dk_at dksX8_kept_0 20 rfl rfl)
theorem dX8_kept_21 : decode cX8_kept 21 = .ok (.getfield 123, 3) := dk_180 0 123 (dk_at dksX8_kept_0 21 rfl rfl)
theorem dX8_kept_24 : decode cX8_kept 24 = .ok (.iload_n 1, 1) := dk_27 (dk_at dksX8_kept_1 0 rfl rfl)
theorem dX8_kept_25 : decode cX8_kept 25 = .ok (.iaload, 1) := dk_46 (dk_at dksX8_kept_1 1 rfl rfl)
theorem dX8_kept_26 : decode cX8_kept 26 = .ok (.goto 8, 3) := dk_167 0 8 (dk_at dksX8_kept_1 2 rfl rfl)
theorem dX8_kept_29 : decode cX8_kept 29 = .ok (.aload_n 0, 1) := dk_42 (dk_at dksX8_kept_1 5 rfl rfl)
theorem dX8_kept_30 : decode cX8_kept 30 = .ok (.iconst 1, 1) := dk_4 (dk_at dksX8_kept_1 6 rfl rfl)
theorem dX8_kept_31 : decode cX8_kept 31 = .ok (.invokevirtual 302, 3) := dk_182 1 46 (dk_at dksX8_kept_1 7 rfl rfl)
theorem dX8_kept_34 : decode cX8_kept 34 = .ok (.ireturn, 1) := dk_172 (dk_at dksX8_kept_1 10 rfl rfl)
abbrev cX8_every : ByteArray := prog_21_method_78_code
def yX8_every : MethodName := ⟨RX8, "every", "(II)I"⟩
def dkwX8_every_5 : List UInt8 := [89, 180, 1, 91, 4, 96, 181, 1, 91, 167, 255, 192, 28, 154, 0, 7, 29, 167, 0, 5, 21, 4, 172]
abbrev dktX8_every_5 : List UInt8 := dkwX8_every_5 ++ []
def dkwX8_every_4 : List UInt8 := [2, 159, 0, 13, 21, 5, 21, 4, 161, 0, 6, 167, 0, 12, 42, 180, 1, 91, 62, 21, 5, 54, 4, 42]
abbrev dktX8_every_4 : List UInt8 := dkwX8_every_4 ++ dktX8_every_5
def dkwX8_every_3 : List UInt8 := [163, 0, 60, 42, 42, 180, 1, 59, 42, 180, 0, 38, 6, 46, 182, 1, 160, 42, 182, 1, 191, 54, 5, 29]
abbrev dktX8_every_3 : List UInt8 := dkwX8_every_3 ++ dktX8_every_4
def dkwX8_every_2 : List UInt8 := [42, 27, 181, 1, 88, 2, 62, 3, 54, 4, 42, 3, 181, 1, 91, 42, 180, 1, 91, 17, 0, 240]
abbrev dktX8_every_2 : List UInt8 := dkwX8_every_2 ++ dktX8_every_3
def dkwX8_every_1 : List UInt8 := [182, 1, 46, 172, 42, 180, 0, 42, 27, 46, 6, 160, 0, 9, 42, 5, 182, 1, 46, 172, 42, 182, 1, 157]
abbrev dktX8_every_1 : List UInt8 := dkwX8_every_1 ++ dktX8_every_2
def dkwX8_every_0 : List UInt8 := [42, 3, 181, 0, 159, 42, 27, 182, 1, 164, 153, 0, 12, 28, 155, 0, 8, 28, 4, 164, 0, 9, 42, 4]
abbrev dktX8_every_0 : List UInt8 := dkwX8_every_0 ++ dktX8_every_1
theorem dksX8_every_0 : cX8_every.data.toList.drop 0 = dktX8_every_0 := by decide +kernel
theorem dksX8_every_1 : cX8_every.data.toList.drop 24 = dktX8_every_1 := dk_seg dksX8_every_0 24 rfl rfl
theorem dksX8_every_2 : cX8_every.data.toList.drop 48 = dktX8_every_2 := dk_seg dksX8_every_1 24 rfl rfl
theorem dksX8_every_3 : cX8_every.data.toList.drop 70 = dktX8_every_3 := dk_seg dksX8_every_2 22 rfl rfl
theorem dksX8_every_4 : cX8_every.data.toList.drop 94 = dktX8_every_4 := dk_seg dksX8_every_3 24 rfl rfl
theorem dksX8_every_5 : cX8_every.data.toList.drop 118 = dktX8_every_5 := dk_seg dksX8_every_4 24 rfl rfl
theorem dX8_every_0 : decode cX8_every 0 = .ok (.aload_n 0, 1) := dk_42 (dk_at dksX8_every_0 0 rfl rfl)
theorem dX8_every_1 : decode cX8_every 1 = .ok (.iconst 0, 1) := dk_3 (dk_at dksX8_every_0 1 rfl rfl)
theorem dX8_every_2 : decode cX8_every 2 = .ok (.putfield 159, 3) := dk_181 0 159 (dk_at dksX8_every_0 2 rfl rfl)
theorem dX8_every_5 : decode cX8_every 5 = .ok (.aload_n 0, 1) := dk_42 (dk_at dksX8_every_0 5 rfl rfl)
theorem dX8_every_6 : decode cX8_every 6 = .ok (.iload_n 1, 1) := dk_27 (dk_at dksX8_every_0 6 rfl rfl)
theorem dX8_every_7 : decode cX8_every 7 = .ok (.invokevirtual 420, 3) := dk_182 1 164 (dk_at dksX8_every_0 7 rfl rfl)
theorem dX8_every_10 : decode cX8_every 10 = .ok (.ifCond .eq 12, 3) := dk_153 0 12 (dk_at dksX8_every_0 10 rfl rfl)
theorem dX8_every_13 : decode cX8_every 13 = .ok (.iload_n 2, 1) := dk_28 (dk_at dksX8_every_0 13 rfl rfl)
theorem dX8_every_14 : decode cX8_every 14 = .ok (.ifCond .lt 8, 3) := dk_155 0 8 (dk_at dksX8_every_0 14 rfl rfl)
theorem dX8_every_17 : decode cX8_every 17 = .ok (.iload_n 2, 1) := dk_28 (dk_at dksX8_every_0 17 rfl rfl)
theorem dX8_every_18 : decode cX8_every 18 = .ok (.iconst 1, 1) := dk_4 (dk_at dksX8_every_0 18 rfl rfl)
theorem dX8_every_19 : decode cX8_every 19 = .ok (.if_icmp .le 9, 3) := dk_164 0 9 (dk_at dksX8_every_0 19 rfl rfl)
theorem dX8_every_22 : decode cX8_every 22 = .ok (.aload_n 0, 1) := dk_42 (dk_at dksX8_every_0 22 rfl rfl)
theorem dX8_every_23 : decode cX8_every 23 = .ok (.iconst 1, 1) := dk_4 (dk_at dksX8_every_0 23 rfl rfl)
theorem dX8_every_24 : decode cX8_every 24 = .ok (.invokevirtual 302, 3) := dk_182 1 46 (dk_at dksX8_every_1 0 rfl rfl)
theorem dX8_every_27 : decode cX8_every 27 = .ok (.ireturn, 1) := dk_172 (dk_at dksX8_every_1 3 rfl rfl)
theorem dX8_every_28 : decode cX8_every 28 = .ok (.aload_n 0, 1) := dk_42 (dk_at dksX8_every_1 4 rfl rfl)
theorem dX8_every_29 : decode cX8_every 29 = .ok (.getfield 42, 3) := dk_180 0 42 (dk_at dksX8_every_1 5 rfl rfl)
theorem dX8_every_32 : decode cX8_every 32 = .ok (.iload_n 1, 1) := dk_27 (dk_at dksX8_every_1 8 rfl rfl)
theorem dX8_every_33 : decode cX8_every 33 = .ok (.iaload, 1) := dk_46 (dk_at dksX8_every_1 9 rfl rfl)
theorem dX8_every_34 : decode cX8_every 34 = .ok (.iconst 3, 1) := dk_6 (dk_at dksX8_every_1 10 rfl rfl)
theorem dX8_every_35 : decode cX8_every 35 = .ok (.if_icmp .ne 9, 3) := dk_160 0 9 (dk_at dksX8_every_1 11 rfl rfl)
theorem dX8_every_38 : decode cX8_every 38 = .ok (.aload_n 0, 1) := dk_42 (dk_at dksX8_every_1 14 rfl rfl)
theorem dX8_every_39 : decode cX8_every 39 = .ok (.iconst 2, 1) := dk_5 (dk_at dksX8_every_1 15 rfl rfl)
theorem dX8_every_40 : decode cX8_every 40 = .ok (.invokevirtual 302, 3) := dk_182 1 46 (dk_at dksX8_every_1 16 rfl rfl)
theorem dX8_every_43 : decode cX8_every 43 = .ok (.ireturn, 1) := dk_172 (dk_at dksX8_every_1 19 rfl rfl)
theorem dX8_every_44 : decode cX8_every 44 = .ok (.aload_n 0, 1) := dk_42 (dk_at dksX8_every_1 20 rfl rfl)
theorem dX8_every_45 : decode cX8_every 45 = .ok (.invokevirtual 413, 3) := dk_182 1 157 (dk_at dksX8_every_1 21 rfl rfl)
theorem dX8_every_48 : decode cX8_every 48 = .ok (.aload_n 0, 1) := dk_42 (dk_at dksX8_every_2 0 rfl rfl)
theorem dX8_every_49 : decode cX8_every 49 = .ok (.iload_n 1, 1) := dk_27 (dk_at dksX8_every_2 1 rfl rfl)
theorem dX8_every_50 : decode cX8_every 50 = .ok (.putfield 344, 3) := dk_181 1 88 (dk_at dksX8_every_2 2 rfl rfl)
theorem dX8_every_53 : decode cX8_every 53 = .ok (.iconst (-1), 1) := dk_2 (dk_at dksX8_every_2 5 rfl rfl)
theorem dX8_every_54 : decode cX8_every 54 = .ok (.istore_n 3, 1) := dk_62 (dk_at dksX8_every_2 6 rfl rfl)
theorem dX8_every_55 : decode cX8_every 55 = .ok (.iconst 0, 1) := dk_3 (dk_at dksX8_every_2 7 rfl rfl)
theorem dX8_every_56 : decode cX8_every 56 = .ok (.istore 4, 2) := dk_54 4 (dk_at dksX8_every_2 8 rfl rfl)
theorem dX8_every_58 : decode cX8_every 58 = .ok (.aload_n 0, 1) := dk_42 (dk_at dksX8_every_2 10 rfl rfl)
theorem dX8_every_59 : decode cX8_every 59 = .ok (.iconst 0, 1) := dk_3 (dk_at dksX8_every_2 11 rfl rfl)
theorem dX8_every_60 : decode cX8_every 60 = .ok (.putfield 347, 3) := dk_181 1 91 (dk_at dksX8_every_2 12 rfl rfl)
theorem dX8_every_63 : decode cX8_every 63 = .ok (.aload_n 0, 1) := dk_42 (dk_at dksX8_every_2 15 rfl rfl)
theorem dX8_every_64 : decode cX8_every 64 = .ok (.getfield 347, 3) := dk_180 1 91 (dk_at dksX8_every_2 16 rfl rfl)
theorem dX8_every_67 : decode cX8_every 67 = .ok (.sipush 240, 3) := dk_17 0 240 (dk_at dksX8_every_2 19 rfl rfl)
theorem dX8_every_70 : decode cX8_every 70 = .ok (.if_icmp .gt 60, 3) := dk_163 0 60 (dk_at dksX8_every_3 0 rfl rfl)
theorem dX8_every_73 : decode cX8_every 73 = .ok (.aload_n 0, 1) := dk_42 (dk_at dksX8_every_3 3 rfl rfl)
theorem dX8_every_74 : decode cX8_every 74 = .ok (.aload_n 0, 1) := dk_42 (dk_at dksX8_every_3 4 rfl rfl)
theorem dX8_every_75 : decode cX8_every 75 = .ok (.getfield 315, 3) := dk_180 1 59 (dk_at dksX8_every_3 5 rfl rfl)
theorem dX8_every_78 : decode cX8_every 78 = .ok (.aload_n 0, 1) := dk_42 (dk_at dksX8_every_3 8 rfl rfl)
theorem dX8_every_79 : decode cX8_every 79 = .ok (.getfield 38, 3) := dk_180 0 38 (dk_at dksX8_every_3 9 rfl rfl)
theorem dX8_every_82 : decode cX8_every 82 = .ok (.iconst 3, 1) := dk_6 (dk_at dksX8_every_3 12 rfl rfl)
theorem dX8_every_83 : decode cX8_every 83 = .ok (.iaload, 1) := dk_46 (dk_at dksX8_every_3 13 rfl rfl)
theorem dX8_every_84 : decode cX8_every 84 = .ok (.invokevirtual 416, 3) := dk_182 1 160 (dk_at dksX8_every_3 14 rfl rfl)
theorem dX8_every_87 : decode cX8_every 87 = .ok (.aload_n 0, 1) := dk_42 (dk_at dksX8_every_3 17 rfl rfl)
theorem dX8_every_88 : decode cX8_every 88 = .ok (.invokevirtual 447, 3) := dk_182 1 191 (dk_at dksX8_every_3 18 rfl rfl)
theorem dX8_every_91 : decode cX8_every 91 = .ok (.istore 5, 2) := dk_54 5 (dk_at dksX8_every_3 21 rfl rfl)
theorem dX8_every_93 : decode cX8_every 93 = .ok (.iload_n 3, 1) := dk_29 (dk_at dksX8_every_3 23 rfl rfl)
theorem dX8_every_94 : decode cX8_every 94 = .ok (.iconst (-1), 1) := dk_2 (dk_at dksX8_every_4 0 rfl rfl)
theorem dX8_every_95 : decode cX8_every 95 = .ok (.if_icmp .eq 13, 3) := dk_159 0 13 (dk_at dksX8_every_4 1 rfl rfl)
theorem dX8_every_98 : decode cX8_every 98 = .ok (.iload 5, 2) := dk_21 5 (dk_at dksX8_every_4 4 rfl rfl)
theorem dX8_every_100 : decode cX8_every 100 = .ok (.iload 4, 2) := dk_21 4 (dk_at dksX8_every_4 6 rfl rfl)
theorem dX8_every_102 : decode cX8_every 102 = .ok (.if_icmp .lt 6, 3) := dk_161 0 6 (dk_at dksX8_every_4 8 rfl rfl)
theorem dX8_every_105 : decode cX8_every 105 = .ok (.goto 12, 3) := dk_167 0 12 (dk_at dksX8_every_4 11 rfl rfl)
theorem dX8_every_108 : decode cX8_every 108 = .ok (.aload_n 0, 1) := dk_42 (dk_at dksX8_every_4 14 rfl rfl)
theorem dX8_every_109 : decode cX8_every 109 = .ok (.getfield 347, 3) := dk_180 1 91 (dk_at dksX8_every_4 15 rfl rfl)
theorem dX8_every_112 : decode cX8_every 112 = .ok (.istore_n 3, 1) := dk_62 (dk_at dksX8_every_4 18 rfl rfl)
theorem dX8_every_113 : decode cX8_every 113 = .ok (.iload 5, 2) := dk_21 5 (dk_at dksX8_every_4 19 rfl rfl)
theorem dX8_every_115 : decode cX8_every 115 = .ok (.istore 4, 2) := dk_54 4 (dk_at dksX8_every_4 21 rfl rfl)
theorem dX8_every_117 : decode cX8_every 117 = .ok (.aload_n 0, 1) := dk_42 (dk_at dksX8_every_4 23 rfl rfl)
theorem dX8_every_118 : decode cX8_every 118 = .ok (.dup, 1) := dk_89 (dk_at dksX8_every_5 0 rfl rfl)
theorem dX8_every_119 : decode cX8_every 119 = .ok (.getfield 347, 3) := dk_180 1 91 (dk_at dksX8_every_5 1 rfl rfl)
theorem dX8_every_122 : decode cX8_every 122 = .ok (.iconst 1, 1) := dk_4 (dk_at dksX8_every_5 4 rfl rfl)
theorem dX8_every_123 : decode cX8_every 123 = .ok (.iadd, 1) := dk_96 (dk_at dksX8_every_5 5 rfl rfl)
theorem dX8_every_124 : decode cX8_every 124 = .ok (.putfield 347, 3) := dk_181 1 91 (dk_at dksX8_every_5 6 rfl rfl)
theorem dX8_every_127 : decode cX8_every 127 = .ok (.goto (-64), 3) := dk_167 255 192 (dk_at dksX8_every_5 9 rfl rfl)
theorem dX8_every_130 : decode cX8_every 130 = .ok (.iload_n 2, 1) := dk_28 (dk_at dksX8_every_5 12 rfl rfl)
theorem dX8_every_131 : decode cX8_every 131 = .ok (.ifCond .ne 7, 3) := dk_154 0 7 (dk_at dksX8_every_5 13 rfl rfl)
theorem dX8_every_134 : decode cX8_every 134 = .ok (.iload_n 3, 1) := dk_29 (dk_at dksX8_every_5 16 rfl rfl)
theorem dX8_every_135 : decode cX8_every 135 = .ok (.goto 5, 3) := dk_167 0 5 (dk_at dksX8_every_5 17 rfl rfl)
theorem dX8_every_138 : decode cX8_every 138 = .ok (.iload 4, 2) := dk_21 4 (dk_at dksX8_every_5 20 rfl rfl)
theorem dX8_every_140 : decode cX8_every 140 = .ok (.ireturn, 1) := dk_172 (dk_at dksX8_every_5 22 rfl rfl)
abbrev cX8_bolsters : ByteArray := prog_21_method_80_code
def yX8_bolsters : MethodName := ⟨RX8, "bolsters", "(I)I"⟩
def dkwX8_bolsters_5 : List UInt8 := [132, 4, 1, 167, 255, 166, 27, 154, 0, 7, 28, 167, 0, 4, 29, 172]
abbrev dktX8_bolsters_5 : List UInt8 := dkwX8_bolsters_5 ++ []
def dkwX8_bolsters_4 : List UInt8 := [21, 4, 104, 184, 1, 219, 28, 184, 1, 219, 161, 0, 6, 167, 0, 11, 5, 21, 4, 104, 61, 21, 5, 62]
abbrev dktX8_bolsters_4 : List UInt8 := dkwX8_bolsters_4 ++ dktX8_bolsters_5
def dkwX8_bolsters_3 : List UInt8 := [182, 1, 191, 54, 5, 28, 2, 159, 0, 32, 21, 5, 29, 163, 0, 34, 21, 5, 29, 160, 0, 20, 5]
abbrev dktX8_bolsters_3 : List UInt8 := dkwX8_bolsters_3 ++ dktX8_bolsters_4
def dkwX8_bolsters_2 : List UInt8 := [42, 5, 21, 4, 104, 181, 1, 94, 42, 42, 180, 1, 59, 42, 180, 0, 38, 6, 46, 182, 1, 160, 42]
abbrev dktX8_bolsters_2 : List UInt8 := dkwX8_bolsters_2 ++ dktX8_bolsters_3
def dkwX8_bolsters_1 : List UInt8 := [2, 61, 3, 62, 3, 54, 4, 21, 4, 4, 3, 42, 180, 1, 85, 4, 100, 184, 1, 135, 120, 162, 0, 79]
abbrev dktX8_bolsters_1 : List UInt8 := dkwX8_bolsters_1 ++ dktX8_bolsters_2
def dkwX8_bolsters_0 : List UInt8 := [42, 3, 181, 0, 159, 27, 155, 0, 8, 27, 4, 164, 0, 9, 42, 4, 182, 1, 46, 172, 42, 182, 1, 157]
abbrev dktX8_bolsters_0 : List UInt8 := dkwX8_bolsters_0 ++ dktX8_bolsters_1
theorem dksX8_bolsters_0 : cX8_bolsters.data.toList.drop 0 = dktX8_bolsters_0 := by decide +kernel
theorem dksX8_bolsters_1 : cX8_bolsters.data.toList.drop 24 = dktX8_bolsters_1 := dk_seg dksX8_bolsters_0 24 rfl rfl
theorem dksX8_bolsters_2 : cX8_bolsters.data.toList.drop 48 = dktX8_bolsters_2 := dk_seg dksX8_bolsters_1 24 rfl rfl
theorem dksX8_bolsters_3 : cX8_bolsters.data.toList.drop 71 = dktX8_bolsters_3 := dk_seg dksX8_bolsters_2 23 rfl rfl
theorem dksX8_bolsters_4 : cX8_bolsters.data.toList.drop 94 = dktX8_bolsters_4 := dk_seg dksX8_bolsters_3 23 rfl rfl
theorem dksX8_bolsters_5 : cX8_bolsters.data.toList.drop 118 = dktX8_bolsters_5 := dk_seg dksX8_bolsters_4 24 rfl rfl
theorem dX8_bolsters_0 : decode cX8_bolsters 0 = .ok (.aload_n 0, 1) := dk_42 (dk_at dksX8_bolsters_0 0 rfl rfl)
theorem dX8_bolsters_1 : decode cX8_bolsters 1 = .ok (.iconst 0, 1) := dk_3 (dk_at dksX8_bolsters_0 1 rfl rfl)
theorem dX8_bolsters_2 : decode cX8_bolsters 2 = .ok (.putfield 159, 3) := dk_181 0 159 (dk_at dksX8_bolsters_0 2 rfl rfl)
theorem dX8_bolsters_5 : decode cX8_bolsters 5 = .ok (.iload_n 1, 1) := dk_27 (dk_at dksX8_bolsters_0 5 rfl rfl)
theorem dX8_bolsters_6 : decode cX8_bolsters 6 = .ok (.ifCond .lt 8, 3) := dk_155 0 8 (dk_at dksX8_bolsters_0 6 rfl rfl)
theorem dX8_bolsters_9 : decode cX8_bolsters 9 = .ok (.iload_n 1, 1) := dk_27 (dk_at dksX8_bolsters_0 9 rfl rfl)
theorem dX8_bolsters_10 : decode cX8_bolsters 10 = .ok (.iconst 1, 1) := dk_4 (dk_at dksX8_bolsters_0 10 rfl rfl)
theorem dX8_bolsters_11 : decode cX8_bolsters 11 = .ok (.if_icmp .le 9, 3) := dk_164 0 9 (dk_at dksX8_bolsters_0 11 rfl rfl)
theorem dX8_bolsters_14 : decode cX8_bolsters 14 = .ok (.aload_n 0, 1) := dk_42 (dk_at dksX8_bolsters_0 14 rfl rfl)
theorem dX8_bolsters_15 : decode cX8_bolsters 15 = .ok (.iconst 1, 1) := dk_4 (dk_at dksX8_bolsters_0 15 rfl rfl)
theorem dX8_bolsters_16 : decode cX8_bolsters 16 = .ok (.invokevirtual 302, 3) := dk_182 1 46 (dk_at dksX8_bolsters_0 16 rfl rfl)
theorem dX8_bolsters_19 : decode cX8_bolsters 19 = .ok (.ireturn, 1) := dk_172 (dk_at dksX8_bolsters_0 19 rfl rfl)
theorem dX8_bolsters_20 : decode cX8_bolsters 20 = .ok (.aload_n 0, 1) := dk_42 (dk_at dksX8_bolsters_0 20 rfl rfl)
theorem dX8_bolsters_21 : decode cX8_bolsters 21 = .ok (.invokevirtual 413, 3) := dk_182 1 157 (dk_at dksX8_bolsters_0 21 rfl rfl)
theorem dX8_bolsters_24 : decode cX8_bolsters 24 = .ok (.iconst (-1), 1) := dk_2 (dk_at dksX8_bolsters_1 0 rfl rfl)
theorem dX8_bolsters_25 : decode cX8_bolsters 25 = .ok (.istore_n 2, 1) := dk_61 (dk_at dksX8_bolsters_1 1 rfl rfl)
theorem dX8_bolsters_26 : decode cX8_bolsters 26 = .ok (.iconst 0, 1) := dk_3 (dk_at dksX8_bolsters_1 2 rfl rfl)
theorem dX8_bolsters_27 : decode cX8_bolsters 27 = .ok (.istore_n 3, 1) := dk_62 (dk_at dksX8_bolsters_1 3 rfl rfl)
theorem dX8_bolsters_28 : decode cX8_bolsters 28 = .ok (.iconst 0, 1) := dk_3 (dk_at dksX8_bolsters_1 4 rfl rfl)
theorem dX8_bolsters_29 : decode cX8_bolsters 29 = .ok (.istore 4, 2) := dk_54 4 (dk_at dksX8_bolsters_1 5 rfl rfl)
theorem dX8_bolsters_31 : decode cX8_bolsters 31 = .ok (.iload 4, 2) := dk_21 4 (dk_at dksX8_bolsters_1 7 rfl rfl)
theorem dX8_bolsters_33 : decode cX8_bolsters 33 = .ok (.iconst 1, 1) := dk_4 (dk_at dksX8_bolsters_1 9 rfl rfl)
theorem dX8_bolsters_34 : decode cX8_bolsters 34 = .ok (.iconst 0, 1) := dk_3 (dk_at dksX8_bolsters_1 10 rfl rfl)
theorem dX8_bolsters_35 : decode cX8_bolsters 35 = .ok (.aload_n 0, 1) := dk_42 (dk_at dksX8_bolsters_1 11 rfl rfl)
theorem dX8_bolsters_36 : decode cX8_bolsters 36 = .ok (.getfield 341, 3) := dk_180 1 85 (dk_at dksX8_bolsters_1 12 rfl rfl)
theorem dX8_bolsters_39 : decode cX8_bolsters 39 = .ok (.iconst 1, 1) := dk_4 (dk_at dksX8_bolsters_1 15 rfl rfl)
theorem dX8_bolsters_40 : decode cX8_bolsters 40 = .ok (.isub, 1) := dk_100 (dk_at dksX8_bolsters_1 16 rfl rfl)
theorem dX8_bolsters_41 : decode cX8_bolsters 41 = .ok (.invokestatic 391, 3) := dk_184 1 135 (dk_at dksX8_bolsters_1 17 rfl rfl)
theorem dX8_bolsters_44 : decode cX8_bolsters 44 = .ok (.ishl, 1) := dk_120 (dk_at dksX8_bolsters_1 20 rfl rfl)
theorem dX8_bolsters_45 : decode cX8_bolsters 45 = .ok (.if_icmp .ge 79, 3) := dk_162 0 79 (dk_at dksX8_bolsters_1 21 rfl rfl)
theorem dX8_bolsters_48 : decode cX8_bolsters 48 = .ok (.aload_n 0, 1) := dk_42 (dk_at dksX8_bolsters_2 0 rfl rfl)
theorem dX8_bolsters_49 : decode cX8_bolsters 49 = .ok (.iconst 2, 1) := dk_5 (dk_at dksX8_bolsters_2 1 rfl rfl)
theorem dX8_bolsters_50 : decode cX8_bolsters 50 = .ok (.iload 4, 2) := dk_21 4 (dk_at dksX8_bolsters_2 2 rfl rfl)
theorem dX8_bolsters_52 : decode cX8_bolsters 52 = .ok (.imul, 1) := dk_104 (dk_at dksX8_bolsters_2 4 rfl rfl)
theorem dX8_bolsters_53 : decode cX8_bolsters 53 = .ok (.putfield 350, 3) := dk_181 1 94 (dk_at dksX8_bolsters_2 5 rfl rfl)
theorem dX8_bolsters_56 : decode cX8_bolsters 56 = .ok (.aload_n 0, 1) := dk_42 (dk_at dksX8_bolsters_2 8 rfl rfl)
theorem dX8_bolsters_57 : decode cX8_bolsters 57 = .ok (.aload_n 0, 1) := dk_42 (dk_at dksX8_bolsters_2 9 rfl rfl)
theorem dX8_bolsters_58 : decode cX8_bolsters 58 = .ok (.getfield 315, 3) := dk_180 1 59 (dk_at dksX8_bolsters_2 10 rfl rfl)
theorem dX8_bolsters_61 : decode cX8_bolsters 61 = .ok (.aload_n 0, 1) := dk_42 (dk_at dksX8_bolsters_2 13 rfl rfl)
theorem dX8_bolsters_62 : decode cX8_bolsters 62 = .ok (.getfield 38, 3) := dk_180 0 38 (dk_at dksX8_bolsters_2 14 rfl rfl)
theorem dX8_bolsters_65 : decode cX8_bolsters 65 = .ok (.iconst 3, 1) := dk_6 (dk_at dksX8_bolsters_2 17 rfl rfl)
theorem dX8_bolsters_66 : decode cX8_bolsters 66 = .ok (.iaload, 1) := dk_46 (dk_at dksX8_bolsters_2 18 rfl rfl)
theorem dX8_bolsters_67 : decode cX8_bolsters 67 = .ok (.invokevirtual 416, 3) := dk_182 1 160 (dk_at dksX8_bolsters_2 19 rfl rfl)
theorem dX8_bolsters_70 : decode cX8_bolsters 70 = .ok (.aload_n 0, 1) := dk_42 (dk_at dksX8_bolsters_2 22 rfl rfl)
theorem dX8_bolsters_71 : decode cX8_bolsters 71 = .ok (.invokevirtual 447, 3) := dk_182 1 191 (dk_at dksX8_bolsters_3 0 rfl rfl)
theorem dX8_bolsters_74 : decode cX8_bolsters 74 = .ok (.istore 5, 2) := dk_54 5 (dk_at dksX8_bolsters_3 3 rfl rfl)
theorem dX8_bolsters_76 : decode cX8_bolsters 76 = .ok (.iload_n 2, 1) := dk_28 (dk_at dksX8_bolsters_3 5 rfl rfl)
theorem dX8_bolsters_77 : decode cX8_bolsters 77 = .ok (.iconst (-1), 1) := dk_2 (dk_at dksX8_bolsters_3 6 rfl rfl)
theorem dX8_bolsters_78 : decode cX8_bolsters 78 = .ok (.if_icmp .eq 32, 3) := dk_159 0 32 (dk_at dksX8_bolsters_3 7 rfl rfl)
theorem dX8_bolsters_81 : decode cX8_bolsters 81 = .ok (.iload 5, 2) := dk_21 5 (dk_at dksX8_bolsters_3 10 rfl rfl)
theorem dX8_bolsters_83 : decode cX8_bolsters 83 = .ok (.iload_n 3, 1) := dk_29 (dk_at dksX8_bolsters_3 12 rfl rfl)
theorem dX8_bolsters_84 : decode cX8_bolsters 84 = .ok (.if_icmp .gt 34, 3) := dk_163 0 34 (dk_at dksX8_bolsters_3 13 rfl rfl)
theorem dX8_bolsters_87 : decode cX8_bolsters 87 = .ok (.iload 5, 2) := dk_21 5 (dk_at dksX8_bolsters_3 16 rfl rfl)
theorem dX8_bolsters_89 : decode cX8_bolsters 89 = .ok (.iload_n 3, 1) := dk_29 (dk_at dksX8_bolsters_3 18 rfl rfl)
theorem dX8_bolsters_90 : decode cX8_bolsters 90 = .ok (.if_icmp .ne 20, 3) := dk_160 0 20 (dk_at dksX8_bolsters_3 19 rfl rfl)
theorem dX8_bolsters_93 : decode cX8_bolsters 93 = .ok (.iconst 2, 1) := dk_5 (dk_at dksX8_bolsters_3 22 rfl rfl)
theorem dX8_bolsters_94 : decode cX8_bolsters 94 = .ok (.iload 4, 2) := dk_21 4 (dk_at dksX8_bolsters_4 0 rfl rfl)
theorem dX8_bolsters_96 : decode cX8_bolsters 96 = .ok (.imul, 1) := dk_104 (dk_at dksX8_bolsters_4 2 rfl rfl)
theorem dX8_bolsters_97 : decode cX8_bolsters 97 = .ok (.invokestatic 475, 3) := dk_184 1 219 (dk_at dksX8_bolsters_4 3 rfl rfl)
theorem dX8_bolsters_100 : decode cX8_bolsters 100 = .ok (.iload_n 2, 1) := dk_28 (dk_at dksX8_bolsters_4 6 rfl rfl)
theorem dX8_bolsters_101 : decode cX8_bolsters 101 = .ok (.invokestatic 475, 3) := dk_184 1 219 (dk_at dksX8_bolsters_4 7 rfl rfl)
theorem dX8_bolsters_104 : decode cX8_bolsters 104 = .ok (.if_icmp .lt 6, 3) := dk_161 0 6 (dk_at dksX8_bolsters_4 10 rfl rfl)
theorem dX8_bolsters_107 : decode cX8_bolsters 107 = .ok (.goto 11, 3) := dk_167 0 11 (dk_at dksX8_bolsters_4 13 rfl rfl)
theorem dX8_bolsters_110 : decode cX8_bolsters 110 = .ok (.iconst 2, 1) := dk_5 (dk_at dksX8_bolsters_4 16 rfl rfl)
theorem dX8_bolsters_111 : decode cX8_bolsters 111 = .ok (.iload 4, 2) := dk_21 4 (dk_at dksX8_bolsters_4 17 rfl rfl)
theorem dX8_bolsters_113 : decode cX8_bolsters 113 = .ok (.imul, 1) := dk_104 (dk_at dksX8_bolsters_4 19 rfl rfl)
theorem dX8_bolsters_114 : decode cX8_bolsters 114 = .ok (.istore_n 2, 1) := dk_61 (dk_at dksX8_bolsters_4 20 rfl rfl)
theorem dX8_bolsters_115 : decode cX8_bolsters 115 = .ok (.iload 5, 2) := dk_21 5 (dk_at dksX8_bolsters_4 21 rfl rfl)
theorem dX8_bolsters_117 : decode cX8_bolsters 117 = .ok (.istore_n 3, 1) := dk_62 (dk_at dksX8_bolsters_4 23 rfl rfl)
theorem dX8_bolsters_118 : decode cX8_bolsters 118 = .ok (.iinc 4 1, 3) := dk_132 4 1 (dk_at dksX8_bolsters_5 0 rfl rfl)
theorem dX8_bolsters_121 : decode cX8_bolsters 121 = .ok (.goto (-90), 3) := dk_167 255 166 (dk_at dksX8_bolsters_5 3 rfl rfl)
theorem dX8_bolsters_124 : decode cX8_bolsters 124 = .ok (.iload_n 1, 1) := dk_27 (dk_at dksX8_bolsters_5 6 rfl rfl)
theorem dX8_bolsters_125 : decode cX8_bolsters 125 = .ok (.ifCond .ne 7, 3) := dk_154 0 7 (dk_at dksX8_bolsters_5 7 rfl rfl)
theorem dX8_bolsters_128 : decode cX8_bolsters 128 = .ok (.iload_n 2, 1) := dk_28 (dk_at dksX8_bolsters_5 10 rfl rfl)
theorem dX8_bolsters_129 : decode cX8_bolsters 129 = .ok (.goto 4, 3) := dk_167 0 4 (dk_at dksX8_bolsters_5 11 rfl rfl)
theorem dX8_bolsters_132 : decode cX8_bolsters 132 = .ok (.iload_n 3, 1) := dk_29 (dk_at dksX8_bolsters_5 14 rfl rfl)
theorem dX8_bolsters_133 : decode cX8_bolsters 133 = .ok (.ireturn, 1) := dk_172 (dk_at dksX8_bolsters_5 15 rfl rfl)
abbrev cX8_bitsOf : ByteArray := prog_21_method_79_code
def yX8_bitsOf : MethodName := ⟨RX8, "bitsOf", "(I)I"⟩
def dkwX8_bitsOf_0 : List UInt8 := [3, 60, 26, 61, 28, 153, 0, 15, 132, 1, 1, 28, 28, 4, 100, 126, 61, 167, 255, 243, 27, 172]
abbrev dktX8_bitsOf_0 : List UInt8 := dkwX8_bitsOf_0 ++ []
theorem dksX8_bitsOf_0 : cX8_bitsOf.data.toList.drop 0 = dktX8_bitsOf_0 := by decide +kernel
theorem dX8_bitsOf_0 : decode cX8_bitsOf 0 = .ok (.iconst 0, 1) := dk_3 (dk_at dksX8_bitsOf_0 0 rfl rfl)
theorem dX8_bitsOf_1 : decode cX8_bitsOf 1 = .ok (.istore_n 1, 1) := dk_60 (dk_at dksX8_bitsOf_0 1 rfl rfl)
theorem dX8_bitsOf_2 : decode cX8_bitsOf 2 = .ok (.iload_n 0, 1) := dk_26 (dk_at dksX8_bitsOf_0 2 rfl rfl)
theorem dX8_bitsOf_3 : decode cX8_bitsOf 3 = .ok (.istore_n 2, 1) := dk_61 (dk_at dksX8_bitsOf_0 3 rfl rfl)
theorem dX8_bitsOf_4 : decode cX8_bitsOf 4 = .ok (.iload_n 2, 1) := dk_28 (dk_at dksX8_bitsOf_0 4 rfl rfl)
theorem dX8_bitsOf_5 : decode cX8_bitsOf 5 = .ok (.ifCond .eq 15, 3) := dk_153 0 15 (dk_at dksX8_bitsOf_0 5 rfl rfl)
theorem dX8_bitsOf_8 : decode cX8_bitsOf 8 = .ok (.iinc 1 1, 3) := dk_132 1 1 (dk_at dksX8_bitsOf_0 8 rfl rfl)
theorem dX8_bitsOf_11 : decode cX8_bitsOf 11 = .ok (.iload_n 2, 1) := dk_28 (dk_at dksX8_bitsOf_0 11 rfl rfl)
theorem dX8_bitsOf_12 : decode cX8_bitsOf 12 = .ok (.iload_n 2, 1) := dk_28 (dk_at dksX8_bitsOf_0 12 rfl rfl)
theorem dX8_bitsOf_13 : decode cX8_bitsOf 13 = .ok (.iconst 1, 1) := dk_4 (dk_at dksX8_bitsOf_0 13 rfl rfl)
theorem dX8_bitsOf_14 : decode cX8_bitsOf 14 = .ok (.isub, 1) := dk_100 (dk_at dksX8_bitsOf_0 14 rfl rfl)
theorem dX8_bitsOf_15 : decode cX8_bitsOf 15 = .ok (.iand, 1) := dk_126 (dk_at dksX8_bitsOf_0 15 rfl rfl)
theorem dX8_bitsOf_16 : decode cX8_bitsOf 16 = .ok (.istore_n 2, 1) := dk_61 (dk_at dksX8_bitsOf_0 16 rfl rfl)
theorem dX8_bitsOf_17 : decode cX8_bitsOf 17 = .ok (.goto (-13), 3) := dk_167 255 243 (dk_at dksX8_bitsOf_0 17 rfl rfl)
theorem dX8_bitsOf_20 : decode cX8_bitsOf 20 = .ok (.iload_n 1, 1) := dk_27 (dk_at dksX8_bitsOf_0 20 rfl rfl)
theorem dX8_bitsOf_21 : decode cX8_bitsOf 21 = .ok (.ireturn, 1) := dk_172 (dk_at dksX8_bitsOf_0 21 rfl rfl)
abbrev cX8_free : ByteArray := prog_21_method_81_code
def yX8_free : MethodName := ⟨RX8, "free", "(I)I"⟩
def dkwX8_free_2 : List UInt8 := [172]
abbrev dktX8_free_2 : List UInt8 := dkwX8_free_2 ++ []
def dkwX8_free_1 : List UInt8 := [4, 181, 1, 100, 42, 42, 180, 1, 59, 42, 180, 0, 38, 6, 46, 182, 1, 160, 42, 180, 0, 105, 27, 46]
abbrev dktX8_free_1 : List UInt8 := dkwX8_free_1 ++ dktX8_free_2
def dkwX8_free_0 : List UInt8 := [42, 3, 181, 0, 159, 42, 27, 182, 1, 164, 154, 0, 9, 42, 4, 182, 1, 46, 172, 42, 182, 1, 157, 42]
abbrev dktX8_free_0 : List UInt8 := dkwX8_free_0 ++ dktX8_free_1
theorem dksX8_free_0 : cX8_free.data.toList.drop 0 = dktX8_free_0 := by decide +kernel
theorem dksX8_free_1 : cX8_free.data.toList.drop 24 = dktX8_free_1 := dk_seg dksX8_free_0 24 rfl rfl
theorem dksX8_free_2 : cX8_free.data.toList.drop 48 = dktX8_free_2 := dk_seg dksX8_free_1 24 rfl rfl
theorem dX8_free_0 : decode cX8_free 0 = .ok (.aload_n 0, 1) := dk_42 (dk_at dksX8_free_0 0 rfl rfl)
theorem dX8_free_1 : decode cX8_free 1 = .ok (.iconst 0, 1) := dk_3 (dk_at dksX8_free_0 1 rfl rfl)
theorem dX8_free_2 : decode cX8_free 2 = .ok (.putfield 159, 3) := dk_181 0 159 (dk_at dksX8_free_0 2 rfl rfl)
theorem dX8_free_5 : decode cX8_free 5 = .ok (.aload_n 0, 1) := dk_42 (dk_at dksX8_free_0 5 rfl rfl)
theorem dX8_free_6 : decode cX8_free 6 = .ok (.iload_n 1, 1) := dk_27 (dk_at dksX8_free_0 6 rfl rfl)
theorem dX8_free_7 : decode cX8_free 7 = .ok (.invokevirtual 420, 3) := dk_182 1 164 (dk_at dksX8_free_0 7 rfl rfl)
theorem dX8_free_10 : decode cX8_free 10 = .ok (.ifCond .ne 9, 3) := dk_154 0 9 (dk_at dksX8_free_0 10 rfl rfl)
theorem dX8_free_13 : decode cX8_free 13 = .ok (.aload_n 0, 1) := dk_42 (dk_at dksX8_free_0 13 rfl rfl)
theorem dX8_free_14 : decode cX8_free 14 = .ok (.iconst 1, 1) := dk_4 (dk_at dksX8_free_0 14 rfl rfl)
theorem dX8_free_15 : decode cX8_free 15 = .ok (.invokevirtual 302, 3) := dk_182 1 46 (dk_at dksX8_free_0 15 rfl rfl)
theorem dX8_free_18 : decode cX8_free 18 = .ok (.ireturn, 1) := dk_172 (dk_at dksX8_free_0 18 rfl rfl)
theorem dX8_free_19 : decode cX8_free 19 = .ok (.aload_n 0, 1) := dk_42 (dk_at dksX8_free_0 19 rfl rfl)
theorem dX8_free_20 : decode cX8_free 20 = .ok (.invokevirtual 413, 3) := dk_182 1 157 (dk_at dksX8_free_0 20 rfl rfl)
theorem dX8_free_23 : decode cX8_free 23 = .ok (.aload_n 0, 1) := dk_42 (dk_at dksX8_free_0 23 rfl rfl)
theorem dX8_free_24 : decode cX8_free 24 = .ok (.iconst 1, 1) := dk_4 (dk_at dksX8_free_1 0 rfl rfl)
theorem dX8_free_25 : decode cX8_free 25 = .ok (.putfield 356, 3) := dk_181 1 100 (dk_at dksX8_free_1 1 rfl rfl)
theorem dX8_free_28 : decode cX8_free 28 = .ok (.aload_n 0, 1) := dk_42 (dk_at dksX8_free_1 4 rfl rfl)
theorem dX8_free_29 : decode cX8_free 29 = .ok (.aload_n 0, 1) := dk_42 (dk_at dksX8_free_1 5 rfl rfl)
theorem dX8_free_30 : decode cX8_free 30 = .ok (.getfield 315, 3) := dk_180 1 59 (dk_at dksX8_free_1 6 rfl rfl)
theorem dX8_free_33 : decode cX8_free 33 = .ok (.aload_n 0, 1) := dk_42 (dk_at dksX8_free_1 9 rfl rfl)
theorem dX8_free_34 : decode cX8_free 34 = .ok (.getfield 38, 3) := dk_180 0 38 (dk_at dksX8_free_1 10 rfl rfl)
theorem dX8_free_37 : decode cX8_free 37 = .ok (.iconst 3, 1) := dk_6 (dk_at dksX8_free_1 13 rfl rfl)
theorem dX8_free_38 : decode cX8_free 38 = .ok (.iaload, 1) := dk_46 (dk_at dksX8_free_1 14 rfl rfl)
theorem dX8_free_39 : decode cX8_free 39 = .ok (.invokevirtual 416, 3) := dk_182 1 160 (dk_at dksX8_free_1 15 rfl rfl)
theorem dX8_free_42 : decode cX8_free 42 = .ok (.aload_n 0, 1) := dk_42 (dk_at dksX8_free_1 18 rfl rfl)
theorem dX8_free_43 : decode cX8_free 43 = .ok (.getfield 105, 3) := dk_180 0 105 (dk_at dksX8_free_1 19 rfl rfl)
theorem dX8_free_46 : decode cX8_free 46 = .ok (.iload_n 1, 1) := dk_27 (dk_at dksX8_free_1 22 rfl rfl)
theorem dX8_free_47 : decode cX8_free 47 = .ok (.iaload, 1) := dk_46 (dk_at dksX8_free_1 23 rfl rfl)
theorem dX8_free_48 : decode cX8_free 48 = .ok (.ireturn, 1) := dk_172 (dk_at dksX8_free_2 0 rfl rfl)
abbrev cX8_outs : ByteArray := prog_21_method_83_code
def yX8_outs : MethodName := ⟨RX8, "outs", "(I)I"⟩
def dkwX8_outs_2 : List UInt8 := [29, 108, 172]
abbrev dktX8_outs_2 : List UInt8 := dkwX8_outs_2 ++ []
def dkwX8_outs_1 : List UInt8 := [42, 182, 1, 197, 61, 16, 10, 28, 184, 1, 222, 62, 27, 154, 0, 9, 28, 29, 108, 167, 0, 7, 16, 10]
abbrev dktX8_outs_1 : List UInt8 := dkwX8_outs_1 ++ dktX8_outs_2
def dkwX8_outs_0 : List UInt8 := [42, 3, 181, 0, 159, 27, 155, 0, 8, 27, 4, 164, 0, 9, 42, 4, 182, 1, 46, 172, 42, 182, 1, 157]
abbrev dktX8_outs_0 : List UInt8 := dkwX8_outs_0 ++ dktX8_outs_1
theorem dksX8_outs_0 : cX8_outs.data.toList.drop 0 = dktX8_outs_0 := by decide +kernel
theorem dksX8_outs_1 : cX8_outs.data.toList.drop 24 = dktX8_outs_1 := dk_seg dksX8_outs_0 24 rfl rfl
theorem dksX8_outs_2 : cX8_outs.data.toList.drop 48 = dktX8_outs_2 := dk_seg dksX8_outs_1 24 rfl rfl
theorem dX8_outs_0 : decode cX8_outs 0 = .ok (.aload_n 0, 1) := dk_42 (dk_at dksX8_outs_0 0 rfl rfl)
theorem dX8_outs_1 : decode cX8_outs 1 = .ok (.iconst 0, 1) := dk_3 (dk_at dksX8_outs_0 1 rfl rfl)
theorem dX8_outs_2 : decode cX8_outs 2 = .ok (.putfield 159, 3) := dk_181 0 159 (dk_at dksX8_outs_0 2 rfl rfl)
theorem dX8_outs_5 : decode cX8_outs 5 = .ok (.iload_n 1, 1) := dk_27 (dk_at dksX8_outs_0 5 rfl rfl)
theorem dX8_outs_6 : decode cX8_outs 6 = .ok (.ifCond .lt 8, 3) := dk_155 0 8 (dk_at dksX8_outs_0 6 rfl rfl)
theorem dX8_outs_9 : decode cX8_outs 9 = .ok (.iload_n 1, 1) := dk_27 (dk_at dksX8_outs_0 9 rfl rfl)
theorem dX8_outs_10 : decode cX8_outs 10 = .ok (.iconst 1, 1) := dk_4 (dk_at dksX8_outs_0 10 rfl rfl)
theorem dX8_outs_11 : decode cX8_outs 11 = .ok (.if_icmp .le 9, 3) := dk_164 0 9 (dk_at dksX8_outs_0 11 rfl rfl)
theorem dX8_outs_14 : decode cX8_outs 14 = .ok (.aload_n 0, 1) := dk_42 (dk_at dksX8_outs_0 14 rfl rfl)
theorem dX8_outs_15 : decode cX8_outs 15 = .ok (.iconst 1, 1) := dk_4 (dk_at dksX8_outs_0 15 rfl rfl)
theorem dX8_outs_16 : decode cX8_outs 16 = .ok (.invokevirtual 302, 3) := dk_182 1 46 (dk_at dksX8_outs_0 16 rfl rfl)
theorem dX8_outs_19 : decode cX8_outs 19 = .ok (.ireturn, 1) := dk_172 (dk_at dksX8_outs_0 19 rfl rfl)
theorem dX8_outs_20 : decode cX8_outs 20 = .ok (.aload_n 0, 1) := dk_42 (dk_at dksX8_outs_0 20 rfl rfl)
theorem dX8_outs_21 : decode cX8_outs 21 = .ok (.invokevirtual 413, 3) := dk_182 1 157 (dk_at dksX8_outs_0 21 rfl rfl)
theorem dX8_outs_24 : decode cX8_outs 24 = .ok (.aload_n 0, 1) := dk_42 (dk_at dksX8_outs_1 0 rfl rfl)
theorem dX8_outs_25 : decode cX8_outs 25 = .ok (.invokevirtual 453, 3) := dk_182 1 197 (dk_at dksX8_outs_1 1 rfl rfl)
theorem dX8_outs_28 : decode cX8_outs 28 = .ok (.istore_n 2, 1) := dk_61 (dk_at dksX8_outs_1 4 rfl rfl)
theorem dX8_outs_29 : decode cX8_outs 29 = .ok (.bipush 10, 2) := dk_16 10 (dk_at dksX8_outs_1 5 rfl rfl)
theorem dX8_outs_31 : decode cX8_outs 31 = .ok (.iload_n 2, 1) := dk_28 (dk_at dksX8_outs_1 7 rfl rfl)
theorem dX8_outs_32 : decode cX8_outs 32 = .ok (.invokestatic 478, 3) := dk_184 1 222 (dk_at dksX8_outs_1 8 rfl rfl)
theorem dX8_outs_35 : decode cX8_outs 35 = .ok (.istore_n 3, 1) := dk_62 (dk_at dksX8_outs_1 11 rfl rfl)
theorem dX8_outs_36 : decode cX8_outs 36 = .ok (.iload_n 1, 1) := dk_27 (dk_at dksX8_outs_1 12 rfl rfl)
theorem dX8_outs_37 : decode cX8_outs 37 = .ok (.ifCond .ne 9, 3) := dk_154 0 9 (dk_at dksX8_outs_1 13 rfl rfl)
theorem dX8_outs_40 : decode cX8_outs 40 = .ok (.iload_n 2, 1) := dk_28 (dk_at dksX8_outs_1 16 rfl rfl)
theorem dX8_outs_41 : decode cX8_outs 41 = .ok (.iload_n 3, 1) := dk_29 (dk_at dksX8_outs_1 17 rfl rfl)
theorem dX8_outs_42 : decode cX8_outs 42 = .ok (.idiv, 1) := dk_108 (dk_at dksX8_outs_1 18 rfl rfl)
theorem dX8_outs_43 : decode cX8_outs 43 = .ok (.goto 7, 3) := dk_167 0 7 (dk_at dksX8_outs_1 19 rfl rfl)
theorem dX8_outs_46 : decode cX8_outs 46 = .ok (.bipush 10, 2) := dk_16 10 (dk_at dksX8_outs_1 22 rfl rfl)
theorem dX8_outs_48 : decode cX8_outs 48 = .ok (.iload_n 3, 1) := dk_29 (dk_at dksX8_outs_2 0 rfl rfl)
theorem dX8_outs_49 : decode cX8_outs 49 = .ok (.idiv, 1) := dk_108 (dk_at dksX8_outs_2 1 rfl rfl)
theorem dX8_outs_50 : decode cX8_outs 50 = .ok (.ireturn, 1) := dk_172 (dk_at dksX8_outs_2 2 rfl rfl)
abbrev cX8_common : ByteArray := prog_21_method_82_code
def yX8_common : MethodName := ⟨RX8, "common", "(II)I"⟩
def dkwX8_common_0 : List UInt8 := [26, 61, 27, 62, 29, 153, 0, 16, 28, 29, 112, 54, 4, 29, 61, 21, 4, 62, 167, 255, 242, 28, 172]
abbrev dktX8_common_0 : List UInt8 := dkwX8_common_0 ++ []
theorem dksX8_common_0 : cX8_common.data.toList.drop 0 = dktX8_common_0 := by decide +kernel
theorem dX8_common_0 : decode cX8_common 0 = .ok (.iload_n 0, 1) := dk_26 (dk_at dksX8_common_0 0 rfl rfl)
theorem dX8_common_1 : decode cX8_common 1 = .ok (.istore_n 2, 1) := dk_61 (dk_at dksX8_common_0 1 rfl rfl)
theorem dX8_common_2 : decode cX8_common 2 = .ok (.iload_n 1, 1) := dk_27 (dk_at dksX8_common_0 2 rfl rfl)
theorem dX8_common_3 : decode cX8_common 3 = .ok (.istore_n 3, 1) := dk_62 (dk_at dksX8_common_0 3 rfl rfl)
theorem dX8_common_4 : decode cX8_common 4 = .ok (.iload_n 3, 1) := dk_29 (dk_at dksX8_common_0 4 rfl rfl)
theorem dX8_common_5 : decode cX8_common 5 = .ok (.ifCond .eq 16, 3) := dk_153 0 16 (dk_at dksX8_common_0 5 rfl rfl)
theorem dX8_common_8 : decode cX8_common 8 = .ok (.iload_n 2, 1) := dk_28 (dk_at dksX8_common_0 8 rfl rfl)
theorem dX8_common_9 : decode cX8_common 9 = .ok (.iload_n 3, 1) := dk_29 (dk_at dksX8_common_0 9 rfl rfl)
theorem dX8_common_10 : decode cX8_common 10 = .ok (.irem, 1) := dk_112 (dk_at dksX8_common_0 10 rfl rfl)
theorem dX8_common_11 : decode cX8_common 11 = .ok (.istore 4, 2) := dk_54 4 (dk_at dksX8_common_0 11 rfl rfl)
theorem dX8_common_13 : decode cX8_common 13 = .ok (.iload_n 3, 1) := dk_29 (dk_at dksX8_common_0 13 rfl rfl)
theorem dX8_common_14 : decode cX8_common 14 = .ok (.istore_n 2, 1) := dk_61 (dk_at dksX8_common_0 14 rfl rfl)
theorem dX8_common_15 : decode cX8_common 15 = .ok (.iload 4, 2) := dk_21 4 (dk_at dksX8_common_0 15 rfl rfl)
theorem dX8_common_17 : decode cX8_common 17 = .ok (.istore_n 3, 1) := dk_62 (dk_at dksX8_common_0 17 rfl rfl)
theorem dX8_common_18 : decode cX8_common 18 = .ok (.goto (-14), 3) := dk_167 255 242 (dk_at dksX8_common_0 18 rfl rfl)
theorem dX8_common_21 : decode cX8_common 21 = .ok (.iload_n 2, 1) := dk_28 (dk_at dksX8_common_0 21 rfl rfl)
theorem dX8_common_22 : decode cX8_common 22 = .ok (.ireturn, 1) := dk_172 (dk_at dksX8_common_0 22 rfl rfl)
abbrev cX8_edge : ByteArray := prog_21_method_84_code
def yX8_edge : MethodName := ⟨RX8, "edge", "()I"⟩
def dkwX8_edge_1 : List UInt8 := [42, 182, 1, 216, 42, 180, 1, 206, 172]
abbrev dktX8_edge_1 : List UInt8 := dkwX8_edge_1 ++ []
def dkwX8_edge_0 : List UInt8 := [42, 3, 181, 0, 159, 42, 180, 0, 38, 3, 46, 16, 6, 164, 0, 6, 16, 254, 172, 42, 5, 182, 1, 213]
abbrev dktX8_edge_0 : List UInt8 := dkwX8_edge_0 ++ dktX8_edge_1
theorem dksX8_edge_0 : cX8_edge.data.toList.drop 0 = dktX8_edge_0 := by decide +kernel
theorem dksX8_edge_1 : cX8_edge.data.toList.drop 24 = dktX8_edge_1 := dk_seg dksX8_edge_0 24 rfl rfl
theorem dX8_edge_0 : decode cX8_edge 0 = .ok (.aload_n 0, 1) := dk_42 (dk_at dksX8_edge_0 0 rfl rfl)
theorem dX8_edge_1 : decode cX8_edge 1 = .ok (.iconst 0, 1) := dk_3 (dk_at dksX8_edge_0 1 rfl rfl)
theorem dX8_edge_2 : decode cX8_edge 2 = .ok (.putfield 159, 3) := dk_181 0 159 (dk_at dksX8_edge_0 2 rfl rfl)
theorem dX8_edge_5 : decode cX8_edge 5 = .ok (.aload_n 0, 1) := dk_42 (dk_at dksX8_edge_0 5 rfl rfl)
theorem dX8_edge_6 : decode cX8_edge 6 = .ok (.getfield 38, 3) := dk_180 0 38 (dk_at dksX8_edge_0 6 rfl rfl)
theorem dX8_edge_9 : decode cX8_edge 9 = .ok (.iconst 0, 1) := dk_3 (dk_at dksX8_edge_0 9 rfl rfl)
theorem dX8_edge_10 : decode cX8_edge 10 = .ok (.iaload, 1) := dk_46 (dk_at dksX8_edge_0 10 rfl rfl)
theorem dX8_edge_11 : decode cX8_edge 11 = .ok (.bipush 6, 2) := dk_16 6 (dk_at dksX8_edge_0 11 rfl rfl)
theorem dX8_edge_13 : decode cX8_edge 13 = .ok (.if_icmp .le 6, 3) := dk_164 0 6 (dk_at dksX8_edge_0 13 rfl rfl)
theorem dX8_edge_16 : decode cX8_edge 16 = .ok (.bipush (-2), 2) := dk_16 254 (dk_at dksX8_edge_0 16 rfl rfl)
theorem dX8_edge_18 : decode cX8_edge 18 = .ok (.ireturn, 1) := dk_172 (dk_at dksX8_edge_0 18 rfl rfl)
theorem dX8_edge_19 : decode cX8_edge 19 = .ok (.aload_n 0, 1) := dk_42 (dk_at dksX8_edge_0 19 rfl rfl)
theorem dX8_edge_20 : decode cX8_edge 20 = .ok (.iconst 2, 1) := dk_5 (dk_at dksX8_edge_0 20 rfl rfl)
theorem dX8_edge_21 : decode cX8_edge 21 = .ok (.invokevirtual 469, 3) := dk_182 1 213 (dk_at dksX8_edge_0 21 rfl rfl)
theorem dX8_edge_24 : decode cX8_edge 24 = .ok (.aload_n 0, 1) := dk_42 (dk_at dksX8_edge_1 0 rfl rfl)
theorem dX8_edge_25 : decode cX8_edge 25 = .ok (.invokevirtual 472, 3) := dk_182 1 216 (dk_at dksX8_edge_1 1 rfl rfl)
theorem dX8_edge_28 : decode cX8_edge 28 = .ok (.aload_n 0, 1) := dk_42 (dk_at dksX8_edge_1 4 rfl rfl)
theorem dX8_edge_29 : decode cX8_edge 29 = .ok (.getfield 462, 3) := dk_180 1 206 (dk_at dksX8_edge_1 5 rfl rfl)
theorem dX8_edge_32 : decode cX8_edge 32 = .ok (.ireturn, 1) := dk_172 (dk_at dksX8_edge_1 8 rfl rfl)
abbrev cX8_fair : ByteArray := prog_21_method_85_code
def yX8_fair : MethodName := ⟨RX8, "fair", "(II)I"⟩
def dkwX8_fair_13 : List UInt8 := [172]
abbrev dktX8_fair_13 : List UInt8 := dkwX8_fair_13 ++ []
def dkwX8_fair_12 : List UInt8 := [21, 4, 42, 180, 0, 129, 21, 5, 46, 184, 0, 196, 54, 4, 132, 5, 1, 167, 255, 190, 29, 21, 4, 100]
abbrev dktX8_fair_12 : List UInt8 := dkwX8_fair_12 ++ dktX8_fair_13
def dkwX8_fair_11 : List UInt8 := [21, 5, 46, 184, 1, 135, 62, 21, 4, 2, 160, 0, 13, 42, 180, 0, 129, 21, 5, 46, 167, 0, 15]
abbrev dktX8_fair_11 : List UInt8 := dkwX8_fair_11 ++ dktX8_fair_12
def dkwX8_fair_10 : List UInt8 := [180, 1, 85, 162, 0, 63, 42, 21, 5, 182, 1, 117, 153, 0, 6, 167, 0, 45, 29, 42, 180, 0, 129]
abbrev dktX8_fair_10 : List UInt8 := dkwX8_fair_10 ++ dktX8_fair_11
def dkwX8_fair_9 : List UInt8 := [28, 2, 159, 0, 10, 42, 180, 0, 129, 28, 46, 172, 2, 62, 2, 54, 4, 3, 54, 5, 21, 5, 42]
abbrev dktX8_fair_9 : List UInt8 := dkwX8_fair_9 ++ dktX8_fair_10
def dkwX8_fair_8 : List UInt8 := [167, 255, 232, 42, 180, 1, 85, 158, 0, 11, 42, 180, 0, 90, 3, 21, 4, 79, 132, 3, 1, 167, 255, 125]
abbrev dktX8_fair_8 : List UInt8 := dkwX8_fair_8 ++ dktX8_fair_9
def dkwX8_fair_7 : List UInt8 := [21, 5, 158, 0, 25, 42, 180, 0, 90, 21, 5, 42, 180, 0, 90, 21, 5, 4, 100, 46, 79, 132, 5, 255]
abbrev dktX8_fair_7 : List UInt8 := dkwX8_fair_7 ++ dktX8_fair_8
def dkwX8_fair_6 : List UInt8 := [167, 0, 14, 42, 180, 0, 90, 42, 180, 1, 85, 4, 100, 46, 54, 4, 42, 180, 1, 85, 4, 100, 54, 5]
abbrev dktX8_fair_6 : List UInt8 := dkwX8_fair_6 ++ dktX8_fair_7
def dkwX8_fair_5 : List UInt8 := [180, 0, 105, 21, 4, 46, 96, 79, 132, 4, 1, 167, 255, 227, 42, 180, 1, 85, 154, 0, 7, 2]
abbrev dktX8_fair_5 : List UInt8 := dkwX8_fair_5 ++ dktX8_fair_6
def dkwX8_fair_4 : List UInt8 := [182, 1, 160, 3, 54, 4, 21, 4, 42, 180, 1, 85, 162, 0, 26, 42, 180, 0, 129, 21, 4, 92, 46, 42]
abbrev dktX8_fair_4 : List UInt8 := dkwX8_fair_4 ++ dktX8_fair_5
def dkwX8_fair_3 : List UInt8 := [132, 3, 1, 167, 255, 240, 3, 62, 29, 27, 162, 0, 132, 42, 42, 180, 1, 59, 42, 180, 0, 38, 6, 46]
abbrev dktX8_fair_3 : List UInt8 := dkwX8_fair_3 ++ dktX8_fair_4
def dkwX8_fair_2 : List UInt8 := [182, 1, 46, 172, 42, 182, 1, 157, 3, 62, 29, 16, 7, 162, 0, 16, 42, 180, 0, 129, 29, 3, 79]
abbrev dktX8_fair_2 : List UInt8 := dkwX8_fair_2 ++ dktX8_fair_3
def dkwX8_fair_1 : List UInt8 := [154, 0, 9, 42, 4, 182, 1, 46, 172, 27, 133, 9, 20, 1, 227, 184, 0, 162, 154, 0, 9, 42, 5]
abbrev dktX8_fair_1 : List UInt8 := dkwX8_fair_1 ++ dktX8_fair_2
def dkwX8_fair_0 : List UInt8 := [42, 3, 181, 0, 159, 28, 133, 20, 1, 225, 42, 180, 0, 38, 3, 46, 4, 100, 133, 184, 0, 162]
abbrev dktX8_fair_0 : List UInt8 := dkwX8_fair_0 ++ dktX8_fair_1
theorem dksX8_fair_0 : cX8_fair.data.toList.drop 0 = dktX8_fair_0 := by decide +kernel
theorem dksX8_fair_1 : cX8_fair.data.toList.drop 22 = dktX8_fair_1 := dk_seg dksX8_fair_0 22 rfl rfl
theorem dksX8_fair_2 : cX8_fair.data.toList.drop 45 = dktX8_fair_2 := dk_seg dksX8_fair_1 23 rfl rfl
theorem dksX8_fair_3 : cX8_fair.data.toList.drop 68 = dktX8_fair_3 := dk_seg dksX8_fair_2 23 rfl rfl
theorem dksX8_fair_4 : cX8_fair.data.toList.drop 92 = dktX8_fair_4 := dk_seg dksX8_fair_3 24 rfl rfl
theorem dksX8_fair_5 : cX8_fair.data.toList.drop 116 = dktX8_fair_5 := dk_seg dksX8_fair_4 24 rfl rfl
theorem dksX8_fair_6 : cX8_fair.data.toList.drop 138 = dktX8_fair_6 := dk_seg dksX8_fair_5 22 rfl rfl
theorem dksX8_fair_7 : cX8_fair.data.toList.drop 162 = dktX8_fair_7 := dk_seg dksX8_fair_6 24 rfl rfl
theorem dksX8_fair_8 : cX8_fair.data.toList.drop 186 = dktX8_fair_8 := dk_seg dksX8_fair_7 24 rfl rfl
theorem dksX8_fair_9 : cX8_fair.data.toList.drop 210 = dktX8_fair_9 := dk_seg dksX8_fair_8 24 rfl rfl
theorem dksX8_fair_10 : cX8_fair.data.toList.drop 233 = dktX8_fair_10 := dk_seg dksX8_fair_9 23 rfl rfl
theorem dksX8_fair_11 : cX8_fair.data.toList.drop 256 = dktX8_fair_11 := dk_seg dksX8_fair_10 23 rfl rfl
theorem dksX8_fair_12 : cX8_fair.data.toList.drop 279 = dktX8_fair_12 := dk_seg dksX8_fair_11 23 rfl rfl
theorem dksX8_fair_13 : cX8_fair.data.toList.drop 303 = dktX8_fair_13 := dk_seg dksX8_fair_12 24 rfl rfl
theorem dX8_fair_0 : decode cX8_fair 0 = .ok (.aload_n 0, 1) := dk_42 (dk_at dksX8_fair_0 0 rfl rfl)
theorem dX8_fair_1 : decode cX8_fair 1 = .ok (.iconst 0, 1) := dk_3 (dk_at dksX8_fair_0 1 rfl rfl)
theorem dX8_fair_2 : decode cX8_fair 2 = .ok (.putfield 159, 3) := dk_181 0 159 (dk_at dksX8_fair_0 2 rfl rfl)
theorem dX8_fair_5 : decode cX8_fair 5 = .ok (.iload_n 2, 1) := dk_28 (dk_at dksX8_fair_0 5 rfl rfl)
theorem dX8_fair_6 : decode cX8_fair 6 = .ok (.i2l, 1) := dk_133 (dk_at dksX8_fair_0 6 rfl rfl)
theorem dX8_fair_7 : decode cX8_fair 7 = .ok (.ldc2_w 481, 3) := dk_20 1 225 (dk_at dksX8_fair_0 7 rfl rfl)
theorem dX8_fair_10 : decode cX8_fair 10 = .ok (.aload_n 0, 1) := dk_42 (dk_at dksX8_fair_0 10 rfl rfl)
theorem dX8_fair_11 : decode cX8_fair 11 = .ok (.getfield 38, 3) := dk_180 0 38 (dk_at dksX8_fair_0 11 rfl rfl)
theorem dX8_fair_14 : decode cX8_fair 14 = .ok (.iconst 0, 1) := dk_3 (dk_at dksX8_fair_0 14 rfl rfl)
theorem dX8_fair_15 : decode cX8_fair 15 = .ok (.iaload, 1) := dk_46 (dk_at dksX8_fair_0 15 rfl rfl)
theorem dX8_fair_16 : decode cX8_fair 16 = .ok (.iconst 1, 1) := dk_4 (dk_at dksX8_fair_0 16 rfl rfl)
theorem dX8_fair_17 : decode cX8_fair 17 = .ok (.isub, 1) := dk_100 (dk_at dksX8_fair_0 17 rfl rfl)
theorem dX8_fair_18 : decode cX8_fair 18 = .ok (.i2l, 1) := dk_133 (dk_at dksX8_fair_0 18 rfl rfl)
theorem dX8_fair_19 : decode cX8_fair 19 = .ok (.invokestatic 162, 3) := dk_184 0 162 (dk_at dksX8_fair_0 19 rfl rfl)
theorem dX8_fair_22 : decode cX8_fair 22 = .ok (.ifCond .ne 9, 3) := dk_154 0 9 (dk_at dksX8_fair_1 0 rfl rfl)
theorem dX8_fair_25 : decode cX8_fair 25 = .ok (.aload_n 0, 1) := dk_42 (dk_at dksX8_fair_1 3 rfl rfl)
theorem dX8_fair_26 : decode cX8_fair 26 = .ok (.iconst 1, 1) := dk_4 (dk_at dksX8_fair_1 4 rfl rfl)
theorem dX8_fair_27 : decode cX8_fair 27 = .ok (.invokevirtual 302, 3) := dk_182 1 46 (dk_at dksX8_fair_1 5 rfl rfl)
theorem dX8_fair_30 : decode cX8_fair 30 = .ok (.ireturn, 1) := dk_172 (dk_at dksX8_fair_1 8 rfl rfl)
theorem dX8_fair_31 : decode cX8_fair 31 = .ok (.iload_n 1, 1) := dk_27 (dk_at dksX8_fair_1 9 rfl rfl)
theorem dX8_fair_32 : decode cX8_fair 32 = .ok (.i2l, 1) := dk_133 (dk_at dksX8_fair_1 10 rfl rfl)
theorem dX8_fair_33 : decode cX8_fair 33 = .ok (.lconst 0, 1) := dk_9 (dk_at dksX8_fair_1 11 rfl rfl)
theorem dX8_fair_34 : decode cX8_fair 34 = .ok (.ldc2_w 483, 3) := dk_20 1 227 (dk_at dksX8_fair_1 12 rfl rfl)
theorem dX8_fair_37 : decode cX8_fair 37 = .ok (.invokestatic 162, 3) := dk_184 0 162 (dk_at dksX8_fair_1 15 rfl rfl)
theorem dX8_fair_40 : decode cX8_fair 40 = .ok (.ifCond .ne 9, 3) := dk_154 0 9 (dk_at dksX8_fair_1 18 rfl rfl)
theorem dX8_fair_43 : decode cX8_fair 43 = .ok (.aload_n 0, 1) := dk_42 (dk_at dksX8_fair_1 21 rfl rfl)
theorem dX8_fair_44 : decode cX8_fair 44 = .ok (.iconst 2, 1) := dk_5 (dk_at dksX8_fair_1 22 rfl rfl)
theorem dX8_fair_45 : decode cX8_fair 45 = .ok (.invokevirtual 302, 3) := dk_182 1 46 (dk_at dksX8_fair_2 0 rfl rfl)
theorem dX8_fair_48 : decode cX8_fair 48 = .ok (.ireturn, 1) := dk_172 (dk_at dksX8_fair_2 3 rfl rfl)
theorem dX8_fair_49 : decode cX8_fair 49 = .ok (.aload_n 0, 1) := dk_42 (dk_at dksX8_fair_2 4 rfl rfl)
theorem dX8_fair_50 : decode cX8_fair 50 = .ok (.invokevirtual 413, 3) := dk_182 1 157 (dk_at dksX8_fair_2 5 rfl rfl)
theorem dX8_fair_53 : decode cX8_fair 53 = .ok (.iconst 0, 1) := dk_3 (dk_at dksX8_fair_2 8 rfl rfl)
theorem dX8_fair_54 : decode cX8_fair 54 = .ok (.istore_n 3, 1) := dk_62 (dk_at dksX8_fair_2 9 rfl rfl)
theorem dX8_fair_55 : decode cX8_fair 55 = .ok (.iload_n 3, 1) := dk_29 (dk_at dksX8_fair_2 10 rfl rfl)
theorem dX8_fair_56 : decode cX8_fair 56 = .ok (.bipush 7, 2) := dk_16 7 (dk_at dksX8_fair_2 11 rfl rfl)
theorem dX8_fair_58 : decode cX8_fair 58 = .ok (.if_icmp .ge 16, 3) := dk_162 0 16 (dk_at dksX8_fair_2 13 rfl rfl)
theorem dX8_fair_61 : decode cX8_fair 61 = .ok (.aload_n 0, 1) := dk_42 (dk_at dksX8_fair_2 16 rfl rfl)
theorem dX8_fair_62 : decode cX8_fair 62 = .ok (.getfield 129, 3) := dk_180 0 129 (dk_at dksX8_fair_2 17 rfl rfl)
theorem dX8_fair_65 : decode cX8_fair 65 = .ok (.iload_n 3, 1) := dk_29 (dk_at dksX8_fair_2 20 rfl rfl)
theorem dX8_fair_66 : decode cX8_fair 66 = .ok (.iconst 0, 1) := dk_3 (dk_at dksX8_fair_2 21 rfl rfl)
theorem dX8_fair_67 : decode cX8_fair 67 = .ok (.iastore, 1) := dk_79 (dk_at dksX8_fair_2 22 rfl rfl)
theorem dX8_fair_68 : decode cX8_fair 68 = .ok (.iinc 3 1, 3) := dk_132 3 1 (dk_at dksX8_fair_3 0 rfl rfl)
theorem dX8_fair_71 : decode cX8_fair 71 = .ok (.goto (-16), 3) := dk_167 255 240 (dk_at dksX8_fair_3 3 rfl rfl)
theorem dX8_fair_74 : decode cX8_fair 74 = .ok (.iconst 0, 1) := dk_3 (dk_at dksX8_fair_3 6 rfl rfl)
theorem dX8_fair_75 : decode cX8_fair 75 = .ok (.istore_n 3, 1) := dk_62 (dk_at dksX8_fair_3 7 rfl rfl)
theorem dX8_fair_76 : decode cX8_fair 76 = .ok (.iload_n 3, 1) := dk_29 (dk_at dksX8_fair_3 8 rfl rfl)
theorem dX8_fair_77 : decode cX8_fair 77 = .ok (.iload_n 1, 1) := dk_27 (dk_at dksX8_fair_3 9 rfl rfl)
theorem dX8_fair_78 : decode cX8_fair 78 = .ok (.if_icmp .ge 132, 3) := dk_162 0 132 (dk_at dksX8_fair_3 10 rfl rfl)
theorem dX8_fair_81 : decode cX8_fair 81 = .ok (.aload_n 0, 1) := dk_42 (dk_at dksX8_fair_3 13 rfl rfl)
theorem dX8_fair_82 : decode cX8_fair 82 = .ok (.aload_n 0, 1) := dk_42 (dk_at dksX8_fair_3 14 rfl rfl)
theorem dX8_fair_83 : decode cX8_fair 83 = .ok (.getfield 315, 3) := dk_180 1 59 (dk_at dksX8_fair_3 15 rfl rfl)
theorem dX8_fair_86 : decode cX8_fair 86 = .ok (.aload_n 0, 1) := dk_42 (dk_at dksX8_fair_3 18 rfl rfl)
theorem dX8_fair_87 : decode cX8_fair 87 = .ok (.getfield 38, 3) := dk_180 0 38 (dk_at dksX8_fair_3 19 rfl rfl)
theorem dX8_fair_90 : decode cX8_fair 90 = .ok (.iconst 3, 1) := dk_6 (dk_at dksX8_fair_3 22 rfl rfl)
theorem dX8_fair_91 : decode cX8_fair 91 = .ok (.iaload, 1) := dk_46 (dk_at dksX8_fair_3 23 rfl rfl)
theorem dX8_fair_92 : decode cX8_fair 92 = .ok (.invokevirtual 416, 3) := dk_182 1 160 (dk_at dksX8_fair_4 0 rfl rfl)
theorem dX8_fair_95 : decode cX8_fair 95 = .ok (.iconst 0, 1) := dk_3 (dk_at dksX8_fair_4 3 rfl rfl)
theorem dX8_fair_96 : decode cX8_fair 96 = .ok (.istore 4, 2) := dk_54 4 (dk_at dksX8_fair_4 4 rfl rfl)
theorem dX8_fair_98 : decode cX8_fair 98 = .ok (.iload 4, 2) := dk_21 4 (dk_at dksX8_fair_4 6 rfl rfl)
theorem dX8_fair_100 : decode cX8_fair 100 = .ok (.aload_n 0, 1) := dk_42 (dk_at dksX8_fair_4 8 rfl rfl)
theorem dX8_fair_101 : decode cX8_fair 101 = .ok (.getfield 341, 3) := dk_180 1 85 (dk_at dksX8_fair_4 9 rfl rfl)
theorem dX8_fair_104 : decode cX8_fair 104 = .ok (.if_icmp .ge 26, 3) := dk_162 0 26 (dk_at dksX8_fair_4 12 rfl rfl)
theorem dX8_fair_107 : decode cX8_fair 107 = .ok (.aload_n 0, 1) := dk_42 (dk_at dksX8_fair_4 15 rfl rfl)
theorem dX8_fair_108 : decode cX8_fair 108 = .ok (.getfield 129, 3) := dk_180 0 129 (dk_at dksX8_fair_4 16 rfl rfl)
theorem dX8_fair_111 : decode cX8_fair 111 = .ok (.iload 4, 2) := dk_21 4 (dk_at dksX8_fair_4 19 rfl rfl)
theorem dX8_fair_113 : decode cX8_fair 113 = .ok (.dup2, 1) := dk_92 (dk_at dksX8_fair_4 21 rfl rfl)
theorem dX8_fair_114 : decode cX8_fair 114 = .ok (.iaload, 1) := dk_46 (dk_at dksX8_fair_4 22 rfl rfl)
theorem dX8_fair_115 : decode cX8_fair 115 = .ok (.aload_n 0, 1) := dk_42 (dk_at dksX8_fair_4 23 rfl rfl)
theorem dX8_fair_116 : decode cX8_fair 116 = .ok (.getfield 105, 3) := dk_180 0 105 (dk_at dksX8_fair_5 0 rfl rfl)
theorem dX8_fair_119 : decode cX8_fair 119 = .ok (.iload 4, 2) := dk_21 4 (dk_at dksX8_fair_5 3 rfl rfl)
theorem dX8_fair_121 : decode cX8_fair 121 = .ok (.iaload, 1) := dk_46 (dk_at dksX8_fair_5 5 rfl rfl)
theorem dX8_fair_122 : decode cX8_fair 122 = .ok (.iadd, 1) := dk_96 (dk_at dksX8_fair_5 6 rfl rfl)
theorem dX8_fair_123 : decode cX8_fair 123 = .ok (.iastore, 1) := dk_79 (dk_at dksX8_fair_5 7 rfl rfl)
theorem dX8_fair_124 : decode cX8_fair 124 = .ok (.iinc 4 1, 3) := dk_132 4 1 (dk_at dksX8_fair_5 8 rfl rfl)
theorem dX8_fair_127 : decode cX8_fair 127 = .ok (.goto (-29), 3) := dk_167 255 227 (dk_at dksX8_fair_5 11 rfl rfl)
theorem dX8_fair_130 : decode cX8_fair 130 = .ok (.aload_n 0, 1) := dk_42 (dk_at dksX8_fair_5 14 rfl rfl)
theorem dX8_fair_131 : decode cX8_fair 131 = .ok (.getfield 341, 3) := dk_180 1 85 (dk_at dksX8_fair_5 15 rfl rfl)
theorem dX8_fair_134 : decode cX8_fair 134 = .ok (.ifCond .ne 7, 3) := dk_154 0 7 (dk_at dksX8_fair_5 18 rfl rfl)
theorem dX8_fair_137 : decode cX8_fair 137 = .ok (.iconst (-1), 1) := dk_2 (dk_at dksX8_fair_5 21 rfl rfl)
theorem dX8_fair_138 : decode cX8_fair 138 = .ok (.goto 14, 3) := dk_167 0 14 (dk_at dksX8_fair_6 0 rfl rfl)
theorem dX8_fair_141 : decode cX8_fair 141 = .ok (.aload_n 0, 1) := dk_42 (dk_at dksX8_fair_6 3 rfl rfl)
theorem dX8_fair_142 : decode cX8_fair 142 = .ok (.getfield 90, 3) := dk_180 0 90 (dk_at dksX8_fair_6 4 rfl rfl)
theorem dX8_fair_145 : decode cX8_fair 145 = .ok (.aload_n 0, 1) := dk_42 (dk_at dksX8_fair_6 7 rfl rfl)
theorem dX8_fair_146 : decode cX8_fair 146 = .ok (.getfield 341, 3) := dk_180 1 85 (dk_at dksX8_fair_6 8 rfl rfl)
theorem dX8_fair_149 : decode cX8_fair 149 = .ok (.iconst 1, 1) := dk_4 (dk_at dksX8_fair_6 11 rfl rfl)
theorem dX8_fair_150 : decode cX8_fair 150 = .ok (.isub, 1) := dk_100 (dk_at dksX8_fair_6 12 rfl rfl)
theorem dX8_fair_151 : decode cX8_fair 151 = .ok (.iaload, 1) := dk_46 (dk_at dksX8_fair_6 13 rfl rfl)
theorem dX8_fair_152 : decode cX8_fair 152 = .ok (.istore 4, 2) := dk_54 4 (dk_at dksX8_fair_6 14 rfl rfl)
theorem dX8_fair_154 : decode cX8_fair 154 = .ok (.aload_n 0, 1) := dk_42 (dk_at dksX8_fair_6 16 rfl rfl)
theorem dX8_fair_155 : decode cX8_fair 155 = .ok (.getfield 341, 3) := dk_180 1 85 (dk_at dksX8_fair_6 17 rfl rfl)
theorem dX8_fair_158 : decode cX8_fair 158 = .ok (.iconst 1, 1) := dk_4 (dk_at dksX8_fair_6 20 rfl rfl)
theorem dX8_fair_159 : decode cX8_fair 159 = .ok (.isub, 1) := dk_100 (dk_at dksX8_fair_6 21 rfl rfl)
theorem dX8_fair_160 : decode cX8_fair 160 = .ok (.istore 5, 2) := dk_54 5 (dk_at dksX8_fair_6 22 rfl rfl)
theorem dX8_fair_162 : decode cX8_fair 162 = .ok (.iload 5, 2) := dk_21 5 (dk_at dksX8_fair_7 0 rfl rfl)
theorem dX8_fair_164 : decode cX8_fair 164 = .ok (.ifCond .le 25, 3) := dk_158 0 25 (dk_at dksX8_fair_7 2 rfl rfl)
theorem dX8_fair_167 : decode cX8_fair 167 = .ok (.aload_n 0, 1) := dk_42 (dk_at dksX8_fair_7 5 rfl rfl)
theorem dX8_fair_168 : decode cX8_fair 168 = .ok (.getfield 90, 3) := dk_180 0 90 (dk_at dksX8_fair_7 6 rfl rfl)
theorem dX8_fair_171 : decode cX8_fair 171 = .ok (.iload 5, 2) := dk_21 5 (dk_at dksX8_fair_7 9 rfl rfl)
theorem dX8_fair_173 : decode cX8_fair 173 = .ok (.aload_n 0, 1) := dk_42 (dk_at dksX8_fair_7 11 rfl rfl)
theorem dX8_fair_174 : decode cX8_fair 174 = .ok (.getfield 90, 3) := dk_180 0 90 (dk_at dksX8_fair_7 12 rfl rfl)
theorem dX8_fair_177 : decode cX8_fair 177 = .ok (.iload 5, 2) := dk_21 5 (dk_at dksX8_fair_7 15 rfl rfl)
theorem dX8_fair_179 : decode cX8_fair 179 = .ok (.iconst 1, 1) := dk_4 (dk_at dksX8_fair_7 17 rfl rfl)
theorem dX8_fair_180 : decode cX8_fair 180 = .ok (.isub, 1) := dk_100 (dk_at dksX8_fair_7 18 rfl rfl)
theorem dX8_fair_181 : decode cX8_fair 181 = .ok (.iaload, 1) := dk_46 (dk_at dksX8_fair_7 19 rfl rfl)
theorem dX8_fair_182 : decode cX8_fair 182 = .ok (.iastore, 1) := dk_79 (dk_at dksX8_fair_7 20 rfl rfl)
theorem dX8_fair_183 : decode cX8_fair 183 = .ok (.iinc 5 (-1), 3) := dk_132 5 255 (dk_at dksX8_fair_7 21 rfl rfl)
theorem dX8_fair_186 : decode cX8_fair 186 = .ok (.goto (-24), 3) := dk_167 255 232 (dk_at dksX8_fair_8 0 rfl rfl)
theorem dX8_fair_189 : decode cX8_fair 189 = .ok (.aload_n 0, 1) := dk_42 (dk_at dksX8_fair_8 3 rfl rfl)
theorem dX8_fair_190 : decode cX8_fair 190 = .ok (.getfield 341, 3) := dk_180 1 85 (dk_at dksX8_fair_8 4 rfl rfl)
theorem dX8_fair_193 : decode cX8_fair 193 = .ok (.ifCond .le 11, 3) := dk_158 0 11 (dk_at dksX8_fair_8 7 rfl rfl)
theorem dX8_fair_196 : decode cX8_fair 196 = .ok (.aload_n 0, 1) := dk_42 (dk_at dksX8_fair_8 10 rfl rfl)
theorem dX8_fair_197 : decode cX8_fair 197 = .ok (.getfield 90, 3) := dk_180 0 90 (dk_at dksX8_fair_8 11 rfl rfl)
theorem dX8_fair_200 : decode cX8_fair 200 = .ok (.iconst 0, 1) := dk_3 (dk_at dksX8_fair_8 14 rfl rfl)
theorem dX8_fair_201 : decode cX8_fair 201 = .ok (.iload 4, 2) := dk_21 4 (dk_at dksX8_fair_8 15 rfl rfl)
theorem dX8_fair_203 : decode cX8_fair 203 = .ok (.iastore, 1) := dk_79 (dk_at dksX8_fair_8 17 rfl rfl)
theorem dX8_fair_204 : decode cX8_fair 204 = .ok (.iinc 3 1, 3) := dk_132 3 1 (dk_at dksX8_fair_8 18 rfl rfl)
theorem dX8_fair_207 : decode cX8_fair 207 = .ok (.goto (-131), 3) := dk_167 255 125 (dk_at dksX8_fair_8 21 rfl rfl)
theorem dX8_fair_210 : decode cX8_fair 210 = .ok (.iload_n 2, 1) := dk_28 (dk_at dksX8_fair_9 0 rfl rfl)
theorem dX8_fair_211 : decode cX8_fair 211 = .ok (.iconst (-1), 1) := dk_2 (dk_at dksX8_fair_9 1 rfl rfl)
theorem dX8_fair_212 : decode cX8_fair 212 = .ok (.if_icmp .eq 10, 3) := dk_159 0 10 (dk_at dksX8_fair_9 2 rfl rfl)
theorem dX8_fair_215 : decode cX8_fair 215 = .ok (.aload_n 0, 1) := dk_42 (dk_at dksX8_fair_9 5 rfl rfl)
theorem dX8_fair_216 : decode cX8_fair 216 = .ok (.getfield 129, 3) := dk_180 0 129 (dk_at dksX8_fair_9 6 rfl rfl)
theorem dX8_fair_219 : decode cX8_fair 219 = .ok (.iload_n 2, 1) := dk_28 (dk_at dksX8_fair_9 9 rfl rfl)
theorem dX8_fair_220 : decode cX8_fair 220 = .ok (.iaload, 1) := dk_46 (dk_at dksX8_fair_9 10 rfl rfl)
theorem dX8_fair_221 : decode cX8_fair 221 = .ok (.ireturn, 1) := dk_172 (dk_at dksX8_fair_9 11 rfl rfl)
theorem dX8_fair_222 : decode cX8_fair 222 = .ok (.iconst (-1), 1) := dk_2 (dk_at dksX8_fair_9 12 rfl rfl)
theorem dX8_fair_223 : decode cX8_fair 223 = .ok (.istore_n 3, 1) := dk_62 (dk_at dksX8_fair_9 13 rfl rfl)
theorem dX8_fair_224 : decode cX8_fair 224 = .ok (.iconst (-1), 1) := dk_2 (dk_at dksX8_fair_9 14 rfl rfl)
theorem dX8_fair_225 : decode cX8_fair 225 = .ok (.istore 4, 2) := dk_54 4 (dk_at dksX8_fair_9 15 rfl rfl)
theorem dX8_fair_227 : decode cX8_fair 227 = .ok (.iconst 0, 1) := dk_3 (dk_at dksX8_fair_9 17 rfl rfl)
theorem dX8_fair_228 : decode cX8_fair 228 = .ok (.istore 5, 2) := dk_54 5 (dk_at dksX8_fair_9 18 rfl rfl)
theorem dX8_fair_230 : decode cX8_fair 230 = .ok (.iload 5, 2) := dk_21 5 (dk_at dksX8_fair_9 20 rfl rfl)
theorem dX8_fair_232 : decode cX8_fair 232 = .ok (.aload_n 0, 1) := dk_42 (dk_at dksX8_fair_9 22 rfl rfl)
theorem dX8_fair_233 : decode cX8_fair 233 = .ok (.getfield 341, 3) := dk_180 1 85 (dk_at dksX8_fair_10 0 rfl rfl)
theorem dX8_fair_236 : decode cX8_fair 236 = .ok (.if_icmp .ge 63, 3) := dk_162 0 63 (dk_at dksX8_fair_10 3 rfl rfl)
theorem dX8_fair_239 : decode cX8_fair 239 = .ok (.aload_n 0, 1) := dk_42 (dk_at dksX8_fair_10 6 rfl rfl)
theorem dX8_fair_240 : decode cX8_fair 240 = .ok (.iload 5, 2) := dk_21 5 (dk_at dksX8_fair_10 7 rfl rfl)
theorem dX8_fair_242 : decode cX8_fair 242 = .ok (.invokevirtual 373, 3) := dk_182 1 117 (dk_at dksX8_fair_10 9 rfl rfl)
theorem dX8_fair_245 : decode cX8_fair 245 = .ok (.ifCond .eq 6, 3) := dk_153 0 6 (dk_at dksX8_fair_10 12 rfl rfl)
theorem dX8_fair_248 : decode cX8_fair 248 = .ok (.goto 45, 3) := dk_167 0 45 (dk_at dksX8_fair_10 15 rfl rfl)
theorem dX8_fair_251 : decode cX8_fair 251 = .ok (.iload_n 3, 1) := dk_29 (dk_at dksX8_fair_10 18 rfl rfl)
theorem dX8_fair_252 : decode cX8_fair 252 = .ok (.aload_n 0, 1) := dk_42 (dk_at dksX8_fair_10 19 rfl rfl)
theorem dX8_fair_253 : decode cX8_fair 253 = .ok (.getfield 129, 3) := dk_180 0 129 (dk_at dksX8_fair_10 20 rfl rfl)
theorem dX8_fair_256 : decode cX8_fair 256 = .ok (.iload 5, 2) := dk_21 5 (dk_at dksX8_fair_11 0 rfl rfl)
theorem dX8_fair_258 : decode cX8_fair 258 = .ok (.iaload, 1) := dk_46 (dk_at dksX8_fair_11 2 rfl rfl)
theorem dX8_fair_259 : decode cX8_fair 259 = .ok (.invokestatic 391, 3) := dk_184 1 135 (dk_at dksX8_fair_11 3 rfl rfl)
theorem dX8_fair_262 : decode cX8_fair 262 = .ok (.istore_n 3, 1) := dk_62 (dk_at dksX8_fair_11 6 rfl rfl)
theorem dX8_fair_263 : decode cX8_fair 263 = .ok (.iload 4, 2) := dk_21 4 (dk_at dksX8_fair_11 7 rfl rfl)
theorem dX8_fair_265 : decode cX8_fair 265 = .ok (.iconst (-1), 1) := dk_2 (dk_at dksX8_fair_11 9 rfl rfl)
theorem dX8_fair_266 : decode cX8_fair 266 = .ok (.if_icmp .ne 13, 3) := dk_160 0 13 (dk_at dksX8_fair_11 10 rfl rfl)
theorem dX8_fair_269 : decode cX8_fair 269 = .ok (.aload_n 0, 1) := dk_42 (dk_at dksX8_fair_11 13 rfl rfl)
theorem dX8_fair_270 : decode cX8_fair 270 = .ok (.getfield 129, 3) := dk_180 0 129 (dk_at dksX8_fair_11 14 rfl rfl)
theorem dX8_fair_273 : decode cX8_fair 273 = .ok (.iload 5, 2) := dk_21 5 (dk_at dksX8_fair_11 17 rfl rfl)
theorem dX8_fair_275 : decode cX8_fair 275 = .ok (.iaload, 1) := dk_46 (dk_at dksX8_fair_11 19 rfl rfl)
theorem dX8_fair_276 : decode cX8_fair 276 = .ok (.goto 15, 3) := dk_167 0 15 (dk_at dksX8_fair_11 20 rfl rfl)
theorem dX8_fair_279 : decode cX8_fair 279 = .ok (.iload 4, 2) := dk_21 4 (dk_at dksX8_fair_12 0 rfl rfl)
theorem dX8_fair_281 : decode cX8_fair 281 = .ok (.aload_n 0, 1) := dk_42 (dk_at dksX8_fair_12 2 rfl rfl)
theorem dX8_fair_282 : decode cX8_fair 282 = .ok (.getfield 129, 3) := dk_180 0 129 (dk_at dksX8_fair_12 3 rfl rfl)
theorem dX8_fair_285 : decode cX8_fair 285 = .ok (.iload 5, 2) := dk_21 5 (dk_at dksX8_fair_12 6 rfl rfl)
theorem dX8_fair_287 : decode cX8_fair 287 = .ok (.iaload, 1) := dk_46 (dk_at dksX8_fair_12 8 rfl rfl)
theorem dX8_fair_288 : decode cX8_fair 288 = .ok (.invokestatic 196, 3) := dk_184 0 196 (dk_at dksX8_fair_12 9 rfl rfl)
theorem dX8_fair_291 : decode cX8_fair 291 = .ok (.istore 4, 2) := dk_54 4 (dk_at dksX8_fair_12 12 rfl rfl)
theorem dX8_fair_293 : decode cX8_fair 293 = .ok (.iinc 5 1, 3) := dk_132 5 1 (dk_at dksX8_fair_12 14 rfl rfl)
theorem dX8_fair_296 : decode cX8_fair 296 = .ok (.goto (-66), 3) := dk_167 255 190 (dk_at dksX8_fair_12 17 rfl rfl)
theorem dX8_fair_299 : decode cX8_fair 299 = .ok (.iload_n 3, 1) := dk_29 (dk_at dksX8_fair_12 20 rfl rfl)
theorem dX8_fair_300 : decode cX8_fair 300 = .ok (.iload 4, 2) := dk_21 4 (dk_at dksX8_fair_12 21 rfl rfl)
theorem dX8_fair_302 : decode cX8_fair 302 = .ok (.isub, 1) := dk_100 (dk_at dksX8_fair_12 23 rfl rfl)
theorem dX8_fair_303 : decode cX8_fair 303 = .ok (.ireturn, 1) := dk_172 (dk_at dksX8_fair_13 0 rfl rfl)
abbrev cX8_see : ByteArray := prog_21_method_86_code
def yX8_see : MethodName := ⟨RX8, "see", "(III)I"⟩
def dkwX8_see_4 : List UInt8 := [79, 42, 89, 180, 1, 71, 4, 96, 181, 1, 71, 42, 180, 1, 71, 172]
abbrev dktX8_see_4 : List UInt8 := dkwX8_see_4 ++ []
def dkwX8_see_3 : List UInt8 := [180, 1, 71, 27, 79, 42, 180, 0, 135, 42, 180, 1, 71, 28, 79, 42, 180, 0, 138, 42, 180, 1, 71, 29]
abbrev dktX8_see_3 : List UInt8 := dkwX8_see_3 ++ dktX8_see_4
def dkwX8_see_2 : List UInt8 := [153, 0, 13, 29, 133, 9, 10, 184, 0, 162, 154, 0, 9, 42, 5, 182, 1, 174, 172, 42, 180, 0, 132, 42]
abbrev dktX8_see_2 : List UInt8 := dkwX8_see_2 ++ dktX8_see_3
def dkwX8_see_1 : List UInt8 := [16, 8, 159, 0, 35, 42, 180, 0, 42, 27, 46, 6, 159, 0, 25, 28, 133, 9, 20, 1, 181, 184, 0, 162]
abbrev dktX8_see_1 : List UInt8 := dkwX8_see_1 ++ dktX8_see_2
def dkwX8_see_0 : List UInt8 := [42, 3, 181, 0, 159, 42, 27, 182, 1, 164, 154, 0, 9, 42, 4, 182, 1, 46, 172, 42, 180, 1, 71]
abbrev dktX8_see_0 : List UInt8 := dkwX8_see_0 ++ dktX8_see_1
theorem dksX8_see_0 : cX8_see.data.toList.drop 0 = dktX8_see_0 := by decide +kernel
theorem dksX8_see_1 : cX8_see.data.toList.drop 23 = dktX8_see_1 := dk_seg dksX8_see_0 23 rfl rfl
theorem dksX8_see_2 : cX8_see.data.toList.drop 47 = dktX8_see_2 := dk_seg dksX8_see_1 24 rfl rfl
theorem dksX8_see_3 : cX8_see.data.toList.drop 71 = dktX8_see_3 := dk_seg dksX8_see_2 24 rfl rfl
theorem dksX8_see_4 : cX8_see.data.toList.drop 95 = dktX8_see_4 := dk_seg dksX8_see_3 24 rfl rfl
theorem dX8_see_0 : decode cX8_see 0 = .ok (.aload_n 0, 1) := dk_42 (dk_at dksX8_see_0 0 rfl rfl)
theorem dX8_see_1 : decode cX8_see 1 = .ok (.iconst 0, 1) := dk_3 (dk_at dksX8_see_0 1 rfl rfl)
theorem dX8_see_2 : decode cX8_see 2 = .ok (.putfield 159, 3) := dk_181 0 159 (dk_at dksX8_see_0 2 rfl rfl)
theorem dX8_see_5 : decode cX8_see 5 = .ok (.aload_n 0, 1) := dk_42 (dk_at dksX8_see_0 5 rfl rfl)
theorem dX8_see_6 : decode cX8_see 6 = .ok (.iload_n 1, 1) := dk_27 (dk_at dksX8_see_0 6 rfl rfl)
theorem dX8_see_7 : decode cX8_see 7 = .ok (.invokevirtual 420, 3) := dk_182 1 164 (dk_at dksX8_see_0 7 rfl rfl)
theorem dX8_see_10 : decode cX8_see 10 = .ok (.ifCond .ne 9, 3) := dk_154 0 9 (dk_at dksX8_see_0 10 rfl rfl)
theorem dX8_see_13 : decode cX8_see 13 = .ok (.aload_n 0, 1) := dk_42 (dk_at dksX8_see_0 13 rfl rfl)
theorem dX8_see_14 : decode cX8_see 14 = .ok (.iconst 1, 1) := dk_4 (dk_at dksX8_see_0 14 rfl rfl)
theorem dX8_see_15 : decode cX8_see 15 = .ok (.invokevirtual 302, 3) := dk_182 1 46 (dk_at dksX8_see_0 15 rfl rfl)
theorem dX8_see_18 : decode cX8_see 18 = .ok (.ireturn, 1) := dk_172 (dk_at dksX8_see_0 18 rfl rfl)
theorem dX8_see_19 : decode cX8_see 19 = .ok (.aload_n 0, 1) := dk_42 (dk_at dksX8_see_0 19 rfl rfl)
theorem dX8_see_20 : decode cX8_see 20 = .ok (.getfield 327, 3) := dk_180 1 71 (dk_at dksX8_see_0 20 rfl rfl)
theorem dX8_see_23 : decode cX8_see 23 = .ok (.bipush 8, 2) := dk_16 8 (dk_at dksX8_see_1 0 rfl rfl)
theorem dX8_see_25 : decode cX8_see 25 = .ok (.if_icmp .eq 35, 3) := dk_159 0 35 (dk_at dksX8_see_1 2 rfl rfl)
theorem dX8_see_28 : decode cX8_see 28 = .ok (.aload_n 0, 1) := dk_42 (dk_at dksX8_see_1 5 rfl rfl)
theorem dX8_see_29 : decode cX8_see 29 = .ok (.getfield 42, 3) := dk_180 0 42 (dk_at dksX8_see_1 6 rfl rfl)
theorem dX8_see_32 : decode cX8_see 32 = .ok (.iload_n 1, 1) := dk_27 (dk_at dksX8_see_1 9 rfl rfl)
theorem dX8_see_33 : decode cX8_see 33 = .ok (.iaload, 1) := dk_46 (dk_at dksX8_see_1 10 rfl rfl)
theorem dX8_see_34 : decode cX8_see 34 = .ok (.iconst 3, 1) := dk_6 (dk_at dksX8_see_1 11 rfl rfl)
theorem dX8_see_35 : decode cX8_see 35 = .ok (.if_icmp .eq 25, 3) := dk_159 0 25 (dk_at dksX8_see_1 12 rfl rfl)
theorem dX8_see_38 : decode cX8_see 38 = .ok (.iload_n 2, 1) := dk_28 (dk_at dksX8_see_1 15 rfl rfl)
theorem dX8_see_39 : decode cX8_see 39 = .ok (.i2l, 1) := dk_133 (dk_at dksX8_see_1 16 rfl rfl)
theorem dX8_see_40 : decode cX8_see 40 = .ok (.lconst 0, 1) := dk_9 (dk_at dksX8_see_1 17 rfl rfl)
theorem dX8_see_41 : decode cX8_see 41 = .ok (.ldc2_w 437, 3) := dk_20 1 181 (dk_at dksX8_see_1 18 rfl rfl)
theorem dX8_see_44 : decode cX8_see 44 = .ok (.invokestatic 162, 3) := dk_184 0 162 (dk_at dksX8_see_1 21 rfl rfl)
theorem dX8_see_47 : decode cX8_see 47 = .ok (.ifCond .eq 13, 3) := dk_153 0 13 (dk_at dksX8_see_2 0 rfl rfl)
theorem dX8_see_50 : decode cX8_see 50 = .ok (.iload_n 3, 1) := dk_29 (dk_at dksX8_see_2 3 rfl rfl)
theorem dX8_see_51 : decode cX8_see 51 = .ok (.i2l, 1) := dk_133 (dk_at dksX8_see_2 4 rfl rfl)
theorem dX8_see_52 : decode cX8_see 52 = .ok (.lconst 0, 1) := dk_9 (dk_at dksX8_see_2 5 rfl rfl)
theorem dX8_see_53 : decode cX8_see 53 = .ok (.lconst 1, 1) := dk_10 (dk_at dksX8_see_2 6 rfl rfl)
theorem dX8_see_54 : decode cX8_see 54 = .ok (.invokestatic 162, 3) := dk_184 0 162 (dk_at dksX8_see_2 7 rfl rfl)
theorem dX8_see_57 : decode cX8_see 57 = .ok (.ifCond .ne 9, 3) := dk_154 0 9 (dk_at dksX8_see_2 10 rfl rfl)
theorem dX8_see_60 : decode cX8_see 60 = .ok (.aload_n 0, 1) := dk_42 (dk_at dksX8_see_2 13 rfl rfl)
theorem dX8_see_61 : decode cX8_see 61 = .ok (.iconst 2, 1) := dk_5 (dk_at dksX8_see_2 14 rfl rfl)
theorem dX8_see_62 : decode cX8_see 62 = .ok (.invokevirtual 430, 3) := dk_182 1 174 (dk_at dksX8_see_2 15 rfl rfl)
theorem dX8_see_65 : decode cX8_see 65 = .ok (.ireturn, 1) := dk_172 (dk_at dksX8_see_2 18 rfl rfl)
theorem dX8_see_66 : decode cX8_see 66 = .ok (.aload_n 0, 1) := dk_42 (dk_at dksX8_see_2 19 rfl rfl)
theorem dX8_see_67 : decode cX8_see 67 = .ok (.getfield 132, 3) := dk_180 0 132 (dk_at dksX8_see_2 20 rfl rfl)
theorem dX8_see_70 : decode cX8_see 70 = .ok (.aload_n 0, 1) := dk_42 (dk_at dksX8_see_2 23 rfl rfl)
theorem dX8_see_71 : decode cX8_see 71 = .ok (.getfield 327, 3) := dk_180 1 71 (dk_at dksX8_see_3 0 rfl rfl)
theorem dX8_see_74 : decode cX8_see 74 = .ok (.iload_n 1, 1) := dk_27 (dk_at dksX8_see_3 3 rfl rfl)
theorem dX8_see_75 : decode cX8_see 75 = .ok (.iastore, 1) := dk_79 (dk_at dksX8_see_3 4 rfl rfl)
theorem dX8_see_76 : decode cX8_see 76 = .ok (.aload_n 0, 1) := dk_42 (dk_at dksX8_see_3 5 rfl rfl)
theorem dX8_see_77 : decode cX8_see 77 = .ok (.getfield 135, 3) := dk_180 0 135 (dk_at dksX8_see_3 6 rfl rfl)
theorem dX8_see_80 : decode cX8_see 80 = .ok (.aload_n 0, 1) := dk_42 (dk_at dksX8_see_3 9 rfl rfl)
theorem dX8_see_81 : decode cX8_see 81 = .ok (.getfield 327, 3) := dk_180 1 71 (dk_at dksX8_see_3 10 rfl rfl)
theorem dX8_see_84 : decode cX8_see 84 = .ok (.iload_n 2, 1) := dk_28 (dk_at dksX8_see_3 13 rfl rfl)
theorem dX8_see_85 : decode cX8_see 85 = .ok (.iastore, 1) := dk_79 (dk_at dksX8_see_3 14 rfl rfl)
theorem dX8_see_86 : decode cX8_see 86 = .ok (.aload_n 0, 1) := dk_42 (dk_at dksX8_see_3 15 rfl rfl)
theorem dX8_see_87 : decode cX8_see 87 = .ok (.getfield 138, 3) := dk_180 0 138 (dk_at dksX8_see_3 16 rfl rfl)
theorem dX8_see_90 : decode cX8_see 90 = .ok (.aload_n 0, 1) := dk_42 (dk_at dksX8_see_3 19 rfl rfl)
theorem dX8_see_91 : decode cX8_see 91 = .ok (.getfield 327, 3) := dk_180 1 71 (dk_at dksX8_see_3 20 rfl rfl)
theorem dX8_see_94 : decode cX8_see 94 = .ok (.iload_n 3, 1) := dk_29 (dk_at dksX8_see_3 23 rfl rfl)
theorem dX8_see_95 : decode cX8_see 95 = .ok (.iastore, 1) := dk_79 (dk_at dksX8_see_4 0 rfl rfl)
theorem dX8_see_96 : decode cX8_see 96 = .ok (.aload_n 0, 1) := dk_42 (dk_at dksX8_see_4 1 rfl rfl)
theorem dX8_see_97 : decode cX8_see 97 = .ok (.dup, 1) := dk_89 (dk_at dksX8_see_4 2 rfl rfl)
theorem dX8_see_98 : decode cX8_see 98 = .ok (.getfield 327, 3) := dk_180 1 71 (dk_at dksX8_see_4 3 rfl rfl)
theorem dX8_see_101 : decode cX8_see 101 = .ok (.iconst 1, 1) := dk_4 (dk_at dksX8_see_4 6 rfl rfl)
theorem dX8_see_102 : decode cX8_see 102 = .ok (.iadd, 1) := dk_96 (dk_at dksX8_see_4 7 rfl rfl)
theorem dX8_see_103 : decode cX8_see 103 = .ok (.putfield 327, 3) := dk_181 1 71 (dk_at dksX8_see_4 8 rfl rfl)
theorem dX8_see_106 : decode cX8_see 106 = .ok (.aload_n 0, 1) := dk_42 (dk_at dksX8_see_4 11 rfl rfl)
theorem dX8_see_107 : decode cX8_see 107 = .ok (.getfield 327, 3) := dk_180 1 71 (dk_at dksX8_see_4 12 rfl rfl)
theorem dX8_see_110 : decode cX8_see 110 = .ok (.ireturn, 1) := dk_172 (dk_at dksX8_see_4 15 rfl rfl)
abbrev cX8_forget : ByteArray := prog_21_method_87_code
def yX8_forget : MethodName := ⟨RX8, "forget", "()I"⟩
def dkwX8_forget_1 : List UInt8 := [42, 180, 1, 71, 172]
abbrev dktX8_forget_1 : List UInt8 := dkwX8_forget_1 ++ []
def dkwX8_forget_0 : List UInt8 := [42, 3, 181, 0, 159, 42, 180, 1, 71, 154, 0, 5, 2, 172, 42, 89, 180, 1, 71, 4, 100, 181, 1, 71]
abbrev dktX8_forget_0 : List UInt8 := dkwX8_forget_0 ++ dktX8_forget_1
theorem dksX8_forget_0 : cX8_forget.data.toList.drop 0 = dktX8_forget_0 := by decide +kernel
theorem dksX8_forget_1 : cX8_forget.data.toList.drop 24 = dktX8_forget_1 := dk_seg dksX8_forget_0 24 rfl rfl
theorem dX8_forget_0 : decode cX8_forget 0 = .ok (.aload_n 0, 1) := dk_42 (dk_at dksX8_forget_0 0 rfl rfl)
theorem dX8_forget_1 : decode cX8_forget 1 = .ok (.iconst 0, 1) := dk_3 (dk_at dksX8_forget_0 1 rfl rfl)
theorem dX8_forget_2 : decode cX8_forget 2 = .ok (.putfield 159, 3) := dk_181 0 159 (dk_at dksX8_forget_0 2 rfl rfl)
theorem dX8_forget_5 : decode cX8_forget 5 = .ok (.aload_n 0, 1) := dk_42 (dk_at dksX8_forget_0 5 rfl rfl)
theorem dX8_forget_6 : decode cX8_forget 6 = .ok (.getfield 327, 3) := dk_180 1 71 (dk_at dksX8_forget_0 6 rfl rfl)
theorem dX8_forget_9 : decode cX8_forget 9 = .ok (.ifCond .ne 5, 3) := dk_154 0 5 (dk_at dksX8_forget_0 9 rfl rfl)
theorem dX8_forget_12 : decode cX8_forget 12 = .ok (.iconst (-1), 1) := dk_2 (dk_at dksX8_forget_0 12 rfl rfl)
theorem dX8_forget_13 : decode cX8_forget 13 = .ok (.ireturn, 1) := dk_172 (dk_at dksX8_forget_0 13 rfl rfl)
theorem dX8_forget_14 : decode cX8_forget 14 = .ok (.aload_n 0, 1) := dk_42 (dk_at dksX8_forget_0 14 rfl rfl)
theorem dX8_forget_15 : decode cX8_forget 15 = .ok (.dup, 1) := dk_89 (dk_at dksX8_forget_0 15 rfl rfl)
theorem dX8_forget_16 : decode cX8_forget 16 = .ok (.getfield 327, 3) := dk_180 1 71 (dk_at dksX8_forget_0 16 rfl rfl)
theorem dX8_forget_19 : decode cX8_forget 19 = .ok (.iconst 1, 1) := dk_4 (dk_at dksX8_forget_0 19 rfl rfl)
theorem dX8_forget_20 : decode cX8_forget 20 = .ok (.isub, 1) := dk_100 (dk_at dksX8_forget_0 20 rfl rfl)
theorem dX8_forget_21 : decode cX8_forget 21 = .ok (.putfield 327, 3) := dk_181 1 71 (dk_at dksX8_forget_0 21 rfl rfl)
theorem dX8_forget_24 : decode cX8_forget 24 = .ok (.aload_n 0, 1) := dk_42 (dk_at dksX8_forget_1 0 rfl rfl)
theorem dX8_forget_25 : decode cX8_forget 25 = .ok (.getfield 327, 3) := dk_180 1 71 (dk_at dksX8_forget_1 1 rfl rfl)
theorem dX8_forget_28 : decode cX8_forget 28 = .ok (.ireturn, 1) := dk_172 (dk_at dksX8_forget_1 4 rfl rfl)
abbrev cX8_fits : ByteArray := prog_21_method_89_code
def yX8_fits : MethodName := ⟨RX8, "fits", "(I)I"⟩
def dkwX8_fits_6 : List UInt8 := [167, 0, 4, 29, 172]
abbrev dktX8_fits_6 : List UInt8 := dkwX8_fits_6 ++ []
def dkwX8_fits_5 : List UInt8 := [167, 0, 4, 29, 62, 132, 5, 1, 167, 255, 171, 132, 4, 1, 167, 255, 156, 27, 154, 0, 7, 28]
abbrev dktX8_fits_5 : List UInt8 := dkwX8_fits_5 ++ dktX8_fits_6
def dkwX8_fits_4 : List UInt8 := [154, 0, 6, 167, 0, 24, 132, 2, 1, 29, 2, 160, 0, 14, 16, 100, 21, 4, 104, 21, 5, 96]
abbrev dktX8_fits_4 : List UInt8 := dkwX8_fits_4 ++ dktX8_fits_5
def dkwX8_fits_3 : List UInt8 := [3, 167, 0, 7, 42, 180, 0, 81, 181, 1, 88, 42, 21, 5, 181, 1, 91, 42, 21, 4, 182, 1, 229]
abbrev dktX8_fits_3 : List UInt8 := dkwX8_fits_3 ++ dktX8_fits_4
def dkwX8_fits_2 : List UInt8 := [21, 5, 153, 0, 10, 42, 180, 1, 85, 154, 0, 7, 2, 167, 0, 19, 42, 180, 0, 81, 2, 160, 0, 7]
abbrev dktX8_fits_2 : List UInt8 := dkwX8_fits_2 ++ dktX8_fits_3
def dkwX8_fits_1 : List UInt8 := [3, 61, 2, 62, 3, 54, 4, 21, 4, 5, 162, 0, 100, 3, 54, 5, 21, 5, 16, 60, 163, 0, 84, 42]
abbrev dktX8_fits_1 : List UInt8 := dkwX8_fits_1 ++ dktX8_fits_2
def dkwX8_fits_0 : List UInt8 := [42, 3, 181, 0, 159, 27, 155, 0, 8, 27, 4, 164, 0, 9, 42, 4, 182, 1, 46, 172, 42, 182, 1, 157]
abbrev dktX8_fits_0 : List UInt8 := dkwX8_fits_0 ++ dktX8_fits_1
theorem dksX8_fits_0 : cX8_fits.data.toList.drop 0 = dktX8_fits_0 := by decide +kernel
theorem dksX8_fits_1 : cX8_fits.data.toList.drop 24 = dktX8_fits_1 := dk_seg dksX8_fits_0 24 rfl rfl
theorem dksX8_fits_2 : cX8_fits.data.toList.drop 48 = dktX8_fits_2 := dk_seg dksX8_fits_1 24 rfl rfl
theorem dksX8_fits_3 : cX8_fits.data.toList.drop 72 = dktX8_fits_3 := dk_seg dksX8_fits_2 24 rfl rfl
theorem dksX8_fits_4 : cX8_fits.data.toList.drop 95 = dktX8_fits_4 := dk_seg dksX8_fits_3 23 rfl rfl
theorem dksX8_fits_5 : cX8_fits.data.toList.drop 117 = dktX8_fits_5 := dk_seg dksX8_fits_4 22 rfl rfl
theorem dksX8_fits_6 : cX8_fits.data.toList.drop 139 = dktX8_fits_6 := dk_seg dksX8_fits_5 22 rfl rfl
theorem dX8_fits_0 : decode cX8_fits 0 = .ok (.aload_n 0, 1) := dk_42 (dk_at dksX8_fits_0 0 rfl rfl)
theorem dX8_fits_1 : decode cX8_fits 1 = .ok (.iconst 0, 1) := dk_3 (dk_at dksX8_fits_0 1 rfl rfl)
theorem dX8_fits_2 : decode cX8_fits 2 = .ok (.putfield 159, 3) := dk_181 0 159 (dk_at dksX8_fits_0 2 rfl rfl)
theorem dX8_fits_5 : decode cX8_fits 5 = .ok (.iload_n 1, 1) := dk_27 (dk_at dksX8_fits_0 5 rfl rfl)
theorem dX8_fits_6 : decode cX8_fits 6 = .ok (.ifCond .lt 8, 3) := dk_155 0 8 (dk_at dksX8_fits_0 6 rfl rfl)
theorem dX8_fits_9 : decode cX8_fits 9 = .ok (.iload_n 1, 1) := dk_27 (dk_at dksX8_fits_0 9 rfl rfl)
theorem dX8_fits_10 : decode cX8_fits 10 = .ok (.iconst 1, 1) := dk_4 (dk_at dksX8_fits_0 10 rfl rfl)
theorem dX8_fits_11 : decode cX8_fits 11 = .ok (.if_icmp .le 9, 3) := dk_164 0 9 (dk_at dksX8_fits_0 11 rfl rfl)
theorem dX8_fits_14 : decode cX8_fits 14 = .ok (.aload_n 0, 1) := dk_42 (dk_at dksX8_fits_0 14 rfl rfl)
theorem dX8_fits_15 : decode cX8_fits 15 = .ok (.iconst 1, 1) := dk_4 (dk_at dksX8_fits_0 15 rfl rfl)
theorem dX8_fits_16 : decode cX8_fits 16 = .ok (.invokevirtual 302, 3) := dk_182 1 46 (dk_at dksX8_fits_0 16 rfl rfl)
theorem dX8_fits_19 : decode cX8_fits 19 = .ok (.ireturn, 1) := dk_172 (dk_at dksX8_fits_0 19 rfl rfl)
theorem dX8_fits_20 : decode cX8_fits 20 = .ok (.aload_n 0, 1) := dk_42 (dk_at dksX8_fits_0 20 rfl rfl)
theorem dX8_fits_21 : decode cX8_fits 21 = .ok (.invokevirtual 413, 3) := dk_182 1 157 (dk_at dksX8_fits_0 21 rfl rfl)
theorem dX8_fits_24 : decode cX8_fits 24 = .ok (.iconst 0, 1) := dk_3 (dk_at dksX8_fits_1 0 rfl rfl)
theorem dX8_fits_25 : decode cX8_fits 25 = .ok (.istore_n 2, 1) := dk_61 (dk_at dksX8_fits_1 1 rfl rfl)
theorem dX8_fits_26 : decode cX8_fits 26 = .ok (.iconst (-1), 1) := dk_2 (dk_at dksX8_fits_1 2 rfl rfl)
theorem dX8_fits_27 : decode cX8_fits 27 = .ok (.istore_n 3, 1) := dk_62 (dk_at dksX8_fits_1 3 rfl rfl)
theorem dX8_fits_28 : decode cX8_fits 28 = .ok (.iconst 0, 1) := dk_3 (dk_at dksX8_fits_1 4 rfl rfl)
theorem dX8_fits_29 : decode cX8_fits 29 = .ok (.istore 4, 2) := dk_54 4 (dk_at dksX8_fits_1 5 rfl rfl)
theorem dX8_fits_31 : decode cX8_fits 31 = .ok (.iload 4, 2) := dk_21 4 (dk_at dksX8_fits_1 7 rfl rfl)
theorem dX8_fits_33 : decode cX8_fits 33 = .ok (.iconst 2, 1) := dk_5 (dk_at dksX8_fits_1 9 rfl rfl)
theorem dX8_fits_34 : decode cX8_fits 34 = .ok (.if_icmp .ge 100, 3) := dk_162 0 100 (dk_at dksX8_fits_1 10 rfl rfl)
theorem dX8_fits_37 : decode cX8_fits 37 = .ok (.iconst 0, 1) := dk_3 (dk_at dksX8_fits_1 13 rfl rfl)
theorem dX8_fits_38 : decode cX8_fits 38 = .ok (.istore 5, 2) := dk_54 5 (dk_at dksX8_fits_1 14 rfl rfl)
theorem dX8_fits_40 : decode cX8_fits 40 = .ok (.iload 5, 2) := dk_21 5 (dk_at dksX8_fits_1 16 rfl rfl)
theorem dX8_fits_42 : decode cX8_fits 42 = .ok (.bipush 60, 2) := dk_16 60 (dk_at dksX8_fits_1 18 rfl rfl)
theorem dX8_fits_44 : decode cX8_fits 44 = .ok (.if_icmp .gt 84, 3) := dk_163 0 84 (dk_at dksX8_fits_1 20 rfl rfl)
theorem dX8_fits_47 : decode cX8_fits 47 = .ok (.aload_n 0, 1) := dk_42 (dk_at dksX8_fits_1 23 rfl rfl)
theorem dX8_fits_48 : decode cX8_fits 48 = .ok (.iload 5, 2) := dk_21 5 (dk_at dksX8_fits_2 0 rfl rfl)
theorem dX8_fits_50 : decode cX8_fits 50 = .ok (.ifCond .eq 10, 3) := dk_153 0 10 (dk_at dksX8_fits_2 2 rfl rfl)
theorem dX8_fits_53 : decode cX8_fits 53 = .ok (.aload_n 0, 1) := dk_42 (dk_at dksX8_fits_2 5 rfl rfl)
theorem dX8_fits_54 : decode cX8_fits 54 = .ok (.getfield 341, 3) := dk_180 1 85 (dk_at dksX8_fits_2 6 rfl rfl)
theorem dX8_fits_57 : decode cX8_fits 57 = .ok (.ifCond .ne 7, 3) := dk_154 0 7 (dk_at dksX8_fits_2 9 rfl rfl)
theorem dX8_fits_60 : decode cX8_fits 60 = .ok (.iconst (-1), 1) := dk_2 (dk_at dksX8_fits_2 12 rfl rfl)
theorem dX8_fits_61 : decode cX8_fits 61 = .ok (.goto 19, 3) := dk_167 0 19 (dk_at dksX8_fits_2 13 rfl rfl)
theorem dX8_fits_64 : decode cX8_fits 64 = .ok (.aload_n 0, 1) := dk_42 (dk_at dksX8_fits_2 16 rfl rfl)
theorem dX8_fits_65 : decode cX8_fits 65 = .ok (.getfield 81, 3) := dk_180 0 81 (dk_at dksX8_fits_2 17 rfl rfl)
theorem dX8_fits_68 : decode cX8_fits 68 = .ok (.iconst (-1), 1) := dk_2 (dk_at dksX8_fits_2 20 rfl rfl)
theorem dX8_fits_69 : decode cX8_fits 69 = .ok (.if_icmp .ne 7, 3) := dk_160 0 7 (dk_at dksX8_fits_2 21 rfl rfl)
theorem dX8_fits_72 : decode cX8_fits 72 = .ok (.iconst 0, 1) := dk_3 (dk_at dksX8_fits_3 0 rfl rfl)
theorem dX8_fits_73 : decode cX8_fits 73 = .ok (.goto 7, 3) := dk_167 0 7 (dk_at dksX8_fits_3 1 rfl rfl)
theorem dX8_fits_76 : decode cX8_fits 76 = .ok (.aload_n 0, 1) := dk_42 (dk_at dksX8_fits_3 4 rfl rfl)
theorem dX8_fits_77 : decode cX8_fits 77 = .ok (.getfield 81, 3) := dk_180 0 81 (dk_at dksX8_fits_3 5 rfl rfl)
theorem dX8_fits_80 : decode cX8_fits 80 = .ok (.putfield 344, 3) := dk_181 1 88 (dk_at dksX8_fits_3 8 rfl rfl)
theorem dX8_fits_83 : decode cX8_fits 83 = .ok (.aload_n 0, 1) := dk_42 (dk_at dksX8_fits_3 11 rfl rfl)
theorem dX8_fits_84 : decode cX8_fits 84 = .ok (.iload 5, 2) := dk_21 5 (dk_at dksX8_fits_3 12 rfl rfl)
theorem dX8_fits_86 : decode cX8_fits 86 = .ok (.putfield 347, 3) := dk_181 1 91 (dk_at dksX8_fits_3 14 rfl rfl)
theorem dX8_fits_89 : decode cX8_fits 89 = .ok (.aload_n 0, 1) := dk_42 (dk_at dksX8_fits_3 17 rfl rfl)
theorem dX8_fits_90 : decode cX8_fits 90 = .ok (.iload 4, 2) := dk_21 4 (dk_at dksX8_fits_3 18 rfl rfl)
theorem dX8_fits_92 : decode cX8_fits 92 = .ok (.invokevirtual 485, 3) := dk_182 1 229 (dk_at dksX8_fits_3 20 rfl rfl)
theorem dX8_fits_95 : decode cX8_fits 95 = .ok (.ifCond .ne 6, 3) := dk_154 0 6 (dk_at dksX8_fits_4 0 rfl rfl)
theorem dX8_fits_98 : decode cX8_fits 98 = .ok (.goto 24, 3) := dk_167 0 24 (dk_at dksX8_fits_4 3 rfl rfl)
theorem dX8_fits_101 : decode cX8_fits 101 = .ok (.iinc 2 1, 3) := dk_132 2 1 (dk_at dksX8_fits_4 6 rfl rfl)
theorem dX8_fits_104 : decode cX8_fits 104 = .ok (.iload_n 3, 1) := dk_29 (dk_at dksX8_fits_4 9 rfl rfl)
theorem dX8_fits_105 : decode cX8_fits 105 = .ok (.iconst (-1), 1) := dk_2 (dk_at dksX8_fits_4 10 rfl rfl)
theorem dX8_fits_106 : decode cX8_fits 106 = .ok (.if_icmp .ne 14, 3) := dk_160 0 14 (dk_at dksX8_fits_4 11 rfl rfl)
theorem dX8_fits_109 : decode cX8_fits 109 = .ok (.bipush 100, 2) := dk_16 100 (dk_at dksX8_fits_4 14 rfl rfl)
theorem dX8_fits_111 : decode cX8_fits 111 = .ok (.iload 4, 2) := dk_21 4 (dk_at dksX8_fits_4 16 rfl rfl)
theorem dX8_fits_113 : decode cX8_fits 113 = .ok (.imul, 1) := dk_104 (dk_at dksX8_fits_4 18 rfl rfl)
theorem dX8_fits_114 : decode cX8_fits 114 = .ok (.iload 5, 2) := dk_21 5 (dk_at dksX8_fits_4 19 rfl rfl)
theorem dX8_fits_116 : decode cX8_fits 116 = .ok (.iadd, 1) := dk_96 (dk_at dksX8_fits_4 21 rfl rfl)
theorem dX8_fits_117 : decode cX8_fits 117 = .ok (.goto 4, 3) := dk_167 0 4 (dk_at dksX8_fits_5 0 rfl rfl)
theorem dX8_fits_120 : decode cX8_fits 120 = .ok (.iload_n 3, 1) := dk_29 (dk_at dksX8_fits_5 3 rfl rfl)
theorem dX8_fits_121 : decode cX8_fits 121 = .ok (.istore_n 3, 1) := dk_62 (dk_at dksX8_fits_5 4 rfl rfl)
theorem dX8_fits_122 : decode cX8_fits 122 = .ok (.iinc 5 1, 3) := dk_132 5 1 (dk_at dksX8_fits_5 5 rfl rfl)
theorem dX8_fits_125 : decode cX8_fits 125 = .ok (.goto (-85), 3) := dk_167 255 171 (dk_at dksX8_fits_5 8 rfl rfl)
theorem dX8_fits_128 : decode cX8_fits 128 = .ok (.iinc 4 1, 3) := dk_132 4 1 (dk_at dksX8_fits_5 11 rfl rfl)
theorem dX8_fits_131 : decode cX8_fits 131 = .ok (.goto (-100), 3) := dk_167 255 156 (dk_at dksX8_fits_5 14 rfl rfl)
theorem dX8_fits_134 : decode cX8_fits 134 = .ok (.iload_n 1, 1) := dk_27 (dk_at dksX8_fits_5 17 rfl rfl)
theorem dX8_fits_135 : decode cX8_fits 135 = .ok (.ifCond .ne 7, 3) := dk_154 0 7 (dk_at dksX8_fits_5 18 rfl rfl)
theorem dX8_fits_138 : decode cX8_fits 138 = .ok (.iload_n 2, 1) := dk_28 (dk_at dksX8_fits_5 21 rfl rfl)
theorem dX8_fits_139 : decode cX8_fits 139 = .ok (.goto 4, 3) := dk_167 0 4 (dk_at dksX8_fits_6 0 rfl rfl)
theorem dX8_fits_142 : decode cX8_fits 142 = .ok (.iload_n 3, 1) := dk_29 (dk_at dksX8_fits_6 3 rfl rfl)
theorem dX8_fits_143 : decode cX8_fits 143 = .ok (.ireturn, 1) := dk_172 (dk_at dksX8_fits_6 4 rfl rfl)
abbrev cX8_isAsSeen : ByteArray := prog_21_method_88_code
def yX8_isAsSeen : MethodName := ⟨RX8, "isAsSeen", "(I)Z"⟩
def dkwX8_isAsSeen_2 : List UInt8 := [159, 0, 5, 3, 172, 132, 2, 1, 167, 255, 203, 4, 172]
abbrev dktX8_isAsSeen_2 : List UInt8 := dkwX8_isAsSeen_2 ++ []
def dkwX8_isAsSeen_1 : List UInt8 := [184, 0, 196, 182, 1, 160, 42, 180, 0, 96, 42, 180, 0, 132, 28, 46, 46, 42, 180, 0, 138, 28, 46]
abbrev dktX8_isAsSeen_1 : List UInt8 := dkwX8_isAsSeen_1 ++ dktX8_isAsSeen_2
def dkwX8_isAsSeen_0 : List UInt8 := [3, 61, 28, 42, 180, 1, 71, 162, 0, 51, 42, 27, 42, 180, 0, 135, 28, 46, 42, 180, 0, 38, 6, 46]
abbrev dktX8_isAsSeen_0 : List UInt8 := dkwX8_isAsSeen_0 ++ dktX8_isAsSeen_1
theorem dksX8_isAsSeen_0 : cX8_isAsSeen.data.toList.drop 0 = dktX8_isAsSeen_0 := by decide +kernel
theorem dksX8_isAsSeen_1 : cX8_isAsSeen.data.toList.drop 24 = dktX8_isAsSeen_1 := dk_seg dksX8_isAsSeen_0 24 rfl rfl
theorem dksX8_isAsSeen_2 : cX8_isAsSeen.data.toList.drop 47 = dktX8_isAsSeen_2 := dk_seg dksX8_isAsSeen_1 23 rfl rfl
theorem dX8_isAsSeen_0 : decode cX8_isAsSeen 0 = .ok (.iconst 0, 1) := dk_3 (dk_at dksX8_isAsSeen_0 0 rfl rfl)
theorem dX8_isAsSeen_1 : decode cX8_isAsSeen 1 = .ok (.istore_n 2, 1) := dk_61 (dk_at dksX8_isAsSeen_0 1 rfl rfl)
theorem dX8_isAsSeen_2 : decode cX8_isAsSeen 2 = .ok (.iload_n 2, 1) := dk_28 (dk_at dksX8_isAsSeen_0 2 rfl rfl)
theorem dX8_isAsSeen_3 : decode cX8_isAsSeen 3 = .ok (.aload_n 0, 1) := dk_42 (dk_at dksX8_isAsSeen_0 3 rfl rfl)
theorem dX8_isAsSeen_4 : decode cX8_isAsSeen 4 = .ok (.getfield 327, 3) := dk_180 1 71 (dk_at dksX8_isAsSeen_0 4 rfl rfl)
theorem dX8_isAsSeen_7 : decode cX8_isAsSeen 7 = .ok (.if_icmp .ge 51, 3) := dk_162 0 51 (dk_at dksX8_isAsSeen_0 7 rfl rfl)
theorem dX8_isAsSeen_10 : decode cX8_isAsSeen 10 = .ok (.aload_n 0, 1) := dk_42 (dk_at dksX8_isAsSeen_0 10 rfl rfl)
theorem dX8_isAsSeen_11 : decode cX8_isAsSeen 11 = .ok (.iload_n 1, 1) := dk_27 (dk_at dksX8_isAsSeen_0 11 rfl rfl)
theorem dX8_isAsSeen_12 : decode cX8_isAsSeen 12 = .ok (.aload_n 0, 1) := dk_42 (dk_at dksX8_isAsSeen_0 12 rfl rfl)
theorem dX8_isAsSeen_13 : decode cX8_isAsSeen 13 = .ok (.getfield 135, 3) := dk_180 0 135 (dk_at dksX8_isAsSeen_0 13 rfl rfl)
theorem dX8_isAsSeen_16 : decode cX8_isAsSeen 16 = .ok (.iload_n 2, 1) := dk_28 (dk_at dksX8_isAsSeen_0 16 rfl rfl)
theorem dX8_isAsSeen_17 : decode cX8_isAsSeen 17 = .ok (.iaload, 1) := dk_46 (dk_at dksX8_isAsSeen_0 17 rfl rfl)
theorem dX8_isAsSeen_18 : decode cX8_isAsSeen 18 = .ok (.aload_n 0, 1) := dk_42 (dk_at dksX8_isAsSeen_0 18 rfl rfl)
theorem dX8_isAsSeen_19 : decode cX8_isAsSeen 19 = .ok (.getfield 38, 3) := dk_180 0 38 (dk_at dksX8_isAsSeen_0 19 rfl rfl)
theorem dX8_isAsSeen_22 : decode cX8_isAsSeen 22 = .ok (.iconst 3, 1) := dk_6 (dk_at dksX8_isAsSeen_0 22 rfl rfl)
theorem dX8_isAsSeen_23 : decode cX8_isAsSeen 23 = .ok (.iaload, 1) := dk_46 (dk_at dksX8_isAsSeen_0 23 rfl rfl)
theorem dX8_isAsSeen_24 : decode cX8_isAsSeen 24 = .ok (.invokestatic 196, 3) := dk_184 0 196 (dk_at dksX8_isAsSeen_1 0 rfl rfl)
theorem dX8_isAsSeen_27 : decode cX8_isAsSeen 27 = .ok (.invokevirtual 416, 3) := dk_182 1 160 (dk_at dksX8_isAsSeen_1 3 rfl rfl)
theorem dX8_isAsSeen_30 : decode cX8_isAsSeen 30 = .ok (.aload_n 0, 1) := dk_42 (dk_at dksX8_isAsSeen_1 6 rfl rfl)
theorem dX8_isAsSeen_31 : decode cX8_isAsSeen 31 = .ok (.getfield 96, 3) := dk_180 0 96 (dk_at dksX8_isAsSeen_1 7 rfl rfl)
theorem dX8_isAsSeen_34 : decode cX8_isAsSeen 34 = .ok (.aload_n 0, 1) := dk_42 (dk_at dksX8_isAsSeen_1 10 rfl rfl)
theorem dX8_isAsSeen_35 : decode cX8_isAsSeen 35 = .ok (.getfield 132, 3) := dk_180 0 132 (dk_at dksX8_isAsSeen_1 11 rfl rfl)
theorem dX8_isAsSeen_38 : decode cX8_isAsSeen 38 = .ok (.iload_n 2, 1) := dk_28 (dk_at dksX8_isAsSeen_1 14 rfl rfl)
theorem dX8_isAsSeen_39 : decode cX8_isAsSeen 39 = .ok (.iaload, 1) := dk_46 (dk_at dksX8_isAsSeen_1 15 rfl rfl)
theorem dX8_isAsSeen_40 : decode cX8_isAsSeen 40 = .ok (.iaload, 1) := dk_46 (dk_at dksX8_isAsSeen_1 16 rfl rfl)
theorem dX8_isAsSeen_41 : decode cX8_isAsSeen 41 = .ok (.aload_n 0, 1) := dk_42 (dk_at dksX8_isAsSeen_1 17 rfl rfl)
theorem dX8_isAsSeen_42 : decode cX8_isAsSeen 42 = .ok (.getfield 138, 3) := dk_180 0 138 (dk_at dksX8_isAsSeen_1 18 rfl rfl)
theorem dX8_isAsSeen_45 : decode cX8_isAsSeen 45 = .ok (.iload_n 2, 1) := dk_28 (dk_at dksX8_isAsSeen_1 21 rfl rfl)
theorem dX8_isAsSeen_46 : decode cX8_isAsSeen 46 = .ok (.iaload, 1) := dk_46 (dk_at dksX8_isAsSeen_1 22 rfl rfl)
theorem dX8_isAsSeen_47 : decode cX8_isAsSeen 47 = .ok (.if_icmp .eq 5, 3) := dk_159 0 5 (dk_at dksX8_isAsSeen_2 0 rfl rfl)
theorem dX8_isAsSeen_50 : decode cX8_isAsSeen 50 = .ok (.iconst 0, 1) := dk_3 (dk_at dksX8_isAsSeen_2 3 rfl rfl)
theorem dX8_isAsSeen_51 : decode cX8_isAsSeen 51 = .ok (.ireturn, 1) := dk_172 (dk_at dksX8_isAsSeen_2 4 rfl rfl)
theorem dX8_isAsSeen_52 : decode cX8_isAsSeen 52 = .ok (.iinc 2 1, 3) := dk_132 2 1 (dk_at dksX8_isAsSeen_2 5 rfl rfl)
theorem dX8_isAsSeen_55 : decode cX8_isAsSeen 55 = .ok (.goto (-53), 3) := dk_167 255 203 (dk_at dksX8_isAsSeen_2 8 rfl rfl)
theorem dX8_isAsSeen_58 : decode cX8_isAsSeen 58 = .ok (.iconst 1, 1) := dk_4 (dk_at dksX8_isAsSeen_2 11 rfl rfl)
theorem dX8_isAsSeen_59 : decode cX8_isAsSeen 59 = .ok (.ireturn, 1) := dk_172 (dk_at dksX8_isAsSeen_2 12 rfl rfl)
abbrev cX8_without : ByteArray := prog_21_method_90_code
def yX8_without : MethodName := ⟨RX8, "without", "(I)I"⟩
def dkwX8_without_5 : List UInt8 := [182, 1, 160, 28, 42, 182, 1, 191, 100, 172]
abbrev dktX8_without_5 : List UInt8 := dkwX8_without_5 ++ []
def dkwX8_without_4 : List UInt8 := [160, 0, 8, 42, 2, 181, 1, 88, 42, 182, 1, 97, 42, 42, 180, 1, 59, 42, 180, 0, 38, 6, 46]
abbrev dktX8_without_4 : List UInt8 := dkwX8_without_4 ++ dktX8_without_5
def dkwX8_without_3 : List UInt8 := [21, 4, 42, 180, 0, 90, 21, 4, 4, 96, 46, 79, 132, 4, 1, 167, 255, 228, 42, 180, 1, 88, 27]
abbrev dktX8_without_3 : List UInt8 := dkwX8_without_3 ++ dktX8_without_4
def dkwX8_without_2 : List UInt8 := [180, 1, 85, 4, 100, 181, 1, 85, 29, 54, 4, 21, 4, 42, 180, 1, 85, 162, 0, 25, 42, 180, 0, 90]
abbrev dktX8_without_2 : List UInt8 := dkwX8_without_2 ++ dktX8_without_3
def dkwX8_without_1 : List UInt8 := [182, 1, 191, 42, 180, 0, 105, 27, 46, 100, 61, 42, 182, 1, 157, 42, 27, 182, 1, 138, 62, 42, 89]
abbrev dktX8_without_1 : List UInt8 := dkwX8_without_1 ++ dktX8_without_2
def dkwX8_without_0 : List UInt8 := [42, 3, 181, 0, 159, 42, 27, 182, 1, 164, 154, 0, 9, 42, 4, 182, 1, 46, 172, 42, 182, 1, 188, 42]
abbrev dktX8_without_0 : List UInt8 := dkwX8_without_0 ++ dktX8_without_1
theorem dksX8_without_0 : cX8_without.data.toList.drop 0 = dktX8_without_0 := by decide +kernel
theorem dksX8_without_1 : cX8_without.data.toList.drop 24 = dktX8_without_1 := dk_seg dksX8_without_0 24 rfl rfl
theorem dksX8_without_2 : cX8_without.data.toList.drop 47 = dktX8_without_2 := dk_seg dksX8_without_1 23 rfl rfl
theorem dksX8_without_3 : cX8_without.data.toList.drop 71 = dktX8_without_3 := dk_seg dksX8_without_2 24 rfl rfl
theorem dksX8_without_4 : cX8_without.data.toList.drop 94 = dktX8_without_4 := dk_seg dksX8_without_3 23 rfl rfl
theorem dksX8_without_5 : cX8_without.data.toList.drop 117 = dktX8_without_5 := dk_seg dksX8_without_4 23 rfl rfl
theorem dX8_without_0 : decode cX8_without 0 = .ok (.aload_n 0, 1) := dk_42 (dk_at dksX8_without_0 0 rfl rfl)
theorem dX8_without_1 : decode cX8_without 1 = .ok (.iconst 0, 1) := dk_3 (dk_at dksX8_without_0 1 rfl rfl)
theorem dX8_without_2 : decode cX8_without 2 = .ok (.putfield 159, 3) := dk_181 0 159 (dk_at dksX8_without_0 2 rfl rfl)
theorem dX8_without_5 : decode cX8_without 5 = .ok (.aload_n 0, 1) := dk_42 (dk_at dksX8_without_0 5 rfl rfl)
theorem dX8_without_6 : decode cX8_without 6 = .ok (.iload_n 1, 1) := dk_27 (dk_at dksX8_without_0 6 rfl rfl)
theorem dX8_without_7 : decode cX8_without 7 = .ok (.invokevirtual 420, 3) := dk_182 1 164 (dk_at dksX8_without_0 7 rfl rfl)
theorem dX8_without_10 : decode cX8_without 10 = .ok (.ifCond .ne 9, 3) := dk_154 0 9 (dk_at dksX8_without_0 10 rfl rfl)
theorem dX8_without_13 : decode cX8_without 13 = .ok (.aload_n 0, 1) := dk_42 (dk_at dksX8_without_0 13 rfl rfl)
theorem dX8_without_14 : decode cX8_without 14 = .ok (.iconst 1, 1) := dk_4 (dk_at dksX8_without_0 14 rfl rfl)
theorem dX8_without_15 : decode cX8_without 15 = .ok (.invokevirtual 302, 3) := dk_182 1 46 (dk_at dksX8_without_0 15 rfl rfl)
theorem dX8_without_18 : decode cX8_without 18 = .ok (.ireturn, 1) := dk_172 (dk_at dksX8_without_0 18 rfl rfl)
theorem dX8_without_19 : decode cX8_without 19 = .ok (.aload_n 0, 1) := dk_42 (dk_at dksX8_without_0 19 rfl rfl)
theorem dX8_without_20 : decode cX8_without 20 = .ok (.invokevirtual 444, 3) := dk_182 1 188 (dk_at dksX8_without_0 20 rfl rfl)
theorem dX8_without_23 : decode cX8_without 23 = .ok (.aload_n 0, 1) := dk_42 (dk_at dksX8_without_0 23 rfl rfl)
theorem dX8_without_24 : decode cX8_without 24 = .ok (.invokevirtual 447, 3) := dk_182 1 191 (dk_at dksX8_without_1 0 rfl rfl)
theorem dX8_without_27 : decode cX8_without 27 = .ok (.aload_n 0, 1) := dk_42 (dk_at dksX8_without_1 3 rfl rfl)
theorem dX8_without_28 : decode cX8_without 28 = .ok (.getfield 105, 3) := dk_180 0 105 (dk_at dksX8_without_1 4 rfl rfl)
theorem dX8_without_31 : decode cX8_without 31 = .ok (.iload_n 1, 1) := dk_27 (dk_at dksX8_without_1 7 rfl rfl)
theorem dX8_without_32 : decode cX8_without 32 = .ok (.iaload, 1) := dk_46 (dk_at dksX8_without_1 8 rfl rfl)
theorem dX8_without_33 : decode cX8_without 33 = .ok (.isub, 1) := dk_100 (dk_at dksX8_without_1 9 rfl rfl)
theorem dX8_without_34 : decode cX8_without 34 = .ok (.istore_n 2, 1) := dk_61 (dk_at dksX8_without_1 10 rfl rfl)
theorem dX8_without_35 : decode cX8_without 35 = .ok (.aload_n 0, 1) := dk_42 (dk_at dksX8_without_1 11 rfl rfl)
theorem dX8_without_36 : decode cX8_without 36 = .ok (.invokevirtual 413, 3) := dk_182 1 157 (dk_at dksX8_without_1 12 rfl rfl)
theorem dX8_without_39 : decode cX8_without 39 = .ok (.aload_n 0, 1) := dk_42 (dk_at dksX8_without_1 15 rfl rfl)
theorem dX8_without_40 : decode cX8_without 40 = .ok (.iload_n 1, 1) := dk_27 (dk_at dksX8_without_1 16 rfl rfl)
theorem dX8_without_41 : decode cX8_without 41 = .ok (.invokevirtual 394, 3) := dk_182 1 138 (dk_at dksX8_without_1 17 rfl rfl)
theorem dX8_without_44 : decode cX8_without 44 = .ok (.istore_n 3, 1) := dk_62 (dk_at dksX8_without_1 20 rfl rfl)
theorem dX8_without_45 : decode cX8_without 45 = .ok (.aload_n 0, 1) := dk_42 (dk_at dksX8_without_1 21 rfl rfl)
theorem dX8_without_46 : decode cX8_without 46 = .ok (.dup, 1) := dk_89 (dk_at dksX8_without_1 22 rfl rfl)
theorem dX8_without_47 : decode cX8_without 47 = .ok (.getfield 341, 3) := dk_180 1 85 (dk_at dksX8_without_2 0 rfl rfl)
theorem dX8_without_50 : decode cX8_without 50 = .ok (.iconst 1, 1) := dk_4 (dk_at dksX8_without_2 3 rfl rfl)
theorem dX8_without_51 : decode cX8_without 51 = .ok (.isub, 1) := dk_100 (dk_at dksX8_without_2 4 rfl rfl)
theorem dX8_without_52 : decode cX8_without 52 = .ok (.putfield 341, 3) := dk_181 1 85 (dk_at dksX8_without_2 5 rfl rfl)
theorem dX8_without_55 : decode cX8_without 55 = .ok (.iload_n 3, 1) := dk_29 (dk_at dksX8_without_2 8 rfl rfl)
theorem dX8_without_56 : decode cX8_without 56 = .ok (.istore 4, 2) := dk_54 4 (dk_at dksX8_without_2 9 rfl rfl)
theorem dX8_without_58 : decode cX8_without 58 = .ok (.iload 4, 2) := dk_21 4 (dk_at dksX8_without_2 11 rfl rfl)
theorem dX8_without_60 : decode cX8_without 60 = .ok (.aload_n 0, 1) := dk_42 (dk_at dksX8_without_2 13 rfl rfl)
theorem dX8_without_61 : decode cX8_without 61 = .ok (.getfield 341, 3) := dk_180 1 85 (dk_at dksX8_without_2 14 rfl rfl)
theorem dX8_without_64 : decode cX8_without 64 = .ok (.if_icmp .ge 25, 3) := dk_162 0 25 (dk_at dksX8_without_2 17 rfl rfl)
theorem dX8_without_67 : decode cX8_without 67 = .ok (.aload_n 0, 1) := dk_42 (dk_at dksX8_without_2 20 rfl rfl)
theorem dX8_without_68 : decode cX8_without 68 = .ok (.getfield 90, 3) := dk_180 0 90 (dk_at dksX8_without_2 21 rfl rfl)
theorem dX8_without_71 : decode cX8_without 71 = .ok (.iload 4, 2) := dk_21 4 (dk_at dksX8_without_3 0 rfl rfl)
theorem dX8_without_73 : decode cX8_without 73 = .ok (.aload_n 0, 1) := dk_42 (dk_at dksX8_without_3 2 rfl rfl)
theorem dX8_without_74 : decode cX8_without 74 = .ok (.getfield 90, 3) := dk_180 0 90 (dk_at dksX8_without_3 3 rfl rfl)
theorem dX8_without_77 : decode cX8_without 77 = .ok (.iload 4, 2) := dk_21 4 (dk_at dksX8_without_3 6 rfl rfl)
theorem dX8_without_79 : decode cX8_without 79 = .ok (.iconst 1, 1) := dk_4 (dk_at dksX8_without_3 8 rfl rfl)
theorem dX8_without_80 : decode cX8_without 80 = .ok (.iadd, 1) := dk_96 (dk_at dksX8_without_3 9 rfl rfl)
theorem dX8_without_81 : decode cX8_without 81 = .ok (.iaload, 1) := dk_46 (dk_at dksX8_without_3 10 rfl rfl)
theorem dX8_without_82 : decode cX8_without 82 = .ok (.iastore, 1) := dk_79 (dk_at dksX8_without_3 11 rfl rfl)
theorem dX8_without_83 : decode cX8_without 83 = .ok (.iinc 4 1, 3) := dk_132 4 1 (dk_at dksX8_without_3 12 rfl rfl)
theorem dX8_without_86 : decode cX8_without 86 = .ok (.goto (-28), 3) := dk_167 255 228 (dk_at dksX8_without_3 15 rfl rfl)
theorem dX8_without_89 : decode cX8_without 89 = .ok (.aload_n 0, 1) := dk_42 (dk_at dksX8_without_3 18 rfl rfl)
theorem dX8_without_90 : decode cX8_without 90 = .ok (.getfield 344, 3) := dk_180 1 88 (dk_at dksX8_without_3 19 rfl rfl)
theorem dX8_without_93 : decode cX8_without 93 = .ok (.iload_n 1, 1) := dk_27 (dk_at dksX8_without_3 22 rfl rfl)
theorem dX8_without_94 : decode cX8_without 94 = .ok (.if_icmp .ne 8, 3) := dk_160 0 8 (dk_at dksX8_without_4 0 rfl rfl)
theorem dX8_without_97 : decode cX8_without 97 = .ok (.aload_n 0, 1) := dk_42 (dk_at dksX8_without_4 3 rfl rfl)
theorem dX8_without_98 : decode cX8_without 98 = .ok (.iconst (-1), 1) := dk_2 (dk_at dksX8_without_4 4 rfl rfl)
theorem dX8_without_99 : decode cX8_without 99 = .ok (.putfield 344, 3) := dk_181 1 88 (dk_at dksX8_without_4 5 rfl rfl)
theorem dX8_without_102 : decode cX8_without 102 = .ok (.aload_n 0, 1) := dk_42 (dk_at dksX8_without_4 8 rfl rfl)
theorem dX8_without_103 : decode cX8_without 103 = .ok (.invokevirtual 353, 3) := dk_182 1 97 (dk_at dksX8_without_4 9 rfl rfl)
theorem dX8_without_106 : decode cX8_without 106 = .ok (.aload_n 0, 1) := dk_42 (dk_at dksX8_without_4 12 rfl rfl)
theorem dX8_without_107 : decode cX8_without 107 = .ok (.aload_n 0, 1) := dk_42 (dk_at dksX8_without_4 13 rfl rfl)
theorem dX8_without_108 : decode cX8_without 108 = .ok (.getfield 315, 3) := dk_180 1 59 (dk_at dksX8_without_4 14 rfl rfl)
theorem dX8_without_111 : decode cX8_without 111 = .ok (.aload_n 0, 1) := dk_42 (dk_at dksX8_without_4 17 rfl rfl)
theorem dX8_without_112 : decode cX8_without 112 = .ok (.getfield 38, 3) := dk_180 0 38 (dk_at dksX8_without_4 18 rfl rfl)
theorem dX8_without_115 : decode cX8_without 115 = .ok (.iconst 3, 1) := dk_6 (dk_at dksX8_without_4 21 rfl rfl)
theorem dX8_without_116 : decode cX8_without 116 = .ok (.iaload, 1) := dk_46 (dk_at dksX8_without_4 22 rfl rfl)
theorem dX8_without_117 : decode cX8_without 117 = .ok (.invokevirtual 416, 3) := dk_182 1 160 (dk_at dksX8_without_5 0 rfl rfl)
theorem dX8_without_120 : decode cX8_without 120 = .ok (.iload_n 2, 1) := dk_28 (dk_at dksX8_without_5 3 rfl rfl)
theorem dX8_without_121 : decode cX8_without 121 = .ok (.aload_n 0, 1) := dk_42 (dk_at dksX8_without_5 4 rfl rfl)
theorem dX8_without_122 : decode cX8_without 122 = .ok (.invokevirtual 447, 3) := dk_182 1 191 (dk_at dksX8_without_5 5 rfl rfl)
theorem dX8_without_125 : decode cX8_without 125 = .ok (.isub, 1) := dk_100 (dk_at dksX8_without_5 8 rfl rfl)
theorem dX8_without_126 : decode cX8_without 126 = .ok (.ireturn, 1) := dk_172 (dk_at dksX8_without_5 9 rfl rfl)
abbrev cX8_year : ByteArray := prog_21_method_92_code
def yX8_year : MethodName := ⟨RX8, "year", "(III)I"⟩
def dkwX8_year_9 : List UInt8 := [167, 0, 5, 21, 6, 172]
abbrev dktX8_year_9 : List UInt8 := dkwX8_year_9 ++ []
def dkwX8_year_8 : List UInt8 := [132, 7, 1, 167, 255, 128, 29, 154, 0, 8, 21, 4, 167, 0, 15, 29, 4, 160, 0, 8, 21, 5]
abbrev dktX8_year_8 : List UInt8 := dkwX8_year_8 ++ dktX8_year_9
def dkwX8_year_7 : List UInt8 := [21, 8, 184, 1, 135, 54, 5, 21, 6, 21, 8, 154, 0, 7, 4, 167, 0, 4, 3, 96, 54, 6]
abbrev dktX8_year_7 : List UInt8 := dkwX8_year_7 ++ dktX8_year_8
def dkwX8_year_6 : List UInt8 := [180, 0, 38, 6, 46, 182, 1, 160, 42, 182, 1, 191, 54, 8, 21, 4, 21, 8, 96, 54, 4, 21, 5]
abbrev dktX8_year_6 : List UInt8 := dkwX8_year_6 ++ dktX8_year_7
def dkwX8_year_5 : List UInt8 := [42, 42, 180, 0, 38, 6, 46, 182, 1, 240, 96, 79, 132, 8, 1, 167, 255, 194, 42, 42, 180, 1, 59, 42]
abbrev dktX8_year_5 : List UInt8 := dkwX8_year_5 ++ dktX8_year_6
def dkwX8_year_4 : List UInt8 := [159, 0, 19, 42, 16, 10, 182, 1, 240, 42, 180, 0, 56, 21, 8, 46, 161, 0, 7, 3, 167, 0, 15, 4]
abbrev dktX8_year_4 : List UInt8 := dkwX8_year_4 ++ dktX8_year_5
def dkwX8_year_3 : List UInt8 := [21, 8, 42, 180, 1, 85, 162, 0, 59, 42, 180, 0, 93, 21, 8, 42, 180, 0, 42, 21, 8, 46, 6]
abbrev dktX8_year_3 : List UInt8 := dkwX8_year_3 ++ dktX8_year_4
def dkwX8_year_2 : List UInt8 := [181, 1, 232, 3, 54, 4, 3, 54, 5, 3, 54, 6, 3, 54, 7, 21, 7, 28, 162, 0, 128, 3, 54, 8]
abbrev dktX8_year_2 : List UInt8 := dkwX8_year_2 ++ dktX8_year_3
def dkwX8_year_1 : List UInt8 := [133, 9, 20, 1, 238, 184, 0, 162, 154, 0, 9, 42, 5, 182, 1, 46, 172, 42, 182, 1, 157, 42, 27]
abbrev dktX8_year_1 : List UInt8 := dkwX8_year_1 ++ dktX8_year_2
def dkwX8_year_0 : List UInt8 := [42, 3, 181, 0, 159, 29, 133, 9, 20, 1, 236, 184, 0, 162, 154, 0, 9, 42, 4, 182, 1, 46, 172, 28]
abbrev dktX8_year_0 : List UInt8 := dkwX8_year_0 ++ dktX8_year_1
theorem dksX8_year_0 : cX8_year.data.toList.drop 0 = dktX8_year_0 := by decide +kernel
theorem dksX8_year_1 : cX8_year.data.toList.drop 24 = dktX8_year_1 := dk_seg dksX8_year_0 24 rfl rfl
theorem dksX8_year_2 : cX8_year.data.toList.drop 47 = dktX8_year_2 := dk_seg dksX8_year_1 23 rfl rfl
theorem dksX8_year_3 : cX8_year.data.toList.drop 71 = dktX8_year_3 := dk_seg dksX8_year_2 24 rfl rfl
theorem dksX8_year_4 : cX8_year.data.toList.drop 94 = dktX8_year_4 := dk_seg dksX8_year_3 23 rfl rfl
theorem dksX8_year_5 : cX8_year.data.toList.drop 118 = dktX8_year_5 := dk_seg dksX8_year_4 24 rfl rfl
theorem dksX8_year_6 : cX8_year.data.toList.drop 142 = dktX8_year_6 := dk_seg dksX8_year_5 24 rfl rfl
theorem dksX8_year_7 : cX8_year.data.toList.drop 165 = dktX8_year_7 := dk_seg dksX8_year_6 23 rfl rfl
theorem dksX8_year_8 : cX8_year.data.toList.drop 187 = dktX8_year_8 := dk_seg dksX8_year_7 22 rfl rfl
theorem dksX8_year_9 : cX8_year.data.toList.drop 209 = dktX8_year_9 := dk_seg dksX8_year_8 22 rfl rfl
theorem dX8_year_0 : decode cX8_year 0 = .ok (.aload_n 0, 1) := dk_42 (dk_at dksX8_year_0 0 rfl rfl)
theorem dX8_year_1 : decode cX8_year 1 = .ok (.iconst 0, 1) := dk_3 (dk_at dksX8_year_0 1 rfl rfl)
theorem dX8_year_2 : decode cX8_year 2 = .ok (.putfield 159, 3) := dk_181 0 159 (dk_at dksX8_year_0 2 rfl rfl)
theorem dX8_year_5 : decode cX8_year 5 = .ok (.iload_n 3, 1) := dk_29 (dk_at dksX8_year_0 5 rfl rfl)
theorem dX8_year_6 : decode cX8_year 6 = .ok (.i2l, 1) := dk_133 (dk_at dksX8_year_0 6 rfl rfl)
theorem dX8_year_7 : decode cX8_year 7 = .ok (.lconst 0, 1) := dk_9 (dk_at dksX8_year_0 7 rfl rfl)
theorem dX8_year_8 : decode cX8_year 8 = .ok (.ldc2_w 492, 3) := dk_20 1 236 (dk_at dksX8_year_0 8 rfl rfl)
theorem dX8_year_11 : decode cX8_year 11 = .ok (.invokestatic 162, 3) := dk_184 0 162 (dk_at dksX8_year_0 11 rfl rfl)
theorem dX8_year_14 : decode cX8_year 14 = .ok (.ifCond .ne 9, 3) := dk_154 0 9 (dk_at dksX8_year_0 14 rfl rfl)
theorem dX8_year_17 : decode cX8_year 17 = .ok (.aload_n 0, 1) := dk_42 (dk_at dksX8_year_0 17 rfl rfl)
theorem dX8_year_18 : decode cX8_year 18 = .ok (.iconst 1, 1) := dk_4 (dk_at dksX8_year_0 18 rfl rfl)
theorem dX8_year_19 : decode cX8_year 19 = .ok (.invokevirtual 302, 3) := dk_182 1 46 (dk_at dksX8_year_0 19 rfl rfl)
theorem dX8_year_22 : decode cX8_year 22 = .ok (.ireturn, 1) := dk_172 (dk_at dksX8_year_0 22 rfl rfl)
theorem dX8_year_23 : decode cX8_year 23 = .ok (.iload_n 2, 1) := dk_28 (dk_at dksX8_year_0 23 rfl rfl)
theorem dX8_year_24 : decode cX8_year 24 = .ok (.i2l, 1) := dk_133 (dk_at dksX8_year_1 0 rfl rfl)
theorem dX8_year_25 : decode cX8_year 25 = .ok (.lconst 0, 1) := dk_9 (dk_at dksX8_year_1 1 rfl rfl)
theorem dX8_year_26 : decode cX8_year 26 = .ok (.ldc2_w 494, 3) := dk_20 1 238 (dk_at dksX8_year_1 2 rfl rfl)
theorem dX8_year_29 : decode cX8_year 29 = .ok (.invokestatic 162, 3) := dk_184 0 162 (dk_at dksX8_year_1 5 rfl rfl)
theorem dX8_year_32 : decode cX8_year 32 = .ok (.ifCond .ne 9, 3) := dk_154 0 9 (dk_at dksX8_year_1 8 rfl rfl)
theorem dX8_year_35 : decode cX8_year 35 = .ok (.aload_n 0, 1) := dk_42 (dk_at dksX8_year_1 11 rfl rfl)
theorem dX8_year_36 : decode cX8_year 36 = .ok (.iconst 2, 1) := dk_5 (dk_at dksX8_year_1 12 rfl rfl)
theorem dX8_year_37 : decode cX8_year 37 = .ok (.invokevirtual 302, 3) := dk_182 1 46 (dk_at dksX8_year_1 13 rfl rfl)
theorem dX8_year_40 : decode cX8_year 40 = .ok (.ireturn, 1) := dk_172 (dk_at dksX8_year_1 16 rfl rfl)
theorem dX8_year_41 : decode cX8_year 41 = .ok (.aload_n 0, 1) := dk_42 (dk_at dksX8_year_1 17 rfl rfl)
theorem dX8_year_42 : decode cX8_year 42 = .ok (.invokevirtual 413, 3) := dk_182 1 157 (dk_at dksX8_year_1 18 rfl rfl)
theorem dX8_year_45 : decode cX8_year 45 = .ok (.aload_n 0, 1) := dk_42 (dk_at dksX8_year_1 21 rfl rfl)
theorem dX8_year_46 : decode cX8_year 46 = .ok (.iload_n 1, 1) := dk_27 (dk_at dksX8_year_1 22 rfl rfl)
theorem dX8_year_47 : decode cX8_year 47 = .ok (.putfield 488, 3) := dk_181 1 232 (dk_at dksX8_year_2 0 rfl rfl)
theorem dX8_year_50 : decode cX8_year 50 = .ok (.iconst 0, 1) := dk_3 (dk_at dksX8_year_2 3 rfl rfl)
theorem dX8_year_51 : decode cX8_year 51 = .ok (.istore 4, 2) := dk_54 4 (dk_at dksX8_year_2 4 rfl rfl)
theorem dX8_year_53 : decode cX8_year 53 = .ok (.iconst 0, 1) := dk_3 (dk_at dksX8_year_2 6 rfl rfl)
theorem dX8_year_54 : decode cX8_year 54 = .ok (.istore 5, 2) := dk_54 5 (dk_at dksX8_year_2 7 rfl rfl)
theorem dX8_year_56 : decode cX8_year 56 = .ok (.iconst 0, 1) := dk_3 (dk_at dksX8_year_2 9 rfl rfl)
theorem dX8_year_57 : decode cX8_year 57 = .ok (.istore 6, 2) := dk_54 6 (dk_at dksX8_year_2 10 rfl rfl)
theorem dX8_year_59 : decode cX8_year 59 = .ok (.iconst 0, 1) := dk_3 (dk_at dksX8_year_2 12 rfl rfl)
theorem dX8_year_60 : decode cX8_year 60 = .ok (.istore 7, 2) := dk_54 7 (dk_at dksX8_year_2 13 rfl rfl)
theorem dX8_year_62 : decode cX8_year 62 = .ok (.iload 7, 2) := dk_21 7 (dk_at dksX8_year_2 15 rfl rfl)
theorem dX8_year_64 : decode cX8_year 64 = .ok (.iload_n 2, 1) := dk_28 (dk_at dksX8_year_2 17 rfl rfl)
theorem dX8_year_65 : decode cX8_year 65 = .ok (.if_icmp .ge 128, 3) := dk_162 0 128 (dk_at dksX8_year_2 18 rfl rfl)
theorem dX8_year_68 : decode cX8_year 68 = .ok (.iconst 0, 1) := dk_3 (dk_at dksX8_year_2 21 rfl rfl)
theorem dX8_year_69 : decode cX8_year 69 = .ok (.istore 8, 2) := dk_54 8 (dk_at dksX8_year_2 22 rfl rfl)
theorem dX8_year_71 : decode cX8_year 71 = .ok (.iload 8, 2) := dk_21 8 (dk_at dksX8_year_3 0 rfl rfl)
theorem dX8_year_73 : decode cX8_year 73 = .ok (.aload_n 0, 1) := dk_42 (dk_at dksX8_year_3 2 rfl rfl)
theorem dX8_year_74 : decode cX8_year 74 = .ok (.getfield 341, 3) := dk_180 1 85 (dk_at dksX8_year_3 3 rfl rfl)
theorem dX8_year_77 : decode cX8_year 77 = .ok (.if_icmp .ge 59, 3) := dk_162 0 59 (dk_at dksX8_year_3 6 rfl rfl)
theorem dX8_year_80 : decode cX8_year 80 = .ok (.aload_n 0, 1) := dk_42 (dk_at dksX8_year_3 9 rfl rfl)
theorem dX8_year_81 : decode cX8_year 81 = .ok (.getfield 93, 3) := dk_180 0 93 (dk_at dksX8_year_3 10 rfl rfl)
theorem dX8_year_84 : decode cX8_year 84 = .ok (.iload 8, 2) := dk_21 8 (dk_at dksX8_year_3 13 rfl rfl)
theorem dX8_year_86 : decode cX8_year 86 = .ok (.aload_n 0, 1) := dk_42 (dk_at dksX8_year_3 15 rfl rfl)
theorem dX8_year_87 : decode cX8_year 87 = .ok (.getfield 42, 3) := dk_180 0 42 (dk_at dksX8_year_3 16 rfl rfl)
theorem dX8_year_90 : decode cX8_year 90 = .ok (.iload 8, 2) := dk_21 8 (dk_at dksX8_year_3 19 rfl rfl)
theorem dX8_year_92 : decode cX8_year 92 = .ok (.iaload, 1) := dk_46 (dk_at dksX8_year_3 21 rfl rfl)
theorem dX8_year_93 : decode cX8_year 93 = .ok (.iconst 3, 1) := dk_6 (dk_at dksX8_year_3 22 rfl rfl)
theorem dX8_year_94 : decode cX8_year 94 = .ok (.if_icmp .eq 19, 3) := dk_159 0 19 (dk_at dksX8_year_4 0 rfl rfl)
theorem dX8_year_97 : decode cX8_year 97 = .ok (.aload_n 0, 1) := dk_42 (dk_at dksX8_year_4 3 rfl rfl)
theorem dX8_year_98 : decode cX8_year 98 = .ok (.bipush 10, 2) := dk_16 10 (dk_at dksX8_year_4 4 rfl rfl)
theorem dX8_year_100 : decode cX8_year 100 = .ok (.invokevirtual 496, 3) := dk_182 1 240 (dk_at dksX8_year_4 6 rfl rfl)
theorem dX8_year_103 : decode cX8_year 103 = .ok (.aload_n 0, 1) := dk_42 (dk_at dksX8_year_4 9 rfl rfl)
theorem dX8_year_104 : decode cX8_year 104 = .ok (.getfield 56, 3) := dk_180 0 56 (dk_at dksX8_year_4 10 rfl rfl)
theorem dX8_year_107 : decode cX8_year 107 = .ok (.iload 8, 2) := dk_21 8 (dk_at dksX8_year_4 13 rfl rfl)
theorem dX8_year_109 : decode cX8_year 109 = .ok (.iaload, 1) := dk_46 (dk_at dksX8_year_4 15 rfl rfl)
theorem dX8_year_110 : decode cX8_year 110 = .ok (.if_icmp .lt 7, 3) := dk_161 0 7 (dk_at dksX8_year_4 16 rfl rfl)
theorem dX8_year_113 : decode cX8_year 113 = .ok (.iconst 0, 1) := dk_3 (dk_at dksX8_year_4 19 rfl rfl)
theorem dX8_year_114 : decode cX8_year 114 = .ok (.goto 15, 3) := dk_167 0 15 (dk_at dksX8_year_4 20 rfl rfl)
theorem dX8_year_117 : decode cX8_year 117 = .ok (.iconst 1, 1) := dk_4 (dk_at dksX8_year_4 23 rfl rfl)
theorem dX8_year_118 : decode cX8_year 118 = .ok (.aload_n 0, 1) := dk_42 (dk_at dksX8_year_5 0 rfl rfl)
theorem dX8_year_119 : decode cX8_year 119 = .ok (.aload_n 0, 1) := dk_42 (dk_at dksX8_year_5 1 rfl rfl)
theorem dX8_year_120 : decode cX8_year 120 = .ok (.getfield 38, 3) := dk_180 0 38 (dk_at dksX8_year_5 2 rfl rfl)
theorem dX8_year_123 : decode cX8_year 123 = .ok (.iconst 3, 1) := dk_6 (dk_at dksX8_year_5 5 rfl rfl)
theorem dX8_year_124 : decode cX8_year 124 = .ok (.iaload, 1) := dk_46 (dk_at dksX8_year_5 6 rfl rfl)
theorem dX8_year_125 : decode cX8_year 125 = .ok (.invokevirtual 496, 3) := dk_182 1 240 (dk_at dksX8_year_5 7 rfl rfl)
theorem dX8_year_128 : decode cX8_year 128 = .ok (.iadd, 1) := dk_96 (dk_at dksX8_year_5 10 rfl rfl)
theorem dX8_year_129 : decode cX8_year 129 = .ok (.iastore, 1) := dk_79 (dk_at dksX8_year_5 11 rfl rfl)
theorem dX8_year_130 : decode cX8_year 130 = .ok (.iinc 8 1, 3) := dk_132 8 1 (dk_at dksX8_year_5 12 rfl rfl)
theorem dX8_year_133 : decode cX8_year 133 = .ok (.goto (-62), 3) := dk_167 255 194 (dk_at dksX8_year_5 15 rfl rfl)
theorem dX8_year_136 : decode cX8_year 136 = .ok (.aload_n 0, 1) := dk_42 (dk_at dksX8_year_5 18 rfl rfl)
theorem dX8_year_137 : decode cX8_year 137 = .ok (.aload_n 0, 1) := dk_42 (dk_at dksX8_year_5 19 rfl rfl)
theorem dX8_year_138 : decode cX8_year 138 = .ok (.getfield 315, 3) := dk_180 1 59 (dk_at dksX8_year_5 20 rfl rfl)
theorem dX8_year_141 : decode cX8_year 141 = .ok (.aload_n 0, 1) := dk_42 (dk_at dksX8_year_5 23 rfl rfl)
theorem dX8_year_142 : decode cX8_year 142 = .ok (.getfield 38, 3) := dk_180 0 38 (dk_at dksX8_year_6 0 rfl rfl)
theorem dX8_year_145 : decode cX8_year 145 = .ok (.iconst 3, 1) := dk_6 (dk_at dksX8_year_6 3 rfl rfl)
theorem dX8_year_146 : decode cX8_year 146 = .ok (.iaload, 1) := dk_46 (dk_at dksX8_year_6 4 rfl rfl)
theorem dX8_year_147 : decode cX8_year 147 = .ok (.invokevirtual 416, 3) := dk_182 1 160 (dk_at dksX8_year_6 5 rfl rfl)
theorem dX8_year_150 : decode cX8_year 150 = .ok (.aload_n 0, 1) := dk_42 (dk_at dksX8_year_6 8 rfl rfl)
theorem dX8_year_151 : decode cX8_year 151 = .ok (.invokevirtual 447, 3) := dk_182 1 191 (dk_at dksX8_year_6 9 rfl rfl)
theorem dX8_year_154 : decode cX8_year 154 = .ok (.istore 8, 2) := dk_54 8 (dk_at dksX8_year_6 12 rfl rfl)
theorem dX8_year_156 : decode cX8_year 156 = .ok (.iload 4, 2) := dk_21 4 (dk_at dksX8_year_6 14 rfl rfl)
theorem dX8_year_158 : decode cX8_year 158 = .ok (.iload 8, 2) := dk_21 8 (dk_at dksX8_year_6 16 rfl rfl)
theorem dX8_year_160 : decode cX8_year 160 = .ok (.iadd, 1) := dk_96 (dk_at dksX8_year_6 18 rfl rfl)
theorem dX8_year_161 : decode cX8_year 161 = .ok (.istore 4, 2) := dk_54 4 (dk_at dksX8_year_6 19 rfl rfl)
theorem dX8_year_163 : decode cX8_year 163 = .ok (.iload 5, 2) := dk_21 5 (dk_at dksX8_year_6 21 rfl rfl)
theorem dX8_year_165 : decode cX8_year 165 = .ok (.iload 8, 2) := dk_21 8 (dk_at dksX8_year_7 0 rfl rfl)
theorem dX8_year_167 : decode cX8_year 167 = .ok (.invokestatic 391, 3) := dk_184 1 135 (dk_at dksX8_year_7 2 rfl rfl)
theorem dX8_year_170 : decode cX8_year 170 = .ok (.istore 5, 2) := dk_54 5 (dk_at dksX8_year_7 5 rfl rfl)
theorem dX8_year_172 : decode cX8_year 172 = .ok (.iload 6, 2) := dk_21 6 (dk_at dksX8_year_7 7 rfl rfl)
theorem dX8_year_174 : decode cX8_year 174 = .ok (.iload 8, 2) := dk_21 8 (dk_at dksX8_year_7 9 rfl rfl)
theorem dX8_year_176 : decode cX8_year 176 = .ok (.ifCond .ne 7, 3) := dk_154 0 7 (dk_at dksX8_year_7 11 rfl rfl)
theorem dX8_year_179 : decode cX8_year 179 = .ok (.iconst 1, 1) := dk_4 (dk_at dksX8_year_7 14 rfl rfl)
theorem dX8_year_180 : decode cX8_year 180 = .ok (.goto 4, 3) := dk_167 0 4 (dk_at dksX8_year_7 15 rfl rfl)
theorem dX8_year_183 : decode cX8_year 183 = .ok (.iconst 0, 1) := dk_3 (dk_at dksX8_year_7 18 rfl rfl)
theorem dX8_year_184 : decode cX8_year 184 = .ok (.iadd, 1) := dk_96 (dk_at dksX8_year_7 19 rfl rfl)
theorem dX8_year_185 : decode cX8_year 185 = .ok (.istore 6, 2) := dk_54 6 (dk_at dksX8_year_7 20 rfl rfl)
theorem dX8_year_187 : decode cX8_year 187 = .ok (.iinc 7 1, 3) := dk_132 7 1 (dk_at dksX8_year_8 0 rfl rfl)
theorem dX8_year_190 : decode cX8_year 190 = .ok (.goto (-128), 3) := dk_167 255 128 (dk_at dksX8_year_8 3 rfl rfl)
theorem dX8_year_193 : decode cX8_year 193 = .ok (.iload_n 3, 1) := dk_29 (dk_at dksX8_year_8 6 rfl rfl)
theorem dX8_year_194 : decode cX8_year 194 = .ok (.ifCond .ne 8, 3) := dk_154 0 8 (dk_at dksX8_year_8 7 rfl rfl)
theorem dX8_year_197 : decode cX8_year 197 = .ok (.iload 4, 2) := dk_21 4 (dk_at dksX8_year_8 10 rfl rfl)
theorem dX8_year_199 : decode cX8_year 199 = .ok (.goto 15, 3) := dk_167 0 15 (dk_at dksX8_year_8 12 rfl rfl)
theorem dX8_year_202 : decode cX8_year 202 = .ok (.iload_n 3, 1) := dk_29 (dk_at dksX8_year_8 15 rfl rfl)
theorem dX8_year_203 : decode cX8_year 203 = .ok (.iconst 1, 1) := dk_4 (dk_at dksX8_year_8 16 rfl rfl)
theorem dX8_year_204 : decode cX8_year 204 = .ok (.if_icmp .ne 8, 3) := dk_160 0 8 (dk_at dksX8_year_8 17 rfl rfl)
theorem dX8_year_207 : decode cX8_year 207 = .ok (.iload 5, 2) := dk_21 5 (dk_at dksX8_year_8 20 rfl rfl)
theorem dX8_year_209 : decode cX8_year 209 = .ok (.goto 5, 3) := dk_167 0 5 (dk_at dksX8_year_9 0 rfl rfl)
theorem dX8_year_212 : decode cX8_year 212 = .ok (.iload 6, 2) := dk_21 6 (dk_at dksX8_year_9 3 rfl rfl)
theorem dX8_year_214 : decode cX8_year 214 = .ok (.ireturn, 1) := dk_172 (dk_at dksX8_year_9 5 rfl rfl)
abbrev cX8_drawOf : ByteArray := prog_21_method_91_code
def yX8_drawOf : MethodName := ⟨RX8, "drawOf", "(I)I"⟩
def dkwX8_drawOf_1 : List UInt8 := [17, 127, 255, 126, 27, 112, 172]
abbrev dktX8_drawOf_1 : List UInt8 := dkwX8_drawOf_1 ++ []
def dkwX8_drawOf_0 : List UInt8 := [42, 42, 180, 1, 232, 19, 1, 235, 104, 17, 48, 57, 96, 181, 1, 232, 42, 180, 1, 232, 16, 16, 122]
abbrev dktX8_drawOf_0 : List UInt8 := dkwX8_drawOf_0 ++ dktX8_drawOf_1
theorem dksX8_drawOf_0 : cX8_drawOf.data.toList.drop 0 = dktX8_drawOf_0 := by decide +kernel
theorem dksX8_drawOf_1 : cX8_drawOf.data.toList.drop 23 = dktX8_drawOf_1 := dk_seg dksX8_drawOf_0 23 rfl rfl
theorem dX8_drawOf_0 : decode cX8_drawOf 0 = .ok (.aload_n 0, 1) := dk_42 (dk_at dksX8_drawOf_0 0 rfl rfl)
theorem dX8_drawOf_1 : decode cX8_drawOf 1 = .ok (.aload_n 0, 1) := dk_42 (dk_at dksX8_drawOf_0 1 rfl rfl)
theorem dX8_drawOf_2 : decode cX8_drawOf 2 = .ok (.getfield 488, 3) := dk_180 1 232 (dk_at dksX8_drawOf_0 2 rfl rfl)
theorem dX8_drawOf_5 : decode cX8_drawOf 5 = .ok (.ldc_w 491, 3) := dk_19 1 235 (dk_at dksX8_drawOf_0 5 rfl rfl)
theorem dX8_drawOf_8 : decode cX8_drawOf 8 = .ok (.imul, 1) := dk_104 (dk_at dksX8_drawOf_0 8 rfl rfl)
theorem dX8_drawOf_9 : decode cX8_drawOf 9 = .ok (.sipush 12345, 3) := dk_17 48 57 (dk_at dksX8_drawOf_0 9 rfl rfl)
theorem dX8_drawOf_12 : decode cX8_drawOf 12 = .ok (.iadd, 1) := dk_96 (dk_at dksX8_drawOf_0 12 rfl rfl)
theorem dX8_drawOf_13 : decode cX8_drawOf 13 = .ok (.putfield 488, 3) := dk_181 1 232 (dk_at dksX8_drawOf_0 13 rfl rfl)
theorem dX8_drawOf_16 : decode cX8_drawOf 16 = .ok (.aload_n 0, 1) := dk_42 (dk_at dksX8_drawOf_0 16 rfl rfl)
theorem dX8_drawOf_17 : decode cX8_drawOf 17 = .ok (.getfield 488, 3) := dk_180 1 232 (dk_at dksX8_drawOf_0 17 rfl rfl)
theorem dX8_drawOf_20 : decode cX8_drawOf 20 = .ok (.bipush 16, 2) := dk_16 16 (dk_at dksX8_drawOf_0 20 rfl rfl)
theorem dX8_drawOf_22 : decode cX8_drawOf 22 = .ok (.ishr, 1) := dk_122 (dk_at dksX8_drawOf_0 22 rfl rfl)
theorem dX8_drawOf_23 : decode cX8_drawOf 23 = .ok (.sipush 32767, 3) := dk_17 127 255 (dk_at dksX8_drawOf_1 0 rfl rfl)
theorem dX8_drawOf_26 : decode cX8_drawOf 26 = .ok (.iand, 1) := dk_126 (dk_at dksX8_drawOf_1 3 rfl rfl)
theorem dX8_drawOf_27 : decode cX8_drawOf 27 = .ok (.iload_n 1, 1) := dk_27 (dk_at dksX8_drawOf_1 4 rfl rfl)
theorem dX8_drawOf_28 : decode cX8_drawOf 28 = .ok (.irem, 1) := dk_112 (dk_at dksX8_drawOf_1 5 rfl rfl)
theorem dX8_drawOf_29 : decode cX8_drawOf 29 = .ok (.ireturn, 1) := dk_172 (dk_at dksX8_drawOf_1 6 rfl rfl)
abbrev cX8_image : ByteArray := prog_21_method_94_code
def yX8_image : MethodName := ⟨RX8, "image", "()V"⟩
def dkwX8_image_3 : List UInt8 := [180, 0, 153, 42, 180, 0, 138, 184, 1, 249, 42, 180, 0, 156, 42, 180, 0, 65, 184, 1, 249, 177]
abbrev dktX8_image_3 : List UInt8 := dkwX8_image_3 ++ []
def dkwX8_image_2 : List UInt8 := [180, 0, 147, 42, 180, 0, 132, 184, 1, 249, 42, 180, 0, 150, 42, 180, 0, 135, 184, 1, 249, 42]
abbrev dktX8_image_2 : List UInt8 := dkwX8_image_2 ++ dktX8_image_3
def dkwX8_image_1 : List UInt8 := [181, 1, 246, 42, 42, 180, 0, 141, 3, 182, 1, 167, 42, 180, 0, 144, 42, 180, 0, 78, 184, 1, 249, 42]
abbrev dktX8_image_1 : List UInt8 := dkwX8_image_1 ++ dktX8_image_2
def dkwX8_image_0 : List UInt8 := [42, 3, 181, 0, 159, 42, 4, 181, 1, 78, 42, 42, 180, 1, 68, 181, 1, 243, 42, 42, 180, 1, 71]
abbrev dktX8_image_0 : List UInt8 := dkwX8_image_0 ++ dktX8_image_1
theorem dksX8_image_0 : cX8_image.data.toList.drop 0 = dktX8_image_0 := by decide +kernel
theorem dksX8_image_1 : cX8_image.data.toList.drop 23 = dktX8_image_1 := dk_seg dksX8_image_0 23 rfl rfl
theorem dksX8_image_2 : cX8_image.data.toList.drop 47 = dktX8_image_2 := dk_seg dksX8_image_1 24 rfl rfl
theorem dksX8_image_3 : cX8_image.data.toList.drop 69 = dktX8_image_3 := dk_seg dksX8_image_2 22 rfl rfl
theorem dX8_image_0 : decode cX8_image 0 = .ok (.aload_n 0, 1) := dk_42 (dk_at dksX8_image_0 0 rfl rfl)
theorem dX8_image_1 : decode cX8_image 1 = .ok (.iconst 0, 1) := dk_3 (dk_at dksX8_image_0 1 rfl rfl)
theorem dX8_image_2 : decode cX8_image 2 = .ok (.putfield 159, 3) := dk_181 0 159 (dk_at dksX8_image_0 2 rfl rfl)
theorem dX8_image_5 : decode cX8_image 5 = .ok (.aload_n 0, 1) := dk_42 (dk_at dksX8_image_0 5 rfl rfl)
theorem dX8_image_6 : decode cX8_image 6 = .ok (.iconst 1, 1) := dk_4 (dk_at dksX8_image_0 6 rfl rfl)
theorem dX8_image_7 : decode cX8_image 7 = .ok (.putfield 334, 3) := dk_181 1 78 (dk_at dksX8_image_0 7 rfl rfl)
theorem dX8_image_10 : decode cX8_image 10 = .ok (.aload_n 0, 1) := dk_42 (dk_at dksX8_image_0 10 rfl rfl)
theorem dX8_image_11 : decode cX8_image 11 = .ok (.aload_n 0, 1) := dk_42 (dk_at dksX8_image_0 11 rfl rfl)
theorem dX8_image_12 : decode cX8_image 12 = .ok (.getfield 324, 3) := dk_180 1 68 (dk_at dksX8_image_0 12 rfl rfl)
theorem dX8_image_15 : decode cX8_image 15 = .ok (.putfield 499, 3) := dk_181 1 243 (dk_at dksX8_image_0 15 rfl rfl)
theorem dX8_image_18 : decode cX8_image 18 = .ok (.aload_n 0, 1) := dk_42 (dk_at dksX8_image_0 18 rfl rfl)
theorem dX8_image_19 : decode cX8_image 19 = .ok (.aload_n 0, 1) := dk_42 (dk_at dksX8_image_0 19 rfl rfl)
theorem dX8_image_20 : decode cX8_image 20 = .ok (.getfield 327, 3) := dk_180 1 71 (dk_at dksX8_image_0 20 rfl rfl)
theorem dX8_image_23 : decode cX8_image 23 = .ok (.putfield 502, 3) := dk_181 1 246 (dk_at dksX8_image_1 0 rfl rfl)
theorem dX8_image_26 : decode cX8_image 26 = .ok (.aload_n 0, 1) := dk_42 (dk_at dksX8_image_1 3 rfl rfl)
theorem dX8_image_27 : decode cX8_image 27 = .ok (.aload_n 0, 1) := dk_42 (dk_at dksX8_image_1 4 rfl rfl)
theorem dX8_image_28 : decode cX8_image 28 = .ok (.getfield 141, 3) := dk_180 0 141 (dk_at dksX8_image_1 5 rfl rfl)
theorem dX8_image_31 : decode cX8_image 31 = .ok (.iconst 0, 1) := dk_3 (dk_at dksX8_image_1 8 rfl rfl)
theorem dX8_image_32 : decode cX8_image 32 = .ok (.invokevirtual 423, 3) := dk_182 1 167 (dk_at dksX8_image_1 9 rfl rfl)
theorem dX8_image_35 : decode cX8_image 35 = .ok (.aload_n 0, 1) := dk_42 (dk_at dksX8_image_1 12 rfl rfl)
theorem dX8_image_36 : decode cX8_image 36 = .ok (.getfield 144, 3) := dk_180 0 144 (dk_at dksX8_image_1 13 rfl rfl)
theorem dX8_image_39 : decode cX8_image 39 = .ok (.aload_n 0, 1) := dk_42 (dk_at dksX8_image_1 16 rfl rfl)
theorem dX8_image_40 : decode cX8_image 40 = .ok (.getfield 78, 3) := dk_180 0 78 (dk_at dksX8_image_1 17 rfl rfl)
theorem dX8_image_43 : decode cX8_image 43 = .ok (.invokestatic 505, 3) := dk_184 1 249 (dk_at dksX8_image_1 20 rfl rfl)
theorem dX8_image_46 : decode cX8_image 46 = .ok (.aload_n 0, 1) := dk_42 (dk_at dksX8_image_1 23 rfl rfl)
theorem dX8_image_47 : decode cX8_image 47 = .ok (.getfield 147, 3) := dk_180 0 147 (dk_at dksX8_image_2 0 rfl rfl)
theorem dX8_image_50 : decode cX8_image 50 = .ok (.aload_n 0, 1) := dk_42 (dk_at dksX8_image_2 3 rfl rfl)
theorem dX8_image_51 : decode cX8_image 51 = .ok (.getfield 132, 3) := dk_180 0 132 (dk_at dksX8_image_2 4 rfl rfl)
theorem dX8_image_54 : decode cX8_image 54 = .ok (.invokestatic 505, 3) := dk_184 1 249 (dk_at dksX8_image_2 7 rfl rfl)
theorem dX8_image_57 : decode cX8_image 57 = .ok (.aload_n 0, 1) := dk_42 (dk_at dksX8_image_2 10 rfl rfl)
theorem dX8_image_58 : decode cX8_image 58 = .ok (.getfield 150, 3) := dk_180 0 150 (dk_at dksX8_image_2 11 rfl rfl)
theorem dX8_image_61 : decode cX8_image 61 = .ok (.aload_n 0, 1) := dk_42 (dk_at dksX8_image_2 14 rfl rfl)
theorem dX8_image_62 : decode cX8_image 62 = .ok (.getfield 135, 3) := dk_180 0 135 (dk_at dksX8_image_2 15 rfl rfl)
theorem dX8_image_65 : decode cX8_image 65 = .ok (.invokestatic 505, 3) := dk_184 1 249 (dk_at dksX8_image_2 18 rfl rfl)
theorem dX8_image_68 : decode cX8_image 68 = .ok (.aload_n 0, 1) := dk_42 (dk_at dksX8_image_2 21 rfl rfl)
theorem dX8_image_69 : decode cX8_image 69 = .ok (.getfield 153, 3) := dk_180 0 153 (dk_at dksX8_image_3 0 rfl rfl)
theorem dX8_image_72 : decode cX8_image 72 = .ok (.aload_n 0, 1) := dk_42 (dk_at dksX8_image_3 3 rfl rfl)
theorem dX8_image_73 : decode cX8_image 73 = .ok (.getfield 138, 3) := dk_180 0 138 (dk_at dksX8_image_3 4 rfl rfl)
theorem dX8_image_76 : decode cX8_image 76 = .ok (.invokestatic 505, 3) := dk_184 1 249 (dk_at dksX8_image_3 7 rfl rfl)
theorem dX8_image_79 : decode cX8_image 79 = .ok (.aload_n 0, 1) := dk_42 (dk_at dksX8_image_3 10 rfl rfl)
theorem dX8_image_80 : decode cX8_image 80 = .ok (.getfield 156, 3) := dk_180 0 156 (dk_at dksX8_image_3 11 rfl rfl)
theorem dX8_image_83 : decode cX8_image 83 = .ok (.aload_n 0, 1) := dk_42 (dk_at dksX8_image_3 14 rfl rfl)
theorem dX8_image_84 : decode cX8_image 84 = .ok (.getfield 65, 3) := dk_180 0 65 (dk_at dksX8_image_3 15 rfl rfl)
theorem dX8_image_87 : decode cX8_image 87 = .ok (.invokestatic 505, 3) := dk_184 1 249 (dk_at dksX8_image_3 18 rfl rfl)
theorem dX8_image_90 : decode cX8_image 90 = .ok (.return_, 1) := dk_177 (dk_at dksX8_image_3 21 rfl rfl)
abbrev cX8_be : ByteArray := prog_21_method_93_code
def yX8_be : MethodName := ⟨RX8, "be", "([I[I)V"⟩
def dkwX8_be_0 : List UInt8 := [3, 61, 28, 42, 190, 162, 0, 15, 42, 28, 43, 28, 46, 79, 132, 2, 1, 167, 255, 241, 177]
abbrev dktX8_be_0 : List UInt8 := dkwX8_be_0 ++ []
theorem dksX8_be_0 : cX8_be.data.toList.drop 0 = dktX8_be_0 := by decide +kernel
theorem dX8_be_0 : decode cX8_be 0 = .ok (.iconst 0, 1) := dk_3 (dk_at dksX8_be_0 0 rfl rfl)
theorem dX8_be_1 : decode cX8_be 1 = .ok (.istore_n 2, 1) := dk_61 (dk_at dksX8_be_0 1 rfl rfl)
theorem dX8_be_2 : decode cX8_be 2 = .ok (.iload_n 2, 1) := dk_28 (dk_at dksX8_be_0 2 rfl rfl)
theorem dX8_be_3 : decode cX8_be 3 = .ok (.aload_n 0, 1) := dk_42 (dk_at dksX8_be_0 3 rfl rfl)
theorem dX8_be_4 : decode cX8_be 4 = .ok (.arraylength, 1) := dk_190 (dk_at dksX8_be_0 4 rfl rfl)
theorem dX8_be_5 : decode cX8_be 5 = .ok (.if_icmp .ge 15, 3) := dk_162 0 15 (dk_at dksX8_be_0 5 rfl rfl)
theorem dX8_be_8 : decode cX8_be 8 = .ok (.aload_n 0, 1) := dk_42 (dk_at dksX8_be_0 8 rfl rfl)
theorem dX8_be_9 : decode cX8_be 9 = .ok (.iload_n 2, 1) := dk_28 (dk_at dksX8_be_0 9 rfl rfl)
theorem dX8_be_10 : decode cX8_be 10 = .ok (.aload_n 1, 1) := dk_43 (dk_at dksX8_be_0 10 rfl rfl)
theorem dX8_be_11 : decode cX8_be 11 = .ok (.iload_n 2, 1) := dk_28 (dk_at dksX8_be_0 11 rfl rfl)
theorem dX8_be_12 : decode cX8_be 12 = .ok (.iaload, 1) := dk_46 (dk_at dksX8_be_0 12 rfl rfl)
theorem dX8_be_13 : decode cX8_be 13 = .ok (.iastore, 1) := dk_79 (dk_at dksX8_be_0 13 rfl rfl)
theorem dX8_be_14 : decode cX8_be 14 = .ok (.iinc 2 1, 3) := dk_132 2 1 (dk_at dksX8_be_0 14 rfl rfl)
theorem dX8_be_17 : decode cX8_be 17 = .ok (.goto (-15), 3) := dk_167 255 241 (dk_at dksX8_be_0 17 rfl rfl)
theorem dX8_be_20 : decode cX8_be 20 = .ok (.return_, 1) := dk_177 (dk_at dksX8_be_0 20 rfl rfl)
abbrev cX8_restore : ByteArray := prog_21_method_95_code
def yX8_restore : MethodName := ⟨RX8, "restore", "()Z"⟩
def dkwX8_restore_4 : List UInt8 := [184, 1, 249, 4, 172]
abbrev dktX8_restore_4 : List UInt8 := dkwX8_restore_4 ++ []
def dkwX8_restore_3 : List UInt8 := [184, 1, 249, 42, 180, 0, 138, 42, 180, 0, 153, 184, 1, 249, 42, 180, 0, 65, 42, 180, 0, 156]
abbrev dktX8_restore_3 : List UInt8 := dkwX8_restore_3 ++ dktX8_restore_4
def dkwX8_restore_2 : List UInt8 := [184, 1, 249, 42, 180, 0, 132, 42, 180, 0, 147, 184, 1, 249, 42, 180, 0, 135, 42, 180, 0, 150]
abbrev dktX8_restore_2 : List UInt8 := dkwX8_restore_2 ++ dktX8_restore_3
def dkwX8_restore_1 : List UInt8 := [180, 1, 246, 181, 1, 71, 42, 42, 180, 0, 141, 3, 182, 1, 183, 42, 180, 0, 78, 42, 180, 0, 144]
abbrev dktX8_restore_1 : List UInt8 := dkwX8_restore_1 ++ dktX8_restore_2
def dkwX8_restore_0 : List UInt8 := [42, 3, 181, 0, 159, 42, 180, 1, 78, 154, 0, 5, 3, 172, 42, 42, 180, 1, 243, 181, 1, 68, 42, 42]
abbrev dktX8_restore_0 : List UInt8 := dkwX8_restore_0 ++ dktX8_restore_1
theorem dksX8_restore_0 : cX8_restore.data.toList.drop 0 = dktX8_restore_0 := by decide +kernel
theorem dksX8_restore_1 : cX8_restore.data.toList.drop 24 = dktX8_restore_1 := dk_seg dksX8_restore_0 24 rfl rfl
theorem dksX8_restore_2 : cX8_restore.data.toList.drop 47 = dktX8_restore_2 := dk_seg dksX8_restore_1 23 rfl rfl
theorem dksX8_restore_3 : cX8_restore.data.toList.drop 69 = dktX8_restore_3 := dk_seg dksX8_restore_2 22 rfl rfl
theorem dksX8_restore_4 : cX8_restore.data.toList.drop 91 = dktX8_restore_4 := dk_seg dksX8_restore_3 22 rfl rfl
theorem dX8_restore_0 : decode cX8_restore 0 = .ok (.aload_n 0, 1) := dk_42 (dk_at dksX8_restore_0 0 rfl rfl)
theorem dX8_restore_1 : decode cX8_restore 1 = .ok (.iconst 0, 1) := dk_3 (dk_at dksX8_restore_0 1 rfl rfl)
theorem dX8_restore_2 : decode cX8_restore 2 = .ok (.putfield 159, 3) := dk_181 0 159 (dk_at dksX8_restore_0 2 rfl rfl)
theorem dX8_restore_5 : decode cX8_restore 5 = .ok (.aload_n 0, 1) := dk_42 (dk_at dksX8_restore_0 5 rfl rfl)
theorem dX8_restore_6 : decode cX8_restore 6 = .ok (.getfield 334, 3) := dk_180 1 78 (dk_at dksX8_restore_0 6 rfl rfl)
theorem dX8_restore_9 : decode cX8_restore 9 = .ok (.ifCond .ne 5, 3) := dk_154 0 5 (dk_at dksX8_restore_0 9 rfl rfl)
theorem dX8_restore_12 : decode cX8_restore 12 = .ok (.iconst 0, 1) := dk_3 (dk_at dksX8_restore_0 12 rfl rfl)
theorem dX8_restore_13 : decode cX8_restore 13 = .ok (.ireturn, 1) := dk_172 (dk_at dksX8_restore_0 13 rfl rfl)
theorem dX8_restore_14 : decode cX8_restore 14 = .ok (.aload_n 0, 1) := dk_42 (dk_at dksX8_restore_0 14 rfl rfl)
theorem dX8_restore_15 : decode cX8_restore 15 = .ok (.aload_n 0, 1) := dk_42 (dk_at dksX8_restore_0 15 rfl rfl)
theorem dX8_restore_16 : decode cX8_restore 16 = .ok (.getfield 499, 3) := dk_180 1 243 (dk_at dksX8_restore_0 16 rfl rfl)
theorem dX8_restore_19 : decode cX8_restore 19 = .ok (.putfield 324, 3) := dk_181 1 68 (dk_at dksX8_restore_0 19 rfl rfl)
theorem dX8_restore_22 : decode cX8_restore 22 = .ok (.aload_n 0, 1) := dk_42 (dk_at dksX8_restore_0 22 rfl rfl)
theorem dX8_restore_23 : decode cX8_restore 23 = .ok (.aload_n 0, 1) := dk_42 (dk_at dksX8_restore_0 23 rfl rfl)
theorem dX8_restore_24 : decode cX8_restore 24 = .ok (.getfield 502, 3) := dk_180 1 246 (dk_at dksX8_restore_1 0 rfl rfl)
theorem dX8_restore_27 : decode cX8_restore 27 = .ok (.putfield 327, 3) := dk_181 1 71 (dk_at dksX8_restore_1 3 rfl rfl)
theorem dX8_restore_30 : decode cX8_restore 30 = .ok (.aload_n 0, 1) := dk_42 (dk_at dksX8_restore_1 6 rfl rfl)
theorem dX8_restore_31 : decode cX8_restore 31 = .ok (.aload_n 0, 1) := dk_42 (dk_at dksX8_restore_1 7 rfl rfl)
theorem dX8_restore_32 : decode cX8_restore 32 = .ok (.getfield 141, 3) := dk_180 0 141 (dk_at dksX8_restore_1 8 rfl rfl)
theorem dX8_restore_35 : decode cX8_restore 35 = .ok (.iconst 0, 1) := dk_3 (dk_at dksX8_restore_1 11 rfl rfl)
theorem dX8_restore_36 : decode cX8_restore 36 = .ok (.invokevirtual 439, 3) := dk_182 1 183 (dk_at dksX8_restore_1 12 rfl rfl)
theorem dX8_restore_39 : decode cX8_restore 39 = .ok (.aload_n 0, 1) := dk_42 (dk_at dksX8_restore_1 15 rfl rfl)
theorem dX8_restore_40 : decode cX8_restore 40 = .ok (.getfield 78, 3) := dk_180 0 78 (dk_at dksX8_restore_1 16 rfl rfl)
theorem dX8_restore_43 : decode cX8_restore 43 = .ok (.aload_n 0, 1) := dk_42 (dk_at dksX8_restore_1 19 rfl rfl)
theorem dX8_restore_44 : decode cX8_restore 44 = .ok (.getfield 144, 3) := dk_180 0 144 (dk_at dksX8_restore_1 20 rfl rfl)
theorem dX8_restore_47 : decode cX8_restore 47 = .ok (.invokestatic 505, 3) := dk_184 1 249 (dk_at dksX8_restore_2 0 rfl rfl)
theorem dX8_restore_50 : decode cX8_restore 50 = .ok (.aload_n 0, 1) := dk_42 (dk_at dksX8_restore_2 3 rfl rfl)
theorem dX8_restore_51 : decode cX8_restore 51 = .ok (.getfield 132, 3) := dk_180 0 132 (dk_at dksX8_restore_2 4 rfl rfl)
theorem dX8_restore_54 : decode cX8_restore 54 = .ok (.aload_n 0, 1) := dk_42 (dk_at dksX8_restore_2 7 rfl rfl)
theorem dX8_restore_55 : decode cX8_restore 55 = .ok (.getfield 147, 3) := dk_180 0 147 (dk_at dksX8_restore_2 8 rfl rfl)
theorem dX8_restore_58 : decode cX8_restore 58 = .ok (.invokestatic 505, 3) := dk_184 1 249 (dk_at dksX8_restore_2 11 rfl rfl)
theorem dX8_restore_61 : decode cX8_restore 61 = .ok (.aload_n 0, 1) := dk_42 (dk_at dksX8_restore_2 14 rfl rfl)
theorem dX8_restore_62 : decode cX8_restore 62 = .ok (.getfield 135, 3) := dk_180 0 135 (dk_at dksX8_restore_2 15 rfl rfl)
theorem dX8_restore_65 : decode cX8_restore 65 = .ok (.aload_n 0, 1) := dk_42 (dk_at dksX8_restore_2 18 rfl rfl)
theorem dX8_restore_66 : decode cX8_restore 66 = .ok (.getfield 150, 3) := dk_180 0 150 (dk_at dksX8_restore_2 19 rfl rfl)
theorem dX8_restore_69 : decode cX8_restore 69 = .ok (.invokestatic 505, 3) := dk_184 1 249 (dk_at dksX8_restore_3 0 rfl rfl)
theorem dX8_restore_72 : decode cX8_restore 72 = .ok (.aload_n 0, 1) := dk_42 (dk_at dksX8_restore_3 3 rfl rfl)
theorem dX8_restore_73 : decode cX8_restore 73 = .ok (.getfield 138, 3) := dk_180 0 138 (dk_at dksX8_restore_3 4 rfl rfl)
theorem dX8_restore_76 : decode cX8_restore 76 = .ok (.aload_n 0, 1) := dk_42 (dk_at dksX8_restore_3 7 rfl rfl)
theorem dX8_restore_77 : decode cX8_restore 77 = .ok (.getfield 153, 3) := dk_180 0 153 (dk_at dksX8_restore_3 8 rfl rfl)
theorem dX8_restore_80 : decode cX8_restore 80 = .ok (.invokestatic 505, 3) := dk_184 1 249 (dk_at dksX8_restore_3 11 rfl rfl)
theorem dX8_restore_83 : decode cX8_restore 83 = .ok (.aload_n 0, 1) := dk_42 (dk_at dksX8_restore_3 14 rfl rfl)
theorem dX8_restore_84 : decode cX8_restore 84 = .ok (.getfield 65, 3) := dk_180 0 65 (dk_at dksX8_restore_3 15 rfl rfl)
theorem dX8_restore_87 : decode cX8_restore 87 = .ok (.aload_n 0, 1) := dk_42 (dk_at dksX8_restore_3 18 rfl rfl)
theorem dX8_restore_88 : decode cX8_restore 88 = .ok (.getfield 156, 3) := dk_180 0 156 (dk_at dksX8_restore_3 19 rfl rfl)
theorem dX8_restore_91 : decode cX8_restore 91 = .ok (.invokestatic 505, 3) := dk_184 1 249 (dk_at dksX8_restore_4 0 rfl rfl)
theorem dX8_restore_94 : decode cX8_restore 94 = .ok (.iconst 1, 1) := dk_4 (dk_at dksX8_restore_4 3 rfl rfl)
theorem dX8_restore_95 : decode cX8_restore 95 = .ok (.ireturn, 1) := dk_172 (dk_at dksX8_restore_4 4 rfl rfl)
theorem q126 : (Jvm.Cond.initialized "SpoonRowModel") ∈ lw_all := lw_g (lw_at lw_m1 29 rfl) rfl
theorem q663 : (Jvm.Cond.selects "SpoonRowModel" ({ cls := "java/lang/Object", name := "getClass", desc := "()Ljava/lang/Class;" } : Jvm.MethodName) ({ cls := "java/lang/Object", name := "getClass", desc := "()Ljava/lang/Class;" } : Jvm.MethodName)) ∈ lw_all := lw_g (lw_at lw_m3 86 rfl) rfl
theorem q1753 : (Jvm.Cond.instantiable "SpoonRowModel" (73 : Nat)) ∈ lw_all := lw_g (lw_at lw_m7 216 rfl) rfl
theorem q1755 : (Jvm.Cond.instanceMethod ({ cls := "SpoonRowModel", name := "<init>", desc := "()V" } : Jvm.MethodName)) ∈ lw_all := lw_g (lw_at lw_m7 218 rfl) rfl
theorem q1756 : (Jvm.Cond.code ({ cls := "SpoonRowModel", name := "<init>", desc := "()V" } : Jvm.MethodName) prog_21_method_1_code (1 : Nat) (Option.none : Option Jvm.ClassFile.FieldType)) ∈ lw_all := lw_g (lw_at lw_m7 219 rfl) rfl
theorem q1757 : (Jvm.Cond.methodLink "SpoonRowModel" (3 : Nat) ({ cls := "java/lang/Object", name := "<init>", desc := "()V" } : Jvm.MethodName)) ∈ lw_all := lw_g (lw_at lw_m7 220 rfl) rfl
theorem q1758 : (Jvm.Cond.classLink "SpoonRowModel" (9 : Nat) "java/lang/String") ∈ lw_all := lw_g (lw_at lw_m7 221 rfl) rfl
theorem q1760 : (Jvm.Cond.stringRef "SpoonRowModel" (11 : Nat) "sleeper") ∈ lw_tbl := lw_at lw_m7 223 rfl
theorem q1761 : (Jvm.Cond.stringRef "SpoonRowModel" (13 : Nat) "child") ∈ lw_tbl := lw_at lw_m7 224 rfl
theorem q1762 : (Jvm.Cond.stringRef "SpoonRowModel" (15 : Nat) "snorer") ∈ lw_tbl := lw_at lw_m7 225 rfl
theorem q1763 : (Jvm.Cond.stringRef "SpoonRowModel" (21 : Nat) "light") ∈ lw_tbl := lw_at lw_m7 226 rfl
theorem q1764 : (Jvm.Cond.stringRef "SpoonRowModel" (23 : Nat) "off") ∈ lw_tbl := lw_at lw_m7 227 rfl
theorem q1765 : (Jvm.Cond.stringRef "SpoonRowModel" (25 : Nat) "turns") ∈ lw_tbl := lw_at lw_m7 228 rfl
theorem q1766 : (Jvm.Cond.stringRef "SpoonRowModel" (27 : Nat) "hour") ∈ lw_tbl := lw_at lw_m7 229 rfl
theorem q1767 : (Jvm.Cond.stringRef "SpoonRowModel" (29 : Nat) "snore") ∈ lw_tbl := lw_at lw_m7 230 rfl
theorem q1768 : (Jvm.Cond.stringRef "SpoonRowModel" (31 : Nat) "edge") ∈ lw_tbl := lw_at lw_m7 231 rfl
theorem q1769 : (Jvm.Cond.stringRef "SpoonRowModel" (33 : Nat) "woken") ∈ lw_tbl := lw_at lw_m7 232 rfl
theorem q1770 : (Jvm.Cond.fieldLink "SpoonRowModel" (17 : Nat) "SpoonRowModel" "kinds" "[Ljava/lang/String;") ∈ lw_all := lw_g (lw_at lw_m7 233 rfl) rfl
theorem q1771 : (Jvm.Cond.fieldLink "SpoonRowModel" (35 : Nat) "SpoonRowModel" "values" "[Ljava/lang/String;") ∈ lw_all := lw_g (lw_at lw_m7 234 rfl) rfl
theorem q1772 : (Jvm.Cond.fieldLink "SpoonRowModel" (159 : Nat) "SpoonRowModel" "code" "I") ∈ lw_all := lw_g (lw_at lw_m7 235 rfl) rfl
theorem q1773 : (Jvm.Cond.fieldLink "SpoonRowModel" (38 : Nat) "SpoonRowModel" "told" "[I") ∈ lw_all := lw_g (lw_at lw_m7 236 rfl) rfl
theorem q1774 : (Jvm.Cond.fieldLink "SpoonRowModel" (42 : Nat) "SpoonRowModel" "kind" "[I") ∈ lw_all := lw_g (lw_at lw_m7 237 rfl) rfl
theorem q1775 : (Jvm.Cond.fieldLink "SpoonRowModel" (45 : Nat) "SpoonRowModel" "bears" "[I") ∈ lw_all := lw_g (lw_at lw_m7 238 rfl) rfl
theorem q1776 : (Jvm.Cond.fieldLink "SpoonRowModel" (48 : Nat) "SpoonRowModel" "light" "[I") ∈ lw_all := lw_g (lw_at lw_m7 239 rfl) rfl
theorem q1777 : (Jvm.Cond.fieldLink "SpoonRowModel" (50 : Nat) "SpoonRowModel" "wide" "[I") ∈ lw_all := lw_g (lw_at lw_m8 0 rfl) rfl
theorem q1778 : (Jvm.Cond.fieldLink "SpoonRowModel" (53 : Nat) "SpoonRowModel" "outAt" "[I") ∈ lw_all := lw_g (lw_at lw_m8 1 rfl) rfl
theorem q1779 : (Jvm.Cond.fieldLink "SpoonRowModel" (56 : Nat) "SpoonRowModel" "tenths" "[I") ∈ lw_all := lw_g (lw_at lw_m8 2 rfl) rfl
theorem q1780 : (Jvm.Cond.fieldLink "SpoonRowModel" (59 : Nat) "SpoonRowModel" "nevers" "[I") ∈ lw_all := lw_g (lw_at lw_m8 3 rfl) rfl
theorem q1781 : (Jvm.Cond.fieldLink "SpoonRowModel" (62 : Nat) "SpoonRowModel" "signs" "[I") ∈ lw_all := lw_g (lw_at lw_m8 4 rfl) rfl
theorem q1782 : (Jvm.Cond.fieldLink "SpoonRowModel" (65 : Nat) "SpoonRowModel" "status" "[I") ∈ lw_all := lw_g (lw_at lw_m8 5 rfl) rfl
theorem q1783 : (Jvm.Cond.fieldLink "SpoonRowModel" (68 : Nat) "SpoonRowModel" "tape" "[I") ∈ lw_all := lw_g (lw_at lw_m8 6 rfl) rfl
theorem q1784 : (Jvm.Cond.fieldLink "SpoonRowModel" (166 : Nat) "SpoonRowModel" "taped" "I") ∈ lw_all := lw_g (lw_at lw_m8 7 rfl) rfl
theorem q1785 : (Jvm.Cond.fieldLink "SpoonRowModel" (172 : Nat) "SpoonRowModel" "at" "I") ∈ lw_all := lw_g (lw_at lw_m8 8 rfl) rfl
theorem q1786 : (Jvm.Cond.fieldLink "SpoonRowModel" (169 : Nat) "SpoonRowModel" "size" "I") ∈ lw_all := lw_g (lw_at lw_m8 9 rfl) rfl
theorem q1787 : (Jvm.Cond.fieldLink "SpoonRowModel" (182 : Nat) "SpoonRowModel" "token" "I") ∈ lw_all := lw_g (lw_at lw_m8 10 rfl) rfl
theorem q1788 : (Jvm.Cond.fieldLink "SpoonRowModel" (192 : Nat) "SpoonRowModel" "number" "I") ∈ lw_all := lw_g (lw_at lw_m8 11 rfl) rfl
theorem q1789 : (Jvm.Cond.fieldLink "SpoonRowModel" (179 : Nat) "SpoonRowModel" "begins" "I") ∈ lw_all := lw_g (lw_at lw_m8 12 rfl) rfl
theorem q1790 : (Jvm.Cond.fieldLink "SpoonRowModel" (205 : Nat) "SpoonRowModel" "stops" "I") ∈ lw_all := lw_g (lw_at lw_m8 13 rfl) rfl
theorem q1791 : (Jvm.Cond.fieldLink "SpoonRowModel" (208 : Nat) "SpoonRowModel" "bad" "I") ∈ lw_all := lw_g (lw_at lw_m8 14 rfl) rfl
theorem q1792 : (Jvm.Cond.fieldLink "SpoonRowModel" (211 : Nat) "SpoonRowModel" "badPlace" "I") ∈ lw_all := lw_g (lw_at lw_m8 15 rfl) rfl
theorem q1793 : (Jvm.Cond.fieldLink "SpoonRowModel" (71 : Nat) "SpoonRowModel" "faultPlace" "I") ∈ lw_all := lw_g (lw_at lw_m8 16 rfl) rfl
theorem q1794 : (Jvm.Cond.fieldLink "SpoonRowModel" (75 : Nat) "SpoonRowModel" "lying" "[I") ∈ lw_all := lw_g (lw_at lw_m8 17 rfl) rfl
theorem q1795 : (Jvm.Cond.fieldLink "SpoonRowModel" (78 : Nat) "SpoonRowModel" "past" "[I") ∈ lw_all := lw_g (lw_at lw_m8 18 rfl) rfl
theorem q1796 : (Jvm.Cond.fieldLink "SpoonRowModel" (315 : Nat) "SpoonRowModel" "firstSide" "I") ∈ lw_all := lw_g (lw_at lw_m8 19 rfl) rfl
theorem q1797 : (Jvm.Cond.fieldLink "SpoonRowModel" (81 : Nat) "SpoonRowModel" "wordBy" "I") ∈ lw_all := lw_g (lw_at lw_m8 20 rfl) rfl
theorem q1798 : (Jvm.Cond.fieldLink "SpoonRowModel" (318 : Nat) "SpoonRowModel" "wordEvery" "I") ∈ lw_all := lw_g (lw_at lw_m8 21 rfl) rfl
theorem q1799 : (Jvm.Cond.fieldLink "SpoonRowModel" (321 : Nat) "SpoonRowModel" "bolsterSet" "I") ∈ lw_all := lw_g (lw_at lw_m8 22 rfl) rfl
theorem q1800 : (Jvm.Cond.fieldLink "SpoonRowModel" (324 : Nat) "SpoonRowModel" "acts" "I") ∈ lw_all := lw_g (lw_at lw_m8 23 rfl) rfl
theorem q1801 : (Jvm.Cond.fieldLink "SpoonRowModel" (327 : Nat) "SpoonRowModel" "seen" "I") ∈ lw_all := lw_g (lw_at lw_m8 24 rfl) rfl
theorem q1802 : (Jvm.Cond.fieldLink "SpoonRowModel" (84 : Nat) "SpoonRowModel" "asked" "[I") ∈ lw_all := lw_g (lw_at lw_m8 25 rfl) rfl
theorem q1803 : (Jvm.Cond.fieldLink "SpoonRowModel" (87 : Nat) "SpoonRowModel" "stack" "[I") ∈ lw_all := lw_g (lw_at lw_m8 26 rfl) rfl
theorem q1804 : (Jvm.Cond.fieldLink "SpoonRowModel" (90 : Nat) "SpoonRowModel" "row" "[I") ∈ lw_all := lw_g (lw_at lw_m8 27 rfl) rfl
theorem q1805 : (Jvm.Cond.fieldLink "SpoonRowModel" (93 : Nat) "SpoonRowModel" "goes" "[I") ∈ lw_all := lw_g (lw_at lw_m8 28 rfl) rfl
theorem q1806 : (Jvm.Cond.fieldLink "SpoonRowModel" (96 : Nat) "SpoonRowModel" "side" "[I") ∈ lw_all := lw_g (lw_at lw_m8 29 rfl) rfl
theorem q1807 : (Jvm.Cond.fieldLink "SpoonRowModel" (99 : Nat) "SpoonRowModel" "since" "[I") ∈ lw_all := lw_g (lw_at lw_m8 30 rfl) rfl
theorem q1808 : (Jvm.Cond.fieldLink "SpoonRowModel" (102 : Nat) "SpoonRowModel" "wokenAt" "[I") ∈ lw_all := lw_g (lw_at lw_m8 31 rfl) rfl
theorem q1809 : (Jvm.Cond.fieldLink "SpoonRowModel" (105 : Nat) "SpoonRowModel" "wokenMany" "[I") ∈ lw_all := lw_g (lw_at lw_m8 32 rfl) rfl
theorem q1810 : (Jvm.Cond.fieldLink "SpoonRowModel" (108 : Nat) "SpoonRowModel" "began" "[I") ∈ lw_all := lw_g (lw_at lw_m8 33 rfl) rfl
theorem q1811 : (Jvm.Cond.fieldLink "SpoonRowModel" (111 : Nat) "SpoonRowModel" "turnAt" "[I") ∈ lw_all := lw_g (lw_at lw_m8 34 rfl) rfl
theorem q1812 : (Jvm.Cond.fieldLink "SpoonRowModel" (114 : Nat) "SpoonRowModel" "turnBy" "[I") ∈ lw_all := lw_g (lw_at lw_m8 35 rfl) rfl
theorem q1813 : (Jvm.Cond.fieldLink "SpoonRowModel" (117 : Nat) "SpoonRowModel" "turnWoken" "[I") ∈ lw_all := lw_g (lw_at lw_m8 36 rfl) rfl
theorem q1814 : (Jvm.Cond.fieldLink "SpoonRowModel" (120 : Nat) "SpoonRowModel" "turnWord" "[I") ∈ lw_all := lw_g (lw_at lw_m8 37 rfl) rfl
theorem q1815 : (Jvm.Cond.fieldLink "SpoonRowModel" (341 : Nat) "SpoonRowModel" "many" "I") ∈ lw_all := lw_g (lw_at lw_m8 38 rfl) rfl
theorem q1816 : (Jvm.Cond.fieldLink "SpoonRowModel" (344 : Nat) "SpoonRowModel" "word" "I") ∈ lw_all := lw_g (lw_at lw_m8 39 rfl) rfl
theorem q1817 : (Jvm.Cond.fieldLink "SpoonRowModel" (347 : Nat) "SpoonRowModel" "every" "I") ∈ lw_all := lw_g (lw_at lw_m8 40 rfl) rfl
theorem q1818 : (Jvm.Cond.fieldLink "SpoonRowModel" (350 : Nat) "SpoonRowModel" "bolsters" "I") ∈ lw_all := lw_g (lw_at lw_m8 41 rfl) rfl
theorem q1819 : (Jvm.Cond.fieldLink "SpoonRowModel" (365 : Nat) "SpoonRowModel" "turns" "I") ∈ lw_all := lw_g (lw_at lw_m8 42 rfl) rfl
theorem q1820 : (Jvm.Cond.fieldLink "SpoonRowModel" (359 : Nat) "SpoonRowModel" "minute" "I") ∈ lw_all := lw_g (lw_at lw_m8 43 rfl) rfl
theorem q1821 : (Jvm.Cond.fieldLink "SpoonRowModel" (385 : Nat) "SpoonRowModel" "quiet" "I") ∈ lw_all := lw_g (lw_at lw_m8 44 rfl) rfl
theorem q1822 : (Jvm.Cond.fieldLink "SpoonRowModel" (388 : Nat) "SpoonRowModel" "lastTurn" "I") ∈ lw_all := lw_g (lw_at lw_m8 45 rfl) rfl
theorem q1823 : (Jvm.Cond.fieldLink "SpoonRowModel" (356 : Nat) "SpoonRowModel" "isFree" "Z") ∈ lw_all := lw_g (lw_at lw_m8 46 rfl) rfl
theorem q1824 : (Jvm.Cond.fieldLink "SpoonRowModel" (123 : Nat) "SpoonRowModel" "keptRow" "[I") ∈ lw_all := lw_g (lw_at lw_m8 47 rfl) rfl
theorem q1825 : (Jvm.Cond.fieldLink "SpoonRowModel" (126 : Nat) "SpoonRowModel" "bestRow" "[I") ∈ lw_all := lw_g (lw_at lw_m8 48 rfl) rfl
theorem q1826 : (Jvm.Cond.fieldLink "SpoonRowModel" (456 : Nat) "SpoonRowModel" "ordersMany" "I") ∈ lw_all := lw_g (lw_at lw_m8 49 rfl) rfl
theorem q1827 : (Jvm.Cond.fieldLink "SpoonRowModel" (462 : Nat) "SpoonRowModel" "bestValue" "I") ∈ lw_all := lw_g (lw_at lw_m8 50 rfl) rfl
theorem q1828 : (Jvm.Cond.fieldLink "SpoonRowModel" (330 : Nat) "SpoonRowModel" "isKept" "Z") ∈ lw_all := lw_g (lw_at lw_m8 51 rfl) rfl
theorem q1829 : (Jvm.Cond.fieldLink "SpoonRowModel" (129 : Nat) "SpoonRowModel" "inAll" "[I") ∈ lw_all := lw_g (lw_at lw_m8 52 rfl) rfl
theorem q1830 : (Jvm.Cond.fieldLink "SpoonRowModel" (132 : Nat) "SpoonRowModel" "seenWho" "[I") ∈ lw_all := lw_g (lw_at lw_m8 53 rfl) rfl
theorem q1831 : (Jvm.Cond.fieldLink "SpoonRowModel" (135 : Nat) "SpoonRowModel" "seenAt" "[I") ∈ lw_all := lw_g (lw_at lw_m8 54 rfl) rfl
theorem q1832 : (Jvm.Cond.fieldLink "SpoonRowModel" (138 : Nat) "SpoonRowModel" "seenSide" "[I") ∈ lw_all := lw_g (lw_at lw_m8 55 rfl) rfl
theorem q1833 : (Jvm.Cond.fieldLink "SpoonRowModel" (488 : Nat) "SpoonRowModel" "seedNow" "I") ∈ lw_all := lw_g (lw_at lw_m8 56 rfl) rfl
theorem q1834 : (Jvm.Cond.fieldLink "SpoonRowModel" (334 : Nat) "SpoonRowModel" "hasImage" "Z") ∈ lw_all := lw_g (lw_at lw_m8 57 rfl) rfl
theorem q1835 : (Jvm.Cond.fieldLink "SpoonRowModel" (499 : Nat) "SpoonRowModel" "actsThen" "I") ∈ lw_all := lw_g (lw_at lw_m8 58 rfl) rfl
theorem q1836 : (Jvm.Cond.fieldLink "SpoonRowModel" (502 : Nat) "SpoonRowModel" "seenThen" "I") ∈ lw_all := lw_g (lw_at lw_m8 59 rfl) rfl
theorem q1837 : (Jvm.Cond.fieldLink "SpoonRowModel" (141 : Nat) "SpoonRowModel" "rowThen" "[I") ∈ lw_all := lw_g (lw_at lw_m8 60 rfl) rfl
theorem q1838 : (Jvm.Cond.fieldLink "SpoonRowModel" (144 : Nat) "SpoonRowModel" "pastThen" "[I") ∈ lw_all := lw_g (lw_at lw_m8 61 rfl) rfl
theorem q1839 : (Jvm.Cond.fieldLink "SpoonRowModel" (147 : Nat) "SpoonRowModel" "seenWhoThen" "[I") ∈ lw_all := lw_g (lw_at lw_m8 62 rfl) rfl
theorem q1840 : (Jvm.Cond.fieldLink "SpoonRowModel" (150 : Nat) "SpoonRowModel" "seenAtThen" "[I") ∈ lw_all := lw_g (lw_at lw_m8 63 rfl) rfl
theorem q1841 : (Jvm.Cond.fieldLink "SpoonRowModel" (153 : Nat) "SpoonRowModel" "seenSideThen" "[I") ∈ lw_all := lw_g (lw_at lw_m8 64 rfl) rfl
theorem q1842 : (Jvm.Cond.fieldLink "SpoonRowModel" (156 : Nat) "SpoonRowModel" "statusThen" "[I") ∈ lw_all := lw_g (lw_at lw_m8 65 rfl) rfl
theorem q1843 : (Jvm.Cond.laysFinal "SpoonRowModel" "SpoonRowModel" "kinds" "[Ljava/lang/String;") ∈ lw_all := lw_g (lw_at lw_m8 66 rfl) rfl
theorem q1844 : (Jvm.Cond.soleField "SpoonRowModel" "kinds") ∈ lw_all := lw_g (lw_at lw_m8 67 rfl) rfl
theorem q1845 : (Jvm.Cond.laysFinal "SpoonRowModel" "SpoonRowModel" "values" "[Ljava/lang/String;") ∈ lw_all := lw_g (lw_at lw_m8 68 rfl) rfl
theorem q1846 : (Jvm.Cond.soleField "SpoonRowModel" "values") ∈ lw_all := lw_g (lw_at lw_m8 69 rfl) rfl
theorem q1847 : (Jvm.Cond.lays "SpoonRowModel" "SpoonRowModel" "code" "I") ∈ lw_all := lw_g (lw_at lw_m8 70 rfl) rfl
theorem q1848 : (Jvm.Cond.soleField "SpoonRowModel" "code") ∈ lw_all := lw_g (lw_at lw_m8 71 rfl) rfl
theorem q1849 : (Jvm.Cond.laysFinal "SpoonRowModel" "SpoonRowModel" "told" "[I") ∈ lw_all := lw_g (lw_at lw_m8 72 rfl) rfl
theorem q1850 : (Jvm.Cond.soleField "SpoonRowModel" "told") ∈ lw_all := lw_g (lw_at lw_m8 73 rfl) rfl
theorem q1851 : (Jvm.Cond.laysFinal "SpoonRowModel" "SpoonRowModel" "kind" "[I") ∈ lw_all := lw_g (lw_at lw_m8 74 rfl) rfl
theorem q1852 : (Jvm.Cond.soleField "SpoonRowModel" "kind") ∈ lw_all := lw_g (lw_at lw_m8 75 rfl) rfl
theorem q1853 : (Jvm.Cond.laysFinal "SpoonRowModel" "SpoonRowModel" "bears" "[I") ∈ lw_all := lw_g (lw_at lw_m8 76 rfl) rfl
theorem q1854 : (Jvm.Cond.soleField "SpoonRowModel" "bears") ∈ lw_all := lw_g (lw_at lw_m8 77 rfl) rfl
theorem q1855 : (Jvm.Cond.laysFinal "SpoonRowModel" "SpoonRowModel" "light" "[I") ∈ lw_all := lw_g (lw_at lw_m8 78 rfl) rfl
theorem q1856 : (Jvm.Cond.soleField "SpoonRowModel" "light") ∈ lw_all := lw_g (lw_at lw_m8 79 rfl) rfl
theorem q1857 : (Jvm.Cond.laysFinal "SpoonRowModel" "SpoonRowModel" "wide" "[I") ∈ lw_all := lw_g (lw_at lw_m8 80 rfl) rfl
theorem q1858 : (Jvm.Cond.soleField "SpoonRowModel" "wide") ∈ lw_all := lw_g (lw_at lw_m8 81 rfl) rfl
theorem q1859 : (Jvm.Cond.laysFinal "SpoonRowModel" "SpoonRowModel" "outAt" "[I") ∈ lw_all := lw_g (lw_at lw_m8 82 rfl) rfl
theorem q1860 : (Jvm.Cond.soleField "SpoonRowModel" "outAt") ∈ lw_all := lw_g (lw_at lw_m8 83 rfl) rfl
theorem q1861 : (Jvm.Cond.laysFinal "SpoonRowModel" "SpoonRowModel" "tenths" "[I") ∈ lw_all := lw_g (lw_at lw_m8 84 rfl) rfl
theorem q1862 : (Jvm.Cond.soleField "SpoonRowModel" "tenths") ∈ lw_all := lw_g (lw_at lw_m8 85 rfl) rfl
theorem q1863 : (Jvm.Cond.laysFinal "SpoonRowModel" "SpoonRowModel" "nevers" "[I") ∈ lw_all := lw_g (lw_at lw_m8 86 rfl) rfl
theorem q1864 : (Jvm.Cond.soleField "SpoonRowModel" "nevers") ∈ lw_all := lw_g (lw_at lw_m8 87 rfl) rfl
theorem q1865 : (Jvm.Cond.laysFinal "SpoonRowModel" "SpoonRowModel" "signs" "[I") ∈ lw_all := lw_g (lw_at lw_m8 88 rfl) rfl
theorem q1866 : (Jvm.Cond.soleField "SpoonRowModel" "signs") ∈ lw_all := lw_g (lw_at lw_m8 89 rfl) rfl
theorem q1867 : (Jvm.Cond.laysFinal "SpoonRowModel" "SpoonRowModel" "status" "[I") ∈ lw_all := lw_g (lw_at lw_m8 90 rfl) rfl
theorem q1868 : (Jvm.Cond.soleField "SpoonRowModel" "status") ∈ lw_all := lw_g (lw_at lw_m8 91 rfl) rfl
theorem q1869 : (Jvm.Cond.laysFinal "SpoonRowModel" "SpoonRowModel" "tape" "[I") ∈ lw_all := lw_g (lw_at lw_m8 92 rfl) rfl
theorem q1870 : (Jvm.Cond.soleField "SpoonRowModel" "tape") ∈ lw_all := lw_g (lw_at lw_m8 93 rfl) rfl
theorem q1871 : (Jvm.Cond.lays "SpoonRowModel" "SpoonRowModel" "taped" "I") ∈ lw_all := lw_g (lw_at lw_m8 94 rfl) rfl
theorem q1872 : (Jvm.Cond.soleField "SpoonRowModel" "taped") ∈ lw_all := lw_g (lw_at lw_m8 95 rfl) rfl
theorem q1873 : (Jvm.Cond.lays "SpoonRowModel" "SpoonRowModel" "at" "I") ∈ lw_all := lw_g (lw_at lw_m8 96 rfl) rfl
theorem q1874 : (Jvm.Cond.soleField "SpoonRowModel" "at") ∈ lw_all := lw_g (lw_at lw_m8 97 rfl) rfl
theorem q1875 : (Jvm.Cond.lays "SpoonRowModel" "SpoonRowModel" "size" "I") ∈ lw_all := lw_g (lw_at lw_m8 98 rfl) rfl
theorem q1876 : (Jvm.Cond.soleField "SpoonRowModel" "size") ∈ lw_all := lw_g (lw_at lw_m8 99 rfl) rfl
theorem q1877 : (Jvm.Cond.lays "SpoonRowModel" "SpoonRowModel" "token" "I") ∈ lw_all := lw_g (lw_at lw_m8 100 rfl) rfl
theorem q1878 : (Jvm.Cond.soleField "SpoonRowModel" "token") ∈ lw_all := lw_g (lw_at lw_m8 101 rfl) rfl
theorem q1879 : (Jvm.Cond.lays "SpoonRowModel" "SpoonRowModel" "number" "I") ∈ lw_all := lw_g (lw_at lw_m8 102 rfl) rfl
theorem q1880 : (Jvm.Cond.soleField "SpoonRowModel" "number") ∈ lw_all := lw_g (lw_at lw_m8 103 rfl) rfl
theorem q1881 : (Jvm.Cond.lays "SpoonRowModel" "SpoonRowModel" "begins" "I") ∈ lw_all := lw_g (lw_at lw_m8 104 rfl) rfl
theorem q1882 : (Jvm.Cond.soleField "SpoonRowModel" "begins") ∈ lw_all := lw_g (lw_at lw_m8 105 rfl) rfl
theorem q1883 : (Jvm.Cond.lays "SpoonRowModel" "SpoonRowModel" "stops" "I") ∈ lw_all := lw_g (lw_at lw_m8 106 rfl) rfl
theorem q1884 : (Jvm.Cond.soleField "SpoonRowModel" "stops") ∈ lw_all := lw_g (lw_at lw_m8 107 rfl) rfl
theorem q1885 : (Jvm.Cond.lays "SpoonRowModel" "SpoonRowModel" "bad" "I") ∈ lw_all := lw_g (lw_at lw_m8 108 rfl) rfl
theorem q1886 : (Jvm.Cond.soleField "SpoonRowModel" "bad") ∈ lw_all := lw_g (lw_at lw_m8 109 rfl) rfl
theorem q1887 : (Jvm.Cond.lays "SpoonRowModel" "SpoonRowModel" "badPlace" "I") ∈ lw_all := lw_g (lw_at lw_m8 110 rfl) rfl
theorem q1888 : (Jvm.Cond.soleField "SpoonRowModel" "badPlace") ∈ lw_all := lw_g (lw_at lw_m8 111 rfl) rfl
theorem q1889 : (Jvm.Cond.lays "SpoonRowModel" "SpoonRowModel" "faultPlace" "I") ∈ lw_all := lw_g (lw_at lw_m8 112 rfl) rfl
theorem q1890 : (Jvm.Cond.soleField "SpoonRowModel" "faultPlace") ∈ lw_all := lw_g (lw_at lw_m8 113 rfl) rfl
theorem q1891 : (Jvm.Cond.laysFinal "SpoonRowModel" "SpoonRowModel" "lying" "[I") ∈ lw_all := lw_g (lw_at lw_m8 114 rfl) rfl
theorem q1892 : (Jvm.Cond.soleField "SpoonRowModel" "lying") ∈ lw_all := lw_g (lw_at lw_m8 115 rfl) rfl
theorem q1893 : (Jvm.Cond.laysFinal "SpoonRowModel" "SpoonRowModel" "past" "[I") ∈ lw_all := lw_g (lw_at lw_m8 116 rfl) rfl
theorem q1894 : (Jvm.Cond.soleField "SpoonRowModel" "past") ∈ lw_all := lw_g (lw_at lw_m8 117 rfl) rfl
theorem q1895 : (Jvm.Cond.lays "SpoonRowModel" "SpoonRowModel" "firstSide" "I") ∈ lw_all := lw_g (lw_at lw_m8 118 rfl) rfl
theorem q1896 : (Jvm.Cond.soleField "SpoonRowModel" "firstSide") ∈ lw_all := lw_g (lw_at lw_m8 119 rfl) rfl
theorem q1897 : (Jvm.Cond.lays "SpoonRowModel" "SpoonRowModel" "wordBy" "I") ∈ lw_all := lw_g (lw_at lw_m8 120 rfl) rfl
theorem q1898 : (Jvm.Cond.soleField "SpoonRowModel" "wordBy") ∈ lw_all := lw_g (lw_at lw_m8 121 rfl) rfl
theorem q1899 : (Jvm.Cond.lays "SpoonRowModel" "SpoonRowModel" "wordEvery" "I") ∈ lw_all := lw_g (lw_at lw_m8 122 rfl) rfl
theorem q1900 : (Jvm.Cond.soleField "SpoonRowModel" "wordEvery") ∈ lw_all := lw_g (lw_at lw_m8 123 rfl) rfl
theorem q1901 : (Jvm.Cond.lays "SpoonRowModel" "SpoonRowModel" "bolsterSet" "I") ∈ lw_all := lw_g (lw_at lw_m8 124 rfl) rfl
theorem q1902 : (Jvm.Cond.soleField "SpoonRowModel" "bolsterSet") ∈ lw_all := lw_g (lw_at lw_m8 125 rfl) rfl
theorem q1903 : (Jvm.Cond.lays "SpoonRowModel" "SpoonRowModel" "acts" "I") ∈ lw_all := lw_g (lw_at lw_m8 126 rfl) rfl
theorem q1904 : (Jvm.Cond.soleField "SpoonRowModel" "acts") ∈ lw_all := lw_g (lw_at lw_m8 127 rfl) rfl
theorem q1905 : (Jvm.Cond.lays "SpoonRowModel" "SpoonRowModel" "seen" "I") ∈ lw_all := lw_g (lw_at lw_m8 128 rfl) rfl
theorem q1906 : (Jvm.Cond.soleField "SpoonRowModel" "seen") ∈ lw_all := lw_g (lw_at lw_m8 129 rfl) rfl
theorem q1907 : (Jvm.Cond.laysFinal "SpoonRowModel" "SpoonRowModel" "asked" "[I") ∈ lw_all := lw_g (lw_at lw_m8 130 rfl) rfl
theorem q1908 : (Jvm.Cond.soleField "SpoonRowModel" "asked") ∈ lw_all := lw_g (lw_at lw_m8 131 rfl) rfl
theorem q1909 : (Jvm.Cond.laysFinal "SpoonRowModel" "SpoonRowModel" "stack" "[I") ∈ lw_all := lw_g (lw_at lw_m8 132 rfl) rfl
theorem q1910 : (Jvm.Cond.soleField "SpoonRowModel" "stack") ∈ lw_all := lw_g (lw_at lw_m8 133 rfl) rfl
theorem q1911 : (Jvm.Cond.laysFinal "SpoonRowModel" "SpoonRowModel" "row" "[I") ∈ lw_all := lw_g (lw_at lw_m8 134 rfl) rfl
theorem q1912 : (Jvm.Cond.soleField "SpoonRowModel" "row") ∈ lw_all := lw_g (lw_at lw_m8 135 rfl) rfl
theorem q1913 : (Jvm.Cond.laysFinal "SpoonRowModel" "SpoonRowModel" "goes" "[I") ∈ lw_all := lw_g (lw_at lw_m8 136 rfl) rfl
theorem q1914 : (Jvm.Cond.soleField "SpoonRowModel" "goes") ∈ lw_all := lw_g (lw_at lw_m8 137 rfl) rfl
theorem q1915 : (Jvm.Cond.laysFinal "SpoonRowModel" "SpoonRowModel" "side" "[I") ∈ lw_all := lw_g (lw_at lw_m8 138 rfl) rfl
theorem q1916 : (Jvm.Cond.soleField "SpoonRowModel" "side") ∈ lw_all := lw_g (lw_at lw_m8 139 rfl) rfl
theorem q1917 : (Jvm.Cond.laysFinal "SpoonRowModel" "SpoonRowModel" "since" "[I") ∈ lw_all := lw_g (lw_at lw_m8 140 rfl) rfl
theorem q1918 : (Jvm.Cond.soleField "SpoonRowModel" "since") ∈ lw_all := lw_g (lw_at lw_m8 141 rfl) rfl
theorem q1919 : (Jvm.Cond.laysFinal "SpoonRowModel" "SpoonRowModel" "wokenAt" "[I") ∈ lw_all := lw_g (lw_at lw_m8 142 rfl) rfl
theorem q1920 : (Jvm.Cond.soleField "SpoonRowModel" "wokenAt") ∈ lw_all := lw_g (lw_at lw_m8 143 rfl) rfl
theorem q1921 : (Jvm.Cond.laysFinal "SpoonRowModel" "SpoonRowModel" "wokenMany" "[I") ∈ lw_all := lw_g (lw_at lw_m8 144 rfl) rfl
theorem q1922 : (Jvm.Cond.soleField "SpoonRowModel" "wokenMany") ∈ lw_all := lw_g (lw_at lw_m8 145 rfl) rfl
theorem q1923 : (Jvm.Cond.laysFinal "SpoonRowModel" "SpoonRowModel" "began" "[I") ∈ lw_all := lw_g (lw_at lw_m8 146 rfl) rfl
theorem q1924 : (Jvm.Cond.soleField "SpoonRowModel" "began") ∈ lw_all := lw_g (lw_at lw_m8 147 rfl) rfl
theorem q1925 : (Jvm.Cond.laysFinal "SpoonRowModel" "SpoonRowModel" "turnAt" "[I") ∈ lw_all := lw_g (lw_at lw_m8 148 rfl) rfl
theorem q1926 : (Jvm.Cond.soleField "SpoonRowModel" "turnAt") ∈ lw_all := lw_g (lw_at lw_m8 149 rfl) rfl
theorem q1927 : (Jvm.Cond.laysFinal "SpoonRowModel" "SpoonRowModel" "turnBy" "[I") ∈ lw_all := lw_g (lw_at lw_m8 150 rfl) rfl
theorem q1928 : (Jvm.Cond.soleField "SpoonRowModel" "turnBy") ∈ lw_all := lw_g (lw_at lw_m8 151 rfl) rfl
theorem q1929 : (Jvm.Cond.laysFinal "SpoonRowModel" "SpoonRowModel" "turnWoken" "[I") ∈ lw_all := lw_g (lw_at lw_m8 152 rfl) rfl
theorem q1930 : (Jvm.Cond.soleField "SpoonRowModel" "turnWoken") ∈ lw_all := lw_g (lw_at lw_m8 153 rfl) rfl
theorem q1931 : (Jvm.Cond.laysFinal "SpoonRowModel" "SpoonRowModel" "turnWord" "[I") ∈ lw_all := lw_g (lw_at lw_m8 154 rfl) rfl
theorem q1932 : (Jvm.Cond.soleField "SpoonRowModel" "turnWord") ∈ lw_all := lw_g (lw_at lw_m8 155 rfl) rfl
theorem q1933 : (Jvm.Cond.lays "SpoonRowModel" "SpoonRowModel" "many" "I") ∈ lw_all := lw_g (lw_at lw_m8 156 rfl) rfl
theorem q1934 : (Jvm.Cond.soleField "SpoonRowModel" "many") ∈ lw_all := lw_g (lw_at lw_m8 157 rfl) rfl
theorem q1935 : (Jvm.Cond.lays "SpoonRowModel" "SpoonRowModel" "word" "I") ∈ lw_all := lw_g (lw_at lw_m8 158 rfl) rfl
theorem q1936 : (Jvm.Cond.soleField "SpoonRowModel" "word") ∈ lw_all := lw_g (lw_at lw_m8 159 rfl) rfl
theorem q1937 : (Jvm.Cond.lays "SpoonRowModel" "SpoonRowModel" "every" "I") ∈ lw_all := lw_g (lw_at lw_m8 160 rfl) rfl
theorem q1938 : (Jvm.Cond.soleField "SpoonRowModel" "every") ∈ lw_all := lw_g (lw_at lw_m8 161 rfl) rfl
theorem q1939 : (Jvm.Cond.lays "SpoonRowModel" "SpoonRowModel" "bolsters" "I") ∈ lw_all := lw_g (lw_at lw_m8 162 rfl) rfl
theorem q1940 : (Jvm.Cond.soleField "SpoonRowModel" "bolsters") ∈ lw_all := lw_g (lw_at lw_m8 163 rfl) rfl
theorem q1941 : (Jvm.Cond.lays "SpoonRowModel" "SpoonRowModel" "turns" "I") ∈ lw_all := lw_g (lw_at lw_m8 164 rfl) rfl
theorem q1942 : (Jvm.Cond.soleField "SpoonRowModel" "turns") ∈ lw_all := lw_g (lw_at lw_m8 165 rfl) rfl
theorem q1943 : (Jvm.Cond.lays "SpoonRowModel" "SpoonRowModel" "minute" "I") ∈ lw_all := lw_g (lw_at lw_m8 166 rfl) rfl
theorem q1944 : (Jvm.Cond.soleField "SpoonRowModel" "minute") ∈ lw_all := lw_g (lw_at lw_m8 167 rfl) rfl
theorem q1945 : (Jvm.Cond.lays "SpoonRowModel" "SpoonRowModel" "quiet" "I") ∈ lw_all := lw_g (lw_at lw_m8 168 rfl) rfl
theorem q1946 : (Jvm.Cond.soleField "SpoonRowModel" "quiet") ∈ lw_all := lw_g (lw_at lw_m8 169 rfl) rfl
theorem q1947 : (Jvm.Cond.lays "SpoonRowModel" "SpoonRowModel" "lastTurn" "I") ∈ lw_all := lw_g (lw_at lw_m8 170 rfl) rfl
theorem q1948 : (Jvm.Cond.soleField "SpoonRowModel" "lastTurn") ∈ lw_all := lw_g (lw_at lw_m8 171 rfl) rfl
theorem q1949 : (Jvm.Cond.lays "SpoonRowModel" "SpoonRowModel" "isFree" "Z") ∈ lw_all := lw_g (lw_at lw_m8 172 rfl) rfl
theorem q1950 : (Jvm.Cond.soleField "SpoonRowModel" "isFree") ∈ lw_all := lw_g (lw_at lw_m8 173 rfl) rfl
theorem q1951 : (Jvm.Cond.laysFinal "SpoonRowModel" "SpoonRowModel" "keptRow" "[I") ∈ lw_all := lw_g (lw_at lw_m8 174 rfl) rfl
theorem q1952 : (Jvm.Cond.soleField "SpoonRowModel" "keptRow") ∈ lw_all := lw_g (lw_at lw_m8 175 rfl) rfl
theorem q1953 : (Jvm.Cond.laysFinal "SpoonRowModel" "SpoonRowModel" "bestRow" "[I") ∈ lw_all := lw_g (lw_at lw_m8 176 rfl) rfl
theorem q1954 : (Jvm.Cond.soleField "SpoonRowModel" "bestRow") ∈ lw_all := lw_g (lw_at lw_m8 177 rfl) rfl
theorem q1955 : (Jvm.Cond.lays "SpoonRowModel" "SpoonRowModel" "ordersMany" "I") ∈ lw_all := lw_g (lw_at lw_m8 178 rfl) rfl
theorem q1956 : (Jvm.Cond.soleField "SpoonRowModel" "ordersMany") ∈ lw_all := lw_g (lw_at lw_m8 179 rfl) rfl
theorem q1957 : (Jvm.Cond.lays "SpoonRowModel" "SpoonRowModel" "bestValue" "I") ∈ lw_all := lw_g (lw_at lw_m8 180 rfl) rfl
theorem q1958 : (Jvm.Cond.soleField "SpoonRowModel" "bestValue") ∈ lw_all := lw_g (lw_at lw_m8 181 rfl) rfl
theorem q1959 : (Jvm.Cond.lays "SpoonRowModel" "SpoonRowModel" "isKept" "Z") ∈ lw_all := lw_g (lw_at lw_m8 182 rfl) rfl
theorem q1960 : (Jvm.Cond.soleField "SpoonRowModel" "isKept") ∈ lw_all := lw_g (lw_at lw_m8 183 rfl) rfl
theorem q1961 : (Jvm.Cond.laysFinal "SpoonRowModel" "SpoonRowModel" "inAll" "[I") ∈ lw_all := lw_g (lw_at lw_m8 184 rfl) rfl
theorem q1962 : (Jvm.Cond.soleField "SpoonRowModel" "inAll") ∈ lw_all := lw_g (lw_at lw_m8 185 rfl) rfl
theorem q1963 : (Jvm.Cond.laysFinal "SpoonRowModel" "SpoonRowModel" "seenWho" "[I") ∈ lw_all := lw_g (lw_at lw_m8 186 rfl) rfl
theorem q1964 : (Jvm.Cond.soleField "SpoonRowModel" "seenWho") ∈ lw_all := lw_g (lw_at lw_m8 187 rfl) rfl
theorem q1965 : (Jvm.Cond.laysFinal "SpoonRowModel" "SpoonRowModel" "seenAt" "[I") ∈ lw_all := lw_g (lw_at lw_m8 188 rfl) rfl
theorem q1966 : (Jvm.Cond.soleField "SpoonRowModel" "seenAt") ∈ lw_all := lw_g (lw_at lw_m8 189 rfl) rfl
theorem q1967 : (Jvm.Cond.laysFinal "SpoonRowModel" "SpoonRowModel" "seenSide" "[I") ∈ lw_all := lw_g (lw_at lw_m8 190 rfl) rfl
theorem q1968 : (Jvm.Cond.soleField "SpoonRowModel" "seenSide") ∈ lw_all := lw_g (lw_at lw_m8 191 rfl) rfl
theorem q1969 : (Jvm.Cond.lays "SpoonRowModel" "SpoonRowModel" "seedNow" "I") ∈ lw_all := lw_g (lw_at lw_m8 192 rfl) rfl
theorem q1970 : (Jvm.Cond.soleField "SpoonRowModel" "seedNow") ∈ lw_all := lw_g (lw_at lw_m8 193 rfl) rfl
theorem q1971 : (Jvm.Cond.lays "SpoonRowModel" "SpoonRowModel" "hasImage" "Z") ∈ lw_all := lw_g (lw_at lw_m8 194 rfl) rfl
theorem q1972 : (Jvm.Cond.soleField "SpoonRowModel" "hasImage") ∈ lw_all := lw_g (lw_at lw_m8 195 rfl) rfl
theorem q1973 : (Jvm.Cond.lays "SpoonRowModel" "SpoonRowModel" "actsThen" "I") ∈ lw_all := lw_g (lw_at lw_m8 196 rfl) rfl
theorem q1974 : (Jvm.Cond.soleField "SpoonRowModel" "actsThen") ∈ lw_all := lw_g (lw_at lw_m8 197 rfl) rfl
theorem q1975 : (Jvm.Cond.lays "SpoonRowModel" "SpoonRowModel" "seenThen" "I") ∈ lw_all := lw_g (lw_at lw_m8 198 rfl) rfl
theorem q1976 : (Jvm.Cond.soleField "SpoonRowModel" "seenThen") ∈ lw_all := lw_g (lw_at lw_m8 199 rfl) rfl
theorem q1977 : (Jvm.Cond.laysFinal "SpoonRowModel" "SpoonRowModel" "rowThen" "[I") ∈ lw_all := lw_g (lw_at lw_m8 200 rfl) rfl
theorem q1978 : (Jvm.Cond.soleField "SpoonRowModel" "rowThen") ∈ lw_all := lw_g (lw_at lw_m8 201 rfl) rfl
theorem q1979 : (Jvm.Cond.laysFinal "SpoonRowModel" "SpoonRowModel" "pastThen" "[I") ∈ lw_all := lw_g (lw_at lw_m8 202 rfl) rfl
theorem q1980 : (Jvm.Cond.soleField "SpoonRowModel" "pastThen") ∈ lw_all := lw_g (lw_at lw_m8 203 rfl) rfl
theorem q1981 : (Jvm.Cond.laysFinal "SpoonRowModel" "SpoonRowModel" "seenWhoThen" "[I") ∈ lw_all := lw_g (lw_at lw_m8 204 rfl) rfl
theorem q1982 : (Jvm.Cond.soleField "SpoonRowModel" "seenWhoThen") ∈ lw_all := lw_g (lw_at lw_m8 205 rfl) rfl
theorem q1983 : (Jvm.Cond.laysFinal "SpoonRowModel" "SpoonRowModel" "seenAtThen" "[I") ∈ lw_all := lw_g (lw_at lw_m8 206 rfl) rfl
theorem q1984 : (Jvm.Cond.soleField "SpoonRowModel" "seenAtThen") ∈ lw_all := lw_g (lw_at lw_m8 207 rfl) rfl
theorem q1985 : (Jvm.Cond.laysFinal "SpoonRowModel" "SpoonRowModel" "seenSideThen" "[I") ∈ lw_all := lw_g (lw_at lw_m8 208 rfl) rfl
theorem q1986 : (Jvm.Cond.soleField "SpoonRowModel" "seenSideThen") ∈ lw_all := lw_g (lw_at lw_m8 209 rfl) rfl
theorem q1987 : (Jvm.Cond.laysFinal "SpoonRowModel" "SpoonRowModel" "statusThen" "[I") ∈ lw_all := lw_g (lw_at lw_m8 210 rfl) rfl
theorem q1988 : (Jvm.Cond.soleField "SpoonRowModel" "statusThen") ∈ lw_all := lw_g (lw_at lw_m8 211 rfl) rfl
theorem q1989 : (Jvm.Cond.superclass "SpoonRowModel" "java/lang/Object") ∈ lw_all := lw_g (lw_at lw_m8 212 rfl) rfl
theorem q1991 : (Jvm.Cond.instanceMethod ({ cls := "SpoonRowModel", name := "thrown", desc := "()I" } : Jvm.MethodName)) ∈ lw_all := lw_g (lw_at lw_m8 214 rfl) rfl
theorem q1992 : (Jvm.Cond.selects "SpoonRowModel" ({ cls := "SpoonRowModel", name := "thrown", desc := "()I" } : Jvm.MethodName) ({ cls := "SpoonRowModel", name := "thrown", desc := "()I" } : Jvm.MethodName)) ∈ lw_all := lw_g (lw_at lw_m8 215 rfl) rfl
theorem q1993 : (Jvm.Cond.code ({ cls := "SpoonRowModel", name := "thrown", desc := "()I" } : Jvm.MethodName) prog_21_method_2_code (1 : Nat) (Option.some Jvm.ClassFile.FieldType.int)) ∈ lw_all := lw_g (lw_at lw_m8 216 rfl) rfl
theorem q1995 : (Jvm.Cond.instanceMethod ({ cls := "SpoonRowModel", name := "feed", desc := "(IIIII)I" } : Jvm.MethodName)) ∈ lw_all := lw_g (lw_at lw_m8 218 rfl) rfl
theorem q1996 : (Jvm.Cond.selects "SpoonRowModel" ({ cls := "SpoonRowModel", name := "feed", desc := "(IIIII)I" } : Jvm.MethodName) ({ cls := "SpoonRowModel", name := "feed", desc := "(IIIII)I" } : Jvm.MethodName)) ∈ lw_all := lw_g (lw_at lw_m8 219 rfl) rfl
theorem q1997 : (Jvm.Cond.code ({ cls := "SpoonRowModel", name := "feed", desc := "(IIIII)I" } : Jvm.MethodName) prog_21_method_6_code (8 : Nat) (Option.some Jvm.ClassFile.FieldType.int)) ∈ lw_all := lw_g (lw_at lw_m8 220 rfl) rfl
theorem q1999 : (Jvm.Cond.instanceMethod ({ cls := "SpoonRowModel", name := "bed", desc := "(I)I" } : Jvm.MethodName)) ∈ lw_all := lw_g (lw_at lw_m8 222 rfl) rfl
theorem q2000 : (Jvm.Cond.selects "SpoonRowModel" ({ cls := "SpoonRowModel", name := "bed", desc := "(I)I" } : Jvm.MethodName) ({ cls := "SpoonRowModel", name := "bed", desc := "(I)I" } : Jvm.MethodName)) ∈ lw_all := lw_g (lw_at lw_m8 223 rfl) rfl
theorem q2001 : (Jvm.Cond.code ({ cls := "SpoonRowModel", name := "bed", desc := "(I)I" } : Jvm.MethodName) prog_21_method_31_code (3 : Nat) (Option.some Jvm.ClassFile.FieldType.int)) ∈ lw_all := lw_g (lw_at lw_m8 224 rfl) rfl
theorem q2002 : (Jvm.Cond.methodLink "SpoonRowModel" (302 : Nat) ({ cls := "SpoonRowModel", name := "fail", desc := "(I)I" } : Jvm.MethodName)) ∈ lw_all := lw_g (lw_at lw_m8 225 rfl) rfl
theorem q2003 : (Jvm.Cond.privateMethod ({ cls := "SpoonRowModel", name := "fail", desc := "(I)I" } : Jvm.MethodName)) ∈ lw_tbl := lw_at lw_m8 226 rfl
theorem q2004 : (Jvm.Cond.instanceMethod ({ cls := "SpoonRowModel", name := "fail", desc := "(I)I" } : Jvm.MethodName)) ∈ lw_all := lw_g (lw_at lw_m8 227 rfl) rfl
theorem q2005 : (Jvm.Cond.code ({ cls := "SpoonRowModel", name := "fail", desc := "(I)I" } : Jvm.MethodName) prog_21_method_3_code (2 : Nat) (Option.some Jvm.ClassFile.FieldType.int)) ∈ lw_all := lw_g (lw_at lw_m8 228 rfl) rfl
theorem q2006 : (Jvm.Cond.methodLink "SpoonRowModel" (233 : Nat) ({ cls := "SpoonRowModel", name := "stepOn", desc := "()V" } : Jvm.MethodName)) ∈ lw_all := lw_g (lw_at lw_m8 229 rfl) rfl
theorem q2007 : (Jvm.Cond.privateMethod ({ cls := "SpoonRowModel", name := "stepOn", desc := "()V" } : Jvm.MethodName)) ∈ lw_tbl := lw_at lw_m8 230 rfl
theorem q2008 : (Jvm.Cond.instanceMethod ({ cls := "SpoonRowModel", name := "stepOn", desc := "()V" } : Jvm.MethodName)) ∈ lw_all := lw_g (lw_at lw_m8 231 rfl) rfl
theorem q2009 : (Jvm.Cond.code ({ cls := "SpoonRowModel", name := "stepOn", desc := "()V" } : Jvm.MethodName) prog_21_method_11_code (2 : Nat) (Option.none : Option Jvm.ClassFile.FieldType)) ∈ lw_all := lw_g (lw_at lw_m8 232 rfl) rfl
theorem q2010 : (Jvm.Cond.methodLink "SpoonRowModel" (175 : Nat) ({ cls := "SpoonRowModel", name := "byteAt", desc := "(I)I" } : Jvm.MethodName)) ∈ lw_all := lw_g (lw_at lw_m8 233 rfl) rfl
theorem q2011 : (Jvm.Cond.privateMethod ({ cls := "SpoonRowModel", name := "byteAt", desc := "(I)I" } : Jvm.MethodName)) ∈ lw_tbl := lw_at lw_m8 234 rfl
theorem q2012 : (Jvm.Cond.instanceMethod ({ cls := "SpoonRowModel", name := "byteAt", desc := "(I)I" } : Jvm.MethodName)) ∈ lw_all := lw_g (lw_at lw_m8 235 rfl) rfl
theorem q2013 : (Jvm.Cond.code ({ cls := "SpoonRowModel", name := "byteAt", desc := "(I)I" } : Jvm.MethodName) prog_21_method_7_code (2 : Nat) (Option.some Jvm.ClassFile.FieldType.int)) ∈ lw_all := lw_g (lw_at lw_m8 236 rfl) rfl
theorem q2014 : (Jvm.Cond.methodLink "SpoonRowModel" (185 : Nat) ({ cls := "SpoonRowModel", name := "isLetter", desc := "(I)Z" } : Jvm.MethodName)) ∈ lw_all := lw_g (lw_at lw_m8 237 rfl) rfl
theorem q2015 : (Jvm.Cond.static ({ cls := "SpoonRowModel", name := "isLetter", desc := "(I)Z" } : Jvm.MethodName)) ∈ lw_all := lw_g (lw_at lw_m8 238 rfl) rfl
theorem q2016 : (Jvm.Cond.code ({ cls := "SpoonRowModel", name := "isLetter", desc := "(I)Z" } : Jvm.MethodName) prog_21_method_8_code (1 : Nat) (Option.some Jvm.ClassFile.FieldType.boolean)) ∈ lw_all := lw_g (lw_at lw_m8 239 rfl) rfl
theorem q2017 : (Jvm.Cond.methodLink "SpoonRowModel" (189 : Nat) ({ cls := "SpoonRowModel", name := "isDigit", desc := "(I)Z" } : Jvm.MethodName)) ∈ lw_all := lw_g (lw_at lw_m9 0 rfl) rfl
theorem q2018 : (Jvm.Cond.static ({ cls := "SpoonRowModel", name := "isDigit", desc := "(I)Z" } : Jvm.MethodName)) ∈ lw_all := lw_g (lw_at lw_m9 1 rfl) rfl
theorem q2019 : (Jvm.Cond.code ({ cls := "SpoonRowModel", name := "isDigit", desc := "(I)Z" } : Jvm.MethodName) prog_21_method_9_code (1 : Nat) (Option.some Jvm.ClassFile.FieldType.boolean)) ∈ lw_all := lw_g (lw_at lw_m9 2 rfl) rfl
theorem q2020 : (Jvm.Cond.constant "SpoonRowModel" (195 : Nat) (100000 : Int32)) ∈ lw_all := lw_g (lw_at lw_m9 3 rfl) rfl
theorem q2021 : (Jvm.Cond.methodLink "SpoonRowModel" (196 : Nat) ({ cls := "java/lang/Math", name := "min", desc := "(II)I" } : Jvm.MethodName)) ∈ lw_all := lw_g (lw_at lw_m9 4 rfl) rfl
theorem q2022 : (Jvm.Cond.methodLink "SpoonRowModel" (202 : Nat) ({ cls := "SpoonRowModel", name := "isMark", desc := "(I)Z" } : Jvm.MethodName)) ∈ lw_all := lw_g (lw_at lw_m9 5 rfl) rfl
theorem q2023 : (Jvm.Cond.static ({ cls := "SpoonRowModel", name := "isMark", desc := "(I)Z" } : Jvm.MethodName)) ∈ lw_all := lw_g (lw_at lw_m9 6 rfl) rfl
theorem q2024 : (Jvm.Cond.code ({ cls := "SpoonRowModel", name := "isMark", desc := "(I)Z" } : Jvm.MethodName) prog_21_method_10_code (1 : Nat) (Option.some Jvm.ClassFile.FieldType.boolean)) ∈ lw_all := lw_g (lw_at lw_m9 7 rfl) rfl
theorem q2025 : (Jvm.Cond.methodLink "SpoonRowModel" (305 : Nat) ({ cls := "SpoonRowModel", name := "readLine", desc := "(I)I" } : Jvm.MethodName)) ∈ lw_all := lw_g (lw_at lw_m9 8 rfl) rfl
theorem q2026 : (Jvm.Cond.privateMethod ({ cls := "SpoonRowModel", name := "readLine", desc := "(I)I" } : Jvm.MethodName)) ∈ lw_tbl := lw_at lw_m9 9 rfl
theorem q2027 : (Jvm.Cond.instanceMethod ({ cls := "SpoonRowModel", name := "readLine", desc := "(I)I" } : Jvm.MethodName)) ∈ lw_all := lw_g (lw_at lw_m9 10 rfl) rfl
theorem q2028 : (Jvm.Cond.code ({ cls := "SpoonRowModel", name := "readLine", desc := "(I)I" } : Jvm.MethodName) prog_21_method_30_code (4 : Nat) (Option.some Jvm.ClassFile.FieldType.int)) ∈ lw_all := lw_g (lw_at lw_m9 11 rfl) rfl
theorem q2029 : (Jvm.Cond.stringRef "SpoonRowModel" (279 : Nat) "bed") ∈ lw_tbl := lw_at lw_m9 12 rfl
theorem q2030 : (Jvm.Cond.methodLink "SpoonRowModel" (222 : Nat) ({ cls := "SpoonRowModel", name := "is", desc := "(Ljava/lang/String;)Z" } : Jvm.MethodName)) ∈ lw_all := lw_g (lw_at lw_m9 13 rfl) rfl
theorem q2031 : (Jvm.Cond.privateMethod ({ cls := "SpoonRowModel", name := "is", desc := "(Ljava/lang/String;)Z" } : Jvm.MethodName)) ∈ lw_tbl := lw_at lw_m9 14 rfl
theorem q2032 : (Jvm.Cond.instanceMethod ({ cls := "SpoonRowModel", name := "is", desc := "(Ljava/lang/String;)Z" } : Jvm.MethodName)) ∈ lw_all := lw_g (lw_at lw_m9 15 rfl) rfl
theorem q2033 : (Jvm.Cond.code ({ cls := "SpoonRowModel", name := "is", desc := "(Ljava/lang/String;)Z" } : Jvm.MethodName) prog_21_method_13_code (4 : Nat) (Option.some Jvm.ClassFile.FieldType.boolean)) ∈ lw_all := lw_g (lw_at lw_m9 16 rfl) rfl
theorem q2034 : (Jvm.Cond.methodLink "SpoonRowModel" (214 : Nat) ({ cls := "java/lang/String", name := "length", desc := "()I" } : Jvm.MethodName)) ∈ lw_all := lw_g (lw_at lw_m9 17 rfl) rfl
theorem q2035 : (Jvm.Cond.methodLink "SpoonRowModel" (218 : Nat) ({ cls := "java/lang/String", name := "charAt", desc := "(I)C" } : Jvm.MethodName)) ∈ lw_all := lw_g (lw_at lw_m9 18 rfl) rfl
theorem q2036 : (Jvm.Cond.stringRef "SpoonRowModel" (281 : Nat) "night") ∈ lw_tbl := lw_at lw_m9 19 rfl
theorem q2037 : (Jvm.Cond.stringRef "SpoonRowModel" (283 : Nat) "awake") ∈ lw_tbl := lw_at lw_m9 20 rfl
theorem q2038 : (Jvm.Cond.stringRef "SpoonRowModel" (285 : Nat) "wakes") ∈ lw_tbl := lw_at lw_m9 21 rfl
theorem q2039 : (Jvm.Cond.stringRef "SpoonRowModel" (287 : Nat) "dog") ∈ lw_tbl := lw_at lw_m9 22 rfl
theorem q2040 : (Jvm.Cond.methodLink "SpoonRowModel" (245 : Nat) ({ cls := "SpoonRowModel", name := "which", desc := "([Ljava/lang/String;)I" } : Jvm.MethodName)) ∈ lw_all := lw_g (lw_at lw_m9 23 rfl) rfl
theorem q2041 : (Jvm.Cond.privateMethod ({ cls := "SpoonRowModel", name := "which", desc := "([Ljava/lang/String;)I" } : Jvm.MethodName)) ∈ lw_tbl := lw_at lw_m9 24 rfl
theorem q2042 : (Jvm.Cond.instanceMethod ({ cls := "SpoonRowModel", name := "which", desc := "([Ljava/lang/String;)I" } : Jvm.MethodName)) ∈ lw_all := lw_g (lw_at lw_m9 25 rfl) rfl
theorem q2043 : (Jvm.Cond.code ({ cls := "SpoonRowModel", name := "which", desc := "([Ljava/lang/String;)I" } : Jvm.MethodName) prog_21_method_14_code (3 : Nat) (Option.some Jvm.ClassFile.FieldType.int)) ∈ lw_all := lw_g (lw_at lw_m9 26 rfl) rfl
theorem q2044 : (Jvm.Cond.methodLink "SpoonRowModel" (229 : Nat) ({ cls := "SpoonRowModel", name := "wrong", desc := "(I)V" } : Jvm.MethodName)) ∈ lw_all := lw_g (lw_at lw_m9 27 rfl) rfl
theorem q2045 : (Jvm.Cond.privateMethod ({ cls := "SpoonRowModel", name := "wrong", desc := "(I)V" } : Jvm.MethodName)) ∈ lw_tbl := lw_at lw_m9 28 rfl
theorem q2046 : (Jvm.Cond.instanceMethod ({ cls := "SpoonRowModel", name := "wrong", desc := "(I)V" } : Jvm.MethodName)) ∈ lw_all := lw_g (lw_at lw_m9 29 rfl) rfl
theorem q2047 : (Jvm.Cond.code ({ cls := "SpoonRowModel", name := "wrong", desc := "(I)V" } : Jvm.MethodName) prog_21_method_12_code (2 : Nat) (Option.none : Option Jvm.ClassFile.FieldType)) ∈ lw_all := lw_g (lw_at lw_m9 30 rfl) rfl
theorem q2048 : (Jvm.Cond.methodLink "SpoonRowModel" (239 : Nat) ({ cls := "SpoonRowModel", name := "readNumber", desc := "(II)I" } : Jvm.MethodName)) ∈ lw_all := lw_g (lw_at lw_m9 31 rfl) rfl
theorem q2049 : (Jvm.Cond.privateMethod ({ cls := "SpoonRowModel", name := "readNumber", desc := "(II)I" } : Jvm.MethodName)) ∈ lw_tbl := lw_at lw_m9 32 rfl
theorem q2050 : (Jvm.Cond.instanceMethod ({ cls := "SpoonRowModel", name := "readNumber", desc := "(II)I" } : Jvm.MethodName)) ∈ lw_all := lw_g (lw_at lw_m9 33 rfl) rfl
theorem q2051 : (Jvm.Cond.code ({ cls := "SpoonRowModel", name := "readNumber", desc := "(II)I" } : Jvm.MethodName) prog_21_method_18_code (4 : Nat) (Option.some Jvm.ClassFile.FieldType.int)) ∈ lw_all := lw_g (lw_at lw_m9 34 rfl) rfl
theorem q2052 : (Jvm.Cond.methodLink "SpoonRowModel" (236 : Nat) ({ cls := "SpoonRowModel", name := "numberNow", desc := "(II)I" } : Jvm.MethodName)) ∈ lw_all := lw_g (lw_at lw_m9 35 rfl) rfl
theorem q2053 : (Jvm.Cond.privateMethod ({ cls := "SpoonRowModel", name := "numberNow", desc := "(II)I" } : Jvm.MethodName)) ∈ lw_tbl := lw_at lw_m9 36 rfl
theorem q2054 : (Jvm.Cond.instanceMethod ({ cls := "SpoonRowModel", name := "numberNow", desc := "(II)I" } : Jvm.MethodName)) ∈ lw_all := lw_g (lw_at lw_m9 37 rfl) rfl
theorem q2055 : (Jvm.Cond.code ({ cls := "SpoonRowModel", name := "numberNow", desc := "(II)I" } : Jvm.MethodName) prog_21_method_17_code (3 : Nat) (Option.some Jvm.ClassFile.FieldType.int)) ∈ lw_all := lw_g (lw_at lw_m9 38 rfl) rfl
theorem q2056 : (Jvm.Cond.methodLink "SpoonRowModel" (252 : Nat) ({ cls := "SpoonRowModel", name := "readExpression", desc := "(I)V" } : Jvm.MethodName)) ∈ lw_all := lw_g (lw_at lw_m9 39 rfl) rfl
theorem q2057 : (Jvm.Cond.privateMethod ({ cls := "SpoonRowModel", name := "readExpression", desc := "(I)V" } : Jvm.MethodName)) ∈ lw_tbl := lw_at lw_m9 40 rfl
theorem q2058 : (Jvm.Cond.instanceMethod ({ cls := "SpoonRowModel", name := "readExpression", desc := "(I)V" } : Jvm.MethodName)) ∈ lw_all := lw_g (lw_at lw_m9 41 rfl) rfl
theorem q2059 : (Jvm.Cond.code ({ cls := "SpoonRowModel", name := "readExpression", desc := "(I)V" } : Jvm.MethodName) prog_21_method_26_code (3 : Nat) (Option.none : Option Jvm.ClassFile.FieldType)) ∈ lw_all := lw_g (lw_at lw_m9 42 rfl) rfl
theorem q2060 : (Jvm.Cond.methodLink "SpoonRowModel" (226 : Nat) ({ cls := "SpoonRowModel", name := "isMarked", desc := "(I)Z" } : Jvm.MethodName)) ∈ lw_all := lw_g (lw_at lw_m9 43 rfl) rfl
theorem q2061 : (Jvm.Cond.privateMethod ({ cls := "SpoonRowModel", name := "isMarked", desc := "(I)Z" } : Jvm.MethodName)) ∈ lw_tbl := lw_at lw_m9 44 rfl
theorem q2062 : (Jvm.Cond.instanceMethod ({ cls := "SpoonRowModel", name := "isMarked", desc := "(I)Z" } : Jvm.MethodName)) ∈ lw_all := lw_g (lw_at lw_m9 45 rfl) rfl
theorem q2063 : (Jvm.Cond.code ({ cls := "SpoonRowModel", name := "isMarked", desc := "(I)Z" } : Jvm.MethodName) prog_21_method_15_code (2 : Nat) (Option.some Jvm.ClassFile.FieldType.boolean)) ∈ lw_all := lw_g (lw_at lw_m9 46 rfl) rfl
theorem q2064 : (Jvm.Cond.methodLink "SpoonRowModel" (271 : Nat) ({ cls := "SpoonRowModel", name := "readAnd", desc := "(I)V" } : Jvm.MethodName)) ∈ lw_all := lw_g (lw_at lw_m9 47 rfl) rfl
theorem q2065 : (Jvm.Cond.privateMethod ({ cls := "SpoonRowModel", name := "readAnd", desc := "(I)V" } : Jvm.MethodName)) ∈ lw_tbl := lw_at lw_m9 48 rfl
theorem q2066 : (Jvm.Cond.instanceMethod ({ cls := "SpoonRowModel", name := "readAnd", desc := "(I)V" } : Jvm.MethodName)) ∈ lw_all := lw_g (lw_at lw_m9 49 rfl) rfl
theorem q2067 : (Jvm.Cond.code ({ cls := "SpoonRowModel", name := "readAnd", desc := "(I)V" } : Jvm.MethodName) prog_21_method_25_code (2 : Nat) (Option.none : Option Jvm.ClassFile.FieldType)) ∈ lw_all := lw_g (lw_at lw_m9 50 rfl) rfl
theorem q2068 : (Jvm.Cond.methodLink "SpoonRowModel" (266 : Nat) ({ cls := "SpoonRowModel", name := "readNot", desc := "(I)V" } : Jvm.MethodName)) ∈ lw_all := lw_g (lw_at lw_m9 51 rfl) rfl
theorem q2069 : (Jvm.Cond.privateMethod ({ cls := "SpoonRowModel", name := "readNot", desc := "(I)V" } : Jvm.MethodName)) ∈ lw_tbl := lw_at lw_m9 52 rfl
theorem q2070 : (Jvm.Cond.instanceMethod ({ cls := "SpoonRowModel", name := "readNot", desc := "(I)V" } : Jvm.MethodName)) ∈ lw_all := lw_g (lw_at lw_m9 53 rfl) rfl
theorem q2071 : (Jvm.Cond.code ({ cls := "SpoonRowModel", name := "readNot", desc := "(I)V" } : Jvm.MethodName) prog_21_method_24_code (4 : Nat) (Option.none : Option Jvm.ClassFile.FieldType)) ∈ lw_all := lw_g (lw_at lw_m9 54 rfl) rfl
theorem q2072 : (Jvm.Cond.stringRef "SpoonRowModel" (261 : Nat) "not") ∈ lw_tbl := lw_at lw_m9 55 rfl
theorem q2073 : (Jvm.Cond.methodLink "SpoonRowModel" (263 : Nat) ({ cls := "SpoonRowModel", name := "readSum", desc := "(I)V" } : Jvm.MethodName)) ∈ lw_all := lw_g (lw_at lw_m9 56 rfl) rfl
theorem q2074 : (Jvm.Cond.privateMethod ({ cls := "SpoonRowModel", name := "readSum", desc := "(I)V" } : Jvm.MethodName)) ∈ lw_tbl := lw_at lw_m9 57 rfl
theorem q2075 : (Jvm.Cond.instanceMethod ({ cls := "SpoonRowModel", name := "readSum", desc := "(I)V" } : Jvm.MethodName)) ∈ lw_all := lw_g (lw_at lw_m9 58 rfl) rfl
theorem q2076 : (Jvm.Cond.code ({ cls := "SpoonRowModel", name := "readSum", desc := "(I)V" } : Jvm.MethodName) prog_21_method_23_code (3 : Nat) (Option.none : Option Jvm.ClassFile.FieldType)) ∈ lw_all := lw_g (lw_at lw_m9 59 rfl) rfl
theorem q2077 : (Jvm.Cond.methodLink "SpoonRowModel" (258 : Nat) ({ cls := "SpoonRowModel", name := "readProduct", desc := "(I)V" } : Jvm.MethodName)) ∈ lw_all := lw_g (lw_at lw_m9 60 rfl) rfl
theorem q2078 : (Jvm.Cond.privateMethod ({ cls := "SpoonRowModel", name := "readProduct", desc := "(I)V" } : Jvm.MethodName)) ∈ lw_tbl := lw_at lw_m9 61 rfl
theorem q2079 : (Jvm.Cond.instanceMethod ({ cls := "SpoonRowModel", name := "readProduct", desc := "(I)V" } : Jvm.MethodName)) ∈ lw_all := lw_g (lw_at lw_m9 62 rfl) rfl
theorem q2080 : (Jvm.Cond.code ({ cls := "SpoonRowModel", name := "readProduct", desc := "(I)V" } : Jvm.MethodName) prog_21_method_22_code (3 : Nat) (Option.none : Option Jvm.ClassFile.FieldType)) ∈ lw_all := lw_g (lw_at lw_m9 63 rfl) rfl
theorem q2081 : (Jvm.Cond.methodLink "SpoonRowModel" (255 : Nat) ({ cls := "SpoonRowModel", name := "readPart", desc := "(I)V" } : Jvm.MethodName)) ∈ lw_all := lw_g (lw_at lw_m9 64 rfl) rfl
theorem q2082 : (Jvm.Cond.privateMethod ({ cls := "SpoonRowModel", name := "readPart", desc := "(I)V" } : Jvm.MethodName)) ∈ lw_tbl := lw_at lw_m9 65 rfl
theorem q2083 : (Jvm.Cond.instanceMethod ({ cls := "SpoonRowModel", name := "readPart", desc := "(I)V" } : Jvm.MethodName)) ∈ lw_all := lw_g (lw_at lw_m9 66 rfl) rfl
theorem q2084 : (Jvm.Cond.code ({ cls := "SpoonRowModel", name := "readPart", desc := "(I)V" } : Jvm.MethodName) prog_21_method_21_code (3 : Nat) (Option.none : Option Jvm.ClassFile.FieldType)) ∈ lw_all := lw_g (lw_at lw_m9 67 rfl) rfl
theorem q2085 : (Jvm.Cond.methodLink "SpoonRowModel" (242 : Nat) ({ cls := "SpoonRowModel", name := "lay", desc := "(I)V" } : Jvm.MethodName)) ∈ lw_all := lw_g (lw_at lw_m9 68 rfl) rfl
theorem q2086 : (Jvm.Cond.privateMethod ({ cls := "SpoonRowModel", name := "lay", desc := "(I)V" } : Jvm.MethodName)) ∈ lw_tbl := lw_at lw_m9 69 rfl
theorem q2087 : (Jvm.Cond.instanceMethod ({ cls := "SpoonRowModel", name := "lay", desc := "(I)V" } : Jvm.MethodName)) ∈ lw_all := lw_g (lw_at lw_m9 70 rfl) rfl
theorem q2088 : (Jvm.Cond.code ({ cls := "SpoonRowModel", name := "lay", desc := "(I)V" } : Jvm.MethodName) prog_21_method_20_code (2 : Nat) (Option.none : Option Jvm.ClassFile.FieldType)) ∈ lw_all := lw_g (lw_at lw_m9 71 rfl) rfl
theorem q2089 : (Jvm.Cond.methodLink "SpoonRowModel" (249 : Nat) ({ cls := "SpoonRowModel", name := "mark", desc := "(I)V" } : Jvm.MethodName)) ∈ lw_all := lw_g (lw_at lw_m9 72 rfl) rfl
theorem q2090 : (Jvm.Cond.privateMethod ({ cls := "SpoonRowModel", name := "mark", desc := "(I)V" } : Jvm.MethodName)) ∈ lw_tbl := lw_at lw_m9 73 rfl
theorem q2091 : (Jvm.Cond.instanceMethod ({ cls := "SpoonRowModel", name := "mark", desc := "(I)V" } : Jvm.MethodName)) ∈ lw_all := lw_g (lw_at lw_m9 74 rfl) rfl
theorem q2092 : (Jvm.Cond.code ({ cls := "SpoonRowModel", name := "mark", desc := "(I)V" } : Jvm.MethodName) prog_21_method_16_code (2 : Nat) (Option.none : Option Jvm.ClassFile.FieldType)) ∈ lw_all := lw_g (lw_at lw_m9 75 rfl) rfl
theorem q2093 : (Jvm.Cond.stringRef "SpoonRowModel" (269 : Nat) "and") ∈ lw_tbl := lw_at lw_m9 76 rfl
theorem q2094 : (Jvm.Cond.stringRef "SpoonRowModel" (274 : Nat) "or") ∈ lw_tbl := lw_at lw_m9 77 rfl
theorem q2095 : (Jvm.Cond.methodLink "SpoonRowModel" (289 : Nat) ({ cls := "SpoonRowModel", name := "readSleeper", desc := "(I)V" } : Jvm.MethodName)) ∈ lw_all := lw_g (lw_at lw_m9 78 rfl) rfl
theorem q2096 : (Jvm.Cond.privateMethod ({ cls := "SpoonRowModel", name := "readSleeper", desc := "(I)V" } : Jvm.MethodName)) ∈ lw_tbl := lw_at lw_m9 79 rfl
theorem q2097 : (Jvm.Cond.instanceMethod ({ cls := "SpoonRowModel", name := "readSleeper", desc := "(I)V" } : Jvm.MethodName)) ∈ lw_all := lw_g (lw_at lw_m9 80 rfl) rfl
theorem q2098 : (Jvm.Cond.code ({ cls := "SpoonRowModel", name := "readSleeper", desc := "(I)V" } : Jvm.MethodName) prog_21_method_27_code (4 : Nat) (Option.none : Option Jvm.ClassFile.FieldType)) ∈ lw_all := lw_g (lw_at lw_m9 81 rfl) rfl
theorem q2099 : (Jvm.Cond.stringRef "SpoonRowModel" (292 : Nat) "bolster") ∈ lw_tbl := lw_at lw_m9 82 rfl
theorem q2100 : (Jvm.Cond.methodLink "SpoonRowModel" (294 : Nat) ({ cls := "SpoonRowModel", name := "readBolster", desc := "()V" } : Jvm.MethodName)) ∈ lw_all := lw_g (lw_at lw_m9 83 rfl) rfl
theorem q2101 : (Jvm.Cond.privateMethod ({ cls := "SpoonRowModel", name := "readBolster", desc := "()V" } : Jvm.MethodName)) ∈ lw_tbl := lw_at lw_m9 84 rfl
theorem q2102 : (Jvm.Cond.instanceMethod ({ cls := "SpoonRowModel", name := "readBolster", desc := "()V" } : Jvm.MethodName)) ∈ lw_all := lw_g (lw_at lw_m9 85 rfl) rfl
theorem q2103 : (Jvm.Cond.code ({ cls := "SpoonRowModel", name := "readBolster", desc := "()V" } : Jvm.MethodName) prog_21_method_29_code (2 : Nat) (Option.none : Option Jvm.ClassFile.FieldType)) ∈ lw_all := lw_g (lw_at lw_m9 86 rfl) rfl
theorem q2104 : (Jvm.Cond.stringRef "SpoonRowModel" (297 : Nat) "never") ∈ lw_tbl := lw_at lw_m9 87 rfl
theorem q2105 : (Jvm.Cond.methodLink "SpoonRowModel" (299 : Nat) ({ cls := "SpoonRowModel", name := "readNever", desc := "()V" } : Jvm.MethodName)) ∈ lw_all := lw_g (lw_at lw_m9 88 rfl) rfl
theorem q2106 : (Jvm.Cond.privateMethod ({ cls := "SpoonRowModel", name := "readNever", desc := "()V" } : Jvm.MethodName)) ∈ lw_tbl := lw_at lw_m9 89 rfl
theorem q2107 : (Jvm.Cond.instanceMethod ({ cls := "SpoonRowModel", name := "readNever", desc := "()V" } : Jvm.MethodName)) ∈ lw_all := lw_g (lw_at lw_m9 90 rfl) rfl
theorem q2108 : (Jvm.Cond.code ({ cls := "SpoonRowModel", name := "readNever", desc := "()V" } : Jvm.MethodName) prog_21_method_28_code (3 : Nat) (Option.none : Option Jvm.ClassFile.FieldType)) ∈ lw_all := lw_g (lw_at lw_m9 91 rfl) rfl
theorem q2109 : (Jvm.Cond.methodLink "SpoonRowModel" (276 : Nat) ({ cls := "SpoonRowModel", name := "sleeperNow", desc := "()I" } : Jvm.MethodName)) ∈ lw_all := lw_g (lw_at lw_m9 92 rfl) rfl
theorem q2110 : (Jvm.Cond.privateMethod ({ cls := "SpoonRowModel", name := "sleeperNow", desc := "()I" } : Jvm.MethodName)) ∈ lw_tbl := lw_at lw_m9 93 rfl
theorem q2111 : (Jvm.Cond.instanceMethod ({ cls := "SpoonRowModel", name := "sleeperNow", desc := "()I" } : Jvm.MethodName)) ∈ lw_all := lw_g (lw_at lw_m9 94 rfl) rfl
theorem q2112 : (Jvm.Cond.code ({ cls := "SpoonRowModel", name := "sleeperNow", desc := "()I" } : Jvm.MethodName) prog_21_method_19_code (2 : Nat) (Option.some Jvm.ClassFile.FieldType.int)) ∈ lw_all := lw_g (lw_at lw_m9 95 rfl) rfl
theorem q2113 : (Jvm.Cond.methodLink "SpoonRowModel" (308 : Nat) ({ cls := "SpoonRowModel", name := "takeOver", desc := "()V" } : Jvm.MethodName)) ∈ lw_all := lw_g (lw_at lw_m9 96 rfl) rfl
theorem q2114 : (Jvm.Cond.privateMethod ({ cls := "SpoonRowModel", name := "takeOver", desc := "()V" } : Jvm.MethodName)) ∈ lw_tbl := lw_at lw_m9 97 rfl
theorem q2115 : (Jvm.Cond.instanceMethod ({ cls := "SpoonRowModel", name := "takeOver", desc := "()V" } : Jvm.MethodName)) ∈ lw_all := lw_g (lw_at lw_m9 98 rfl) rfl
theorem q2116 : (Jvm.Cond.code ({ cls := "SpoonRowModel", name := "takeOver", desc := "()V" } : Jvm.MethodName) prog_21_method_33_code (2 : Nat) (Option.none : Option Jvm.ClassFile.FieldType)) ∈ lw_all := lw_g (lw_at lw_m9 99 rfl) rfl
theorem q2117 : (Jvm.Cond.methodLink "SpoonRowModel" (311 : Nat) ({ cls := "SpoonRowModel", name := "takeHalf", desc := "([I)V" } : Jvm.MethodName)) ∈ lw_all := lw_g (lw_at lw_m9 100 rfl) rfl
theorem q2118 : (Jvm.Cond.static ({ cls := "SpoonRowModel", name := "takeHalf", desc := "([I)V" } : Jvm.MethodName)) ∈ lw_all := lw_g (lw_at lw_m9 101 rfl) rfl
theorem q2119 : (Jvm.Cond.code ({ cls := "SpoonRowModel", name := "takeHalf", desc := "([I)V" } : Jvm.MethodName) prog_21_method_32_code (2 : Nat) (Option.none : Option Jvm.ClassFile.FieldType)) ∈ lw_all := lw_g (lw_at lw_m9 102 rfl) rfl
theorem q2121 : (Jvm.Cond.instanceMethod ({ cls := "SpoonRowModel", name := "fault", desc := "()I" } : Jvm.MethodName)) ∈ lw_all := lw_g (lw_at lw_m9 104 rfl) rfl
theorem q2122 : (Jvm.Cond.selects "SpoonRowModel" ({ cls := "SpoonRowModel", name := "fault", desc := "()I" } : Jvm.MethodName) ({ cls := "SpoonRowModel", name := "fault", desc := "()I" } : Jvm.MethodName)) ∈ lw_all := lw_g (lw_at lw_m9 105 rfl) rfl
theorem q2123 : (Jvm.Cond.code ({ cls := "SpoonRowModel", name := "fault", desc := "()I" } : Jvm.MethodName) prog_21_method_34_code (1 : Nat) (Option.some Jvm.ClassFile.FieldType.int)) ∈ lw_all := lw_g (lw_at lw_m9 106 rfl) rfl
theorem q2125 : (Jvm.Cond.instanceMethod ({ cls := "SpoonRowModel", name := "count", desc := "(I)I" } : Jvm.MethodName)) ∈ lw_all := lw_g (lw_at lw_m9 108 rfl) rfl
theorem q2126 : (Jvm.Cond.selects "SpoonRowModel" ({ cls := "SpoonRowModel", name := "count", desc := "(I)I" } : Jvm.MethodName) ({ cls := "SpoonRowModel", name := "count", desc := "(I)I" } : Jvm.MethodName)) ∈ lw_all := lw_g (lw_at lw_m9 109 rfl) rfl
theorem q2127 : (Jvm.Cond.code ({ cls := "SpoonRowModel", name := "count", desc := "(I)I" } : Jvm.MethodName) prog_21_method_55_code (2 : Nat) (Option.some Jvm.ClassFile.FieldType.int)) ∈ lw_all := lw_g (lw_at lw_m9 110 rfl) rfl
theorem q2128 : (Jvm.Cond.methodLink "SpoonRowModel" (413 : Nat) ({ cls := "SpoonRowModel", name := "set", desc := "()V" } : Jvm.MethodName)) ∈ lw_all := lw_g (lw_at lw_m9 111 rfl) rfl
theorem q2129 : (Jvm.Cond.privateMethod ({ cls := "SpoonRowModel", name := "set", desc := "()V" } : Jvm.MethodName)) ∈ lw_tbl := lw_at lw_m9 112 rfl
theorem q2130 : (Jvm.Cond.instanceMethod ({ cls := "SpoonRowModel", name := "set", desc := "()V" } : Jvm.MethodName)) ∈ lw_all := lw_g (lw_at lw_m9 113 rfl) rfl
theorem q2131 : (Jvm.Cond.code ({ cls := "SpoonRowModel", name := "set", desc := "()V" } : Jvm.MethodName) prog_21_method_39_code (2 : Nat) (Option.none : Option Jvm.ClassFile.FieldType)) ∈ lw_all := lw_g (lw_at lw_m9 114 rfl) rfl
theorem q2132 : (Jvm.Cond.methodLink "SpoonRowModel" (353 : Nat) ({ cls := "SpoonRowModel", name := "tellFree", desc := "()V" } : Jvm.MethodName)) ∈ lw_all := lw_g (lw_at lw_m9 115 rfl) rfl
theorem q2133 : (Jvm.Cond.privateMethod ({ cls := "SpoonRowModel", name := "tellFree", desc := "()V" } : Jvm.MethodName)) ∈ lw_tbl := lw_at lw_m9 116 rfl
theorem q2134 : (Jvm.Cond.instanceMethod ({ cls := "SpoonRowModel", name := "tellFree", desc := "()V" } : Jvm.MethodName)) ∈ lw_all := lw_g (lw_at lw_m9 117 rfl) rfl
theorem q2135 : (Jvm.Cond.code ({ cls := "SpoonRowModel", name := "tellFree", desc := "()V" } : Jvm.MethodName) prog_21_method_40_code (3 : Nat) (Option.none : Option Jvm.ClassFile.FieldType)) ∈ lw_all := lw_g (lw_at lw_m9 118 rfl) rfl
theorem q2137 : (Jvm.Cond.instanceMethod ({ cls := "SpoonRowModel", name := "sleeper", desc := "(II)I" } : Jvm.MethodName)) ∈ lw_all := lw_g (lw_at lw_m9 120 rfl) rfl
theorem q2138 : (Jvm.Cond.selects "SpoonRowModel" ({ cls := "SpoonRowModel", name := "sleeper", desc := "(II)I" } : Jvm.MethodName) ({ cls := "SpoonRowModel", name := "sleeper", desc := "(II)I" } : Jvm.MethodName)) ∈ lw_all := lw_g (lw_at lw_m9 121 rfl) rfl
theorem q2139 : (Jvm.Cond.code ({ cls := "SpoonRowModel", name := "sleeper", desc := "(II)I" } : Jvm.MethodName) prog_21_method_56_code (3 : Nat) (Option.some Jvm.ClassFile.FieldType.int)) ∈ lw_all := lw_g (lw_at lw_m9 122 rfl) rfl
theorem q2140 : (Jvm.Cond.methodLink "SpoonRowModel" (420 : Nat) ({ cls := "SpoonRowModel", name := "isSleeper", desc := "(I)Z" } : Jvm.MethodName)) ∈ lw_all := lw_g (lw_at lw_m9 123 rfl) rfl
theorem q2141 : (Jvm.Cond.privateMethod ({ cls := "SpoonRowModel", name := "isSleeper", desc := "(I)Z" } : Jvm.MethodName)) ∈ lw_tbl := lw_at lw_m9 124 rfl
theorem q2142 : (Jvm.Cond.instanceMethod ({ cls := "SpoonRowModel", name := "isSleeper", desc := "(I)Z" } : Jvm.MethodName)) ∈ lw_all := lw_g (lw_at lw_m9 125 rfl) rfl
theorem q2143 : (Jvm.Cond.code ({ cls := "SpoonRowModel", name := "isSleeper", desc := "(I)Z" } : Jvm.MethodName) prog_21_method_5_code (2 : Nat) (Option.some Jvm.ClassFile.FieldType.boolean)) ∈ lw_all := lw_g (lw_at lw_m9 126 rfl) rfl
theorem q2144 : (Jvm.Cond.methodLink "SpoonRowModel" (162 : Nat) ({ cls := "SpoonRowModel", name := "isIn", desc := "(JJJ)Z" } : Jvm.MethodName)) ∈ lw_all := lw_g (lw_at lw_m9 127 rfl) rfl
theorem q2145 : (Jvm.Cond.static ({ cls := "SpoonRowModel", name := "isIn", desc := "(JJJ)Z" } : Jvm.MethodName)) ∈ lw_all := lw_g (lw_at lw_m9 128 rfl) rfl
theorem q2146 : (Jvm.Cond.code ({ cls := "SpoonRowModel", name := "isIn", desc := "(JJJ)Z" } : Jvm.MethodName) prog_21_method_4_code (6 : Nat) (Option.some Jvm.ClassFile.FieldType.boolean)) ∈ lw_all := lw_g (lw_at lw_m9 129 rfl) rfl
theorem q2147 : (Jvm.Cond.methodLink "SpoonRowModel" (394 : Nat) ({ cls := "SpoonRowModel", name := "placeOf", desc := "(I)I" } : Jvm.MethodName)) ∈ lw_all := lw_g (lw_at lw_m9 130 rfl) rfl
theorem q2148 : (Jvm.Cond.privateMethod ({ cls := "SpoonRowModel", name := "placeOf", desc := "(I)I" } : Jvm.MethodName)) ∈ lw_tbl := lw_at lw_m9 131 rfl
theorem q2149 : (Jvm.Cond.instanceMethod ({ cls := "SpoonRowModel", name := "placeOf", desc := "(I)I" } : Jvm.MethodName)) ∈ lw_all := lw_g (lw_at lw_m9 132 rfl) rfl
theorem q2150 : (Jvm.Cond.code ({ cls := "SpoonRowModel", name := "placeOf", desc := "(I)I" } : Jvm.MethodName) prog_21_method_47_code (3 : Nat) (Option.some Jvm.ClassFile.FieldType.int)) ∈ lw_all := lw_g (lw_at lw_m9 133 rfl) rfl
theorem q2152 : (Jvm.Cond.instanceMethod ({ cls := "SpoonRowModel", name := "swap", desc := "(II)Z" } : Jvm.MethodName)) ∈ lw_all := lw_g (lw_at lw_m9 135 rfl) rfl
theorem q2153 : (Jvm.Cond.selects "SpoonRowModel" ({ cls := "SpoonRowModel", name := "swap", desc := "(II)Z" } : Jvm.MethodName) ({ cls := "SpoonRowModel", name := "swap", desc := "(II)Z" } : Jvm.MethodName)) ∈ lw_all := lw_g (lw_at lw_m9 136 rfl) rfl
theorem q2154 : (Jvm.Cond.code ({ cls := "SpoonRowModel", name := "swap", desc := "(II)Z" } : Jvm.MethodName) prog_21_method_59_code (4 : Nat) (Option.some Jvm.ClassFile.FieldType.boolean)) ∈ lw_all := lw_g (lw_at lw_m9 137 rfl) rfl
theorem q2155 : (Jvm.Cond.methodLink "SpoonRowModel" (427 : Nat) ({ cls := "SpoonRowModel", name := "keep", desc := "()V" } : Jvm.MethodName)) ∈ lw_all := lw_g (lw_at lw_m9 138 rfl) rfl
theorem q2156 : (Jvm.Cond.privateMethod ({ cls := "SpoonRowModel", name := "keep", desc := "()V" } : Jvm.MethodName)) ∈ lw_tbl := lw_at lw_m9 139 rfl
theorem q2157 : (Jvm.Cond.instanceMethod ({ cls := "SpoonRowModel", name := "keep", desc := "()V" } : Jvm.MethodName)) ∈ lw_all := lw_g (lw_at lw_m9 140 rfl) rfl
theorem q2158 : (Jvm.Cond.code ({ cls := "SpoonRowModel", name := "keep", desc := "()V" } : Jvm.MethodName) prog_21_method_58_code (2 : Nat) (Option.none : Option Jvm.ClassFile.FieldType)) ∈ lw_all := lw_g (lw_at lw_m9 141 rfl) rfl
theorem q2159 : (Jvm.Cond.methodLink "SpoonRowModel" (423 : Nat) ({ cls := "SpoonRowModel", name := "pack", desc := "([II)V" } : Jvm.MethodName)) ∈ lw_all := lw_g (lw_at lw_m9 142 rfl) rfl
theorem q2160 : (Jvm.Cond.privateMethod ({ cls := "SpoonRowModel", name := "pack", desc := "([II)V" } : Jvm.MethodName)) ∈ lw_tbl := lw_at lw_m9 143 rfl
theorem q2161 : (Jvm.Cond.instanceMethod ({ cls := "SpoonRowModel", name := "pack", desc := "([II)V" } : Jvm.MethodName)) ∈ lw_all := lw_g (lw_at lw_m9 144 rfl) rfl
theorem q2162 : (Jvm.Cond.code ({ cls := "SpoonRowModel", name := "pack", desc := "([II)V" } : Jvm.MethodName) prog_21_method_35_code (4 : Nat) (Option.none : Option Jvm.ClassFile.FieldType)) ∈ lw_all := lw_g (lw_at lw_m9 145 rfl) rfl
theorem q2164 : (Jvm.Cond.instanceMethod ({ cls := "SpoonRowModel", name := "side", desc := "(I)I" } : Jvm.MethodName)) ∈ lw_all := lw_g (lw_at lw_m9 147 rfl) rfl
theorem q2165 : (Jvm.Cond.selects "SpoonRowModel" ({ cls := "SpoonRowModel", name := "side", desc := "(I)I" } : Jvm.MethodName) ({ cls := "SpoonRowModel", name := "side", desc := "(I)I" } : Jvm.MethodName)) ∈ lw_all := lw_g (lw_at lw_m9 148 rfl) rfl
theorem q2166 : (Jvm.Cond.code ({ cls := "SpoonRowModel", name := "side", desc := "(I)I" } : Jvm.MethodName) prog_21_method_60_code (3 : Nat) (Option.some Jvm.ClassFile.FieldType.int)) ∈ lw_all := lw_g (lw_at lw_m9 149 rfl) rfl
theorem q2167 : (Jvm.Cond.methodLink "SpoonRowModel" (430 : Nat) ({ cls := "SpoonRowModel", name := "refuse", desc := "(I)I" } : Jvm.MethodName)) ∈ lw_all := lw_g (lw_at lw_m9 150 rfl) rfl
theorem q2168 : (Jvm.Cond.privateMethod ({ cls := "SpoonRowModel", name := "refuse", desc := "(I)I" } : Jvm.MethodName)) ∈ lw_tbl := lw_at lw_m9 151 rfl
theorem q2169 : (Jvm.Cond.instanceMethod ({ cls := "SpoonRowModel", name := "refuse", desc := "(I)I" } : Jvm.MethodName)) ∈ lw_all := lw_g (lw_at lw_m9 152 rfl) rfl
theorem q2170 : (Jvm.Cond.code ({ cls := "SpoonRowModel", name := "refuse", desc := "(I)I" } : Jvm.MethodName) prog_21_method_57_code (2 : Nat) (Option.some Jvm.ClassFile.FieldType.int)) ∈ lw_all := lw_g (lw_at lw_m9 153 rfl) rfl
theorem q2172 : (Jvm.Cond.instanceMethod ({ cls := "SpoonRowModel", name := "word", desc := "(II)I" } : Jvm.MethodName)) ∈ lw_all := lw_g (lw_at lw_m9 155 rfl) rfl
theorem q2173 : (Jvm.Cond.selects "SpoonRowModel" ({ cls := "SpoonRowModel", name := "word", desc := "(II)I" } : Jvm.MethodName) ({ cls := "SpoonRowModel", name := "word", desc := "(II)I" } : Jvm.MethodName)) ∈ lw_all := lw_g (lw_at lw_m9 156 rfl) rfl
theorem q2174 : (Jvm.Cond.code ({ cls := "SpoonRowModel", name := "word", desc := "(II)I" } : Jvm.MethodName) prog_21_method_61_code (4 : Nat) (Option.some Jvm.ClassFile.FieldType.int)) ∈ lw_all := lw_g (lw_at lw_m9 157 rfl) rfl
theorem q2175 : (Jvm.Cond.constantLong "SpoonRowModel" (433 : Nat) (240 : Int64)) ∈ lw_all := lw_g (lw_at lw_m9 158 rfl) rfl
theorem q2177 : (Jvm.Cond.instanceMethod ({ cls := "SpoonRowModel", name := "bolster", desc := "(IZ)Z" } : Jvm.MethodName)) ∈ lw_all := lw_g (lw_at lw_m9 160 rfl) rfl
theorem q2178 : (Jvm.Cond.selects "SpoonRowModel" ({ cls := "SpoonRowModel", name := "bolster", desc := "(IZ)Z" } : Jvm.MethodName) ({ cls := "SpoonRowModel", name := "bolster", desc := "(IZ)Z" } : Jvm.MethodName)) ∈ lw_all := lw_g (lw_at lw_m9 161 rfl) rfl
theorem q2179 : (Jvm.Cond.code ({ cls := "SpoonRowModel", name := "bolster", desc := "(IZ)Z" } : Jvm.MethodName) prog_21_method_62_code (3 : Nat) (Option.some Jvm.ClassFile.FieldType.boolean)) ∈ lw_all := lw_g (lw_at lw_m9 162 rfl) rfl
theorem q2180 : (Jvm.Cond.constantLong "SpoonRowModel" (435 : Nat) (6 : Int64)) ∈ lw_all := lw_g (lw_at lw_m9 163 rfl) rfl
theorem q2182 : (Jvm.Cond.instanceMethod ({ cls := "SpoonRowModel", name := "out", desc := "(II)I" } : Jvm.MethodName)) ∈ lw_all := lw_g (lw_at lw_m9 165 rfl) rfl
theorem q2183 : (Jvm.Cond.selects "SpoonRowModel" ({ cls := "SpoonRowModel", name := "out", desc := "(II)I" } : Jvm.MethodName) ({ cls := "SpoonRowModel", name := "out", desc := "(II)I" } : Jvm.MethodName)) ∈ lw_all := lw_g (lw_at lw_m9 166 rfl) rfl
theorem q2184 : (Jvm.Cond.code ({ cls := "SpoonRowModel", name := "out", desc := "(II)I" } : Jvm.MethodName) prog_21_method_63_code (4 : Nat) (Option.some Jvm.ClassFile.FieldType.int)) ∈ lw_all := lw_g (lw_at lw_m9 167 rfl) rfl
theorem q2185 : (Jvm.Cond.constantLong "SpoonRowModel" (437 : Nat) (600 : Int64)) ∈ lw_all := lw_g (lw_at lw_m9 168 rfl) rfl
theorem q2187 : (Jvm.Cond.instanceMethod ({ cls := "SpoonRowModel", name := "undo", desc := "()I" } : Jvm.MethodName)) ∈ lw_all := lw_g (lw_at lw_m9 170 rfl) rfl
theorem q2188 : (Jvm.Cond.selects "SpoonRowModel" ({ cls := "SpoonRowModel", name := "undo", desc := "()I" } : Jvm.MethodName) ({ cls := "SpoonRowModel", name := "undo", desc := "()I" } : Jvm.MethodName)) ∈ lw_all := lw_g (lw_at lw_m9 171 rfl) rfl
theorem q2189 : (Jvm.Cond.code ({ cls := "SpoonRowModel", name := "undo", desc := "()I" } : Jvm.MethodName) prog_21_method_64_code (1 : Nat) (Option.some Jvm.ClassFile.FieldType.int)) ∈ lw_all := lw_g (lw_at lw_m9 172 rfl) rfl
theorem q2190 : (Jvm.Cond.methodLink "SpoonRowModel" (439 : Nat) ({ cls := "SpoonRowModel", name := "unpack", desc := "([II)V" } : Jvm.MethodName)) ∈ lw_all := lw_g (lw_at lw_m9 173 rfl) rfl
theorem q2191 : (Jvm.Cond.privateMethod ({ cls := "SpoonRowModel", name := "unpack", desc := "([II)V" } : Jvm.MethodName)) ∈ lw_tbl := lw_at lw_m9 174 rfl
theorem q2192 : (Jvm.Cond.instanceMethod ({ cls := "SpoonRowModel", name := "unpack", desc := "([II)V" } : Jvm.MethodName)) ∈ lw_all := lw_g (lw_at lw_m9 175 rfl) rfl
theorem q2193 : (Jvm.Cond.code ({ cls := "SpoonRowModel", name := "unpack", desc := "([II)V" } : Jvm.MethodName) prog_21_method_36_code (4 : Nat) (Option.none : Option Jvm.ClassFile.FieldType)) ∈ lw_all := lw_g (lw_at lw_m9 176 rfl) rfl
theorem q2195 : (Jvm.Cond.instanceMethod ({ cls := "SpoonRowModel", name := "night", desc := "(I)I" } : Jvm.MethodName)) ∈ lw_all := lw_g (lw_at lw_m9 178 rfl) rfl
theorem q2196 : (Jvm.Cond.selects "SpoonRowModel" ({ cls := "SpoonRowModel", name := "night", desc := "(I)I" } : Jvm.MethodName) ({ cls := "SpoonRowModel", name := "night", desc := "(I)I" } : Jvm.MethodName)) ∈ lw_all := lw_g (lw_at lw_m9 179 rfl) rfl
theorem q2197 : (Jvm.Cond.code ({ cls := "SpoonRowModel", name := "night", desc := "(I)I" } : Jvm.MethodName) prog_21_method_66_code (2 : Nat) (Option.some Jvm.ClassFile.FieldType.int)) ∈ lw_all := lw_g (lw_at lw_m9 180 rfl) rfl
theorem q2198 : (Jvm.Cond.constantLong "SpoonRowModel" (442 : Nat) (3 : Int64)) ∈ lw_all := lw_g (lw_at lw_m9 181 rfl) rfl
theorem q2199 : (Jvm.Cond.methodLink "SpoonRowModel" (444 : Nat) ({ cls := "SpoonRowModel", name := "nightNow", desc := "()V" } : Jvm.MethodName)) ∈ lw_all := lw_g (lw_at lw_m9 182 rfl) rfl
theorem q2200 : (Jvm.Cond.privateMethod ({ cls := "SpoonRowModel", name := "nightNow", desc := "()V" } : Jvm.MethodName)) ∈ lw_tbl := lw_at lw_m9 183 rfl
theorem q2201 : (Jvm.Cond.instanceMethod ({ cls := "SpoonRowModel", name := "nightNow", desc := "()V" } : Jvm.MethodName)) ∈ lw_all := lw_g (lw_at lw_m9 184 rfl) rfl
theorem q2202 : (Jvm.Cond.code ({ cls := "SpoonRowModel", name := "nightNow", desc := "()V" } : Jvm.MethodName) prog_21_method_54_code (1 : Nat) (Option.none : Option Jvm.ClassFile.FieldType)) ∈ lw_all := lw_g (lw_at lw_m9 185 rfl) rfl
theorem q2203 : (Jvm.Cond.methodLink "SpoonRowModel" (416 : Nat) ({ cls := "SpoonRowModel", name := "go", desc := "(II)V" } : Jvm.MethodName)) ∈ lw_all := lw_g (lw_at lw_m9 186 rfl) rfl
theorem q2204 : (Jvm.Cond.privateMethod ({ cls := "SpoonRowModel", name := "go", desc := "(II)V" } : Jvm.MethodName)) ∈ lw_tbl := lw_at lw_m9 187 rfl
theorem q2205 : (Jvm.Cond.instanceMethod ({ cls := "SpoonRowModel", name := "go", desc := "(II)V" } : Jvm.MethodName)) ∈ lw_all := lw_g (lw_at lw_m9 188 rfl) rfl
theorem q2206 : (Jvm.Cond.code ({ cls := "SpoonRowModel", name := "go", desc := "(II)V" } : Jvm.MethodName) prog_21_method_52_code (3 : Nat) (Option.none : Option Jvm.ClassFile.FieldType)) ∈ lw_all := lw_g (lw_at lw_m9 189 rfl) rfl
theorem q2207 : (Jvm.Cond.methodLink "SpoonRowModel" (407 : Nat) ({ cls := "SpoonRowModel", name := "begin", desc := "(I)V" } : Jvm.MethodName)) ∈ lw_all := lw_g (lw_at lw_m9 190 rfl) rfl
theorem q2208 : (Jvm.Cond.privateMethod ({ cls := "SpoonRowModel", name := "begin", desc := "(I)V" } : Jvm.MethodName)) ∈ lw_tbl := lw_at lw_m9 191 rfl
theorem q2209 : (Jvm.Cond.instanceMethod ({ cls := "SpoonRowModel", name := "begin", desc := "(I)V" } : Jvm.MethodName)) ∈ lw_all := lw_g (lw_at lw_m9 192 rfl) rfl
theorem q2210 : (Jvm.Cond.code ({ cls := "SpoonRowModel", name := "begin", desc := "(I)V" } : Jvm.MethodName) prog_21_method_51_code (3 : Nat) (Option.none : Option Jvm.ClassFile.FieldType)) ∈ lw_all := lw_g (lw_at lw_m9 193 rfl) rfl
theorem q2211 : (Jvm.Cond.methodLink "SpoonRowModel" (410 : Nat) ({ cls := "SpoonRowModel", name := "minuteNow", desc := "()V" } : Jvm.MethodName)) ∈ lw_all := lw_g (lw_at lw_m9 194 rfl) rfl
theorem q2212 : (Jvm.Cond.privateMethod ({ cls := "SpoonRowModel", name := "minuteNow", desc := "()V" } : Jvm.MethodName)) ∈ lw_tbl := lw_at lw_m9 195 rfl
theorem q2213 : (Jvm.Cond.instanceMethod ({ cls := "SpoonRowModel", name := "minuteNow", desc := "()V" } : Jvm.MethodName)) ∈ lw_all := lw_g (lw_at lw_m9 196 rfl) rfl
theorem q2214 : (Jvm.Cond.code ({ cls := "SpoonRowModel", name := "minuteNow", desc := "()V" } : Jvm.MethodName) prog_21_method_50_code (4 : Nat) (Option.none : Option Jvm.ClassFile.FieldType)) ∈ lw_all := lw_g (lw_at lw_m9 197 rfl) rfl
theorem q2215 : (Jvm.Cond.methodLink "SpoonRowModel" (397 : Nat) ({ cls := "SpoonRowModel", name := "turnAll", desc := "(IIIZ)V" } : Jvm.MethodName)) ∈ lw_all := lw_g (lw_at lw_m9 198 rfl) rfl
theorem q2216 : (Jvm.Cond.privateMethod ({ cls := "SpoonRowModel", name := "turnAll", desc := "(IIIZ)V" } : Jvm.MethodName)) ∈ lw_tbl := lw_at lw_m9 199 rfl
theorem q2217 : (Jvm.Cond.instanceMethod ({ cls := "SpoonRowModel", name := "turnAll", desc := "(IIIZ)V" } : Jvm.MethodName)) ∈ lw_all := lw_g (lw_at lw_m9 200 rfl) rfl
theorem q2218 : (Jvm.Cond.code ({ cls := "SpoonRowModel", name := "turnAll", desc := "(IIIZ)V" } : Jvm.MethodName) prog_21_method_46_code (8 : Nat) (Option.none : Option Jvm.ClassFile.FieldType)) ∈ lw_all := lw_g (lw_at lw_m9 201 rfl) rfl
theorem q2219 : (Jvm.Cond.methodLink "SpoonRowModel" (373 : Nat) ({ cls := "SpoonRowModel", name := "isDeaf", desc := "(I)Z" } : Jvm.MethodName)) ∈ lw_all := lw_g (lw_at lw_m9 202 rfl) rfl
theorem q2220 : (Jvm.Cond.privateMethod ({ cls := "SpoonRowModel", name := "isDeaf", desc := "(I)Z" } : Jvm.MethodName)) ∈ lw_tbl := lw_at lw_m9 203 rfl
theorem q2221 : (Jvm.Cond.instanceMethod ({ cls := "SpoonRowModel", name := "isDeaf", desc := "(I)Z" } : Jvm.MethodName)) ∈ lw_all := lw_g (lw_at lw_m9 204 rfl) rfl
theorem q2222 : (Jvm.Cond.code ({ cls := "SpoonRowModel", name := "isDeaf", desc := "(I)Z" } : Jvm.MethodName) prog_21_method_45_code (2 : Nat) (Option.some Jvm.ClassFile.FieldType.boolean)) ∈ lw_all := lw_g (lw_at lw_m9 205 rfl) rfl
theorem q2223 : (Jvm.Cond.methodLink "SpoonRowModel" (376 : Nat) ({ cls := "SpoonRowModel", name := "isAwake", desc := "(I)Z" } : Jvm.MethodName)) ∈ lw_all := lw_g (lw_at lw_m9 206 rfl) rfl
theorem q2224 : (Jvm.Cond.privateMethod ({ cls := "SpoonRowModel", name := "isAwake", desc := "(I)Z" } : Jvm.MethodName)) ∈ lw_tbl := lw_at lw_m9 207 rfl
theorem q2225 : (Jvm.Cond.instanceMethod ({ cls := "SpoonRowModel", name := "isAwake", desc := "(I)Z" } : Jvm.MethodName)) ∈ lw_all := lw_g (lw_at lw_m9 208 rfl) rfl
theorem q2226 : (Jvm.Cond.code ({ cls := "SpoonRowModel", name := "isAwake", desc := "(I)Z" } : Jvm.MethodName) prog_21_method_41_code (2 : Nat) (Option.some Jvm.ClassFile.FieldType.boolean)) ∈ lw_all := lw_g (lw_at lw_m9 209 rfl) rfl
theorem q2227 : (Jvm.Cond.methodLink "SpoonRowModel" (379 : Nat) ({ cls := "SpoonRowModel", name := "wakes", desc := "(II)Z" } : Jvm.MethodName)) ∈ lw_all := lw_g (lw_at lw_m9 210 rfl) rfl
theorem q2228 : (Jvm.Cond.privateMethod ({ cls := "SpoonRowModel", name := "wakes", desc := "(II)Z" } : Jvm.MethodName)) ∈ lw_tbl := lw_at lw_m9 211 rfl
theorem q2229 : (Jvm.Cond.instanceMethod ({ cls := "SpoonRowModel", name := "wakes", desc := "(II)Z" } : Jvm.MethodName)) ∈ lw_all := lw_g (lw_at lw_m9 212 rfl) rfl
theorem q2230 : (Jvm.Cond.code ({ cls := "SpoonRowModel", name := "wakes", desc := "(II)Z" } : Jvm.MethodName) prog_21_method_43_code (5 : Nat) (Option.some Jvm.ClassFile.FieldType.boolean)) ∈ lw_all := lw_g (lw_at lw_m9 213 rfl) rfl
theorem q2231 : (Jvm.Cond.methodLink "SpoonRowModel" (362 : Nat) ({ cls := "java/lang/Math", name := "abs", desc := "(I)I" } : Jvm.MethodName)) ∈ lw_all := lw_g (lw_at lw_m9 214 rfl) rfl
theorem q2232 : (Jvm.Cond.methodLink "SpoonRowModel" (367 : Nat) ({ cls := "SpoonRowModel", name := "snorersBeside", desc := "(I)I" } : Jvm.MethodName)) ∈ lw_all := lw_g (lw_at lw_m9 215 rfl) rfl
theorem q2233 : (Jvm.Cond.privateMethod ({ cls := "SpoonRowModel", name := "snorersBeside", desc := "(I)I" } : Jvm.MethodName)) ∈ lw_tbl := lw_at lw_m9 216 rfl
theorem q2234 : (Jvm.Cond.instanceMethod ({ cls := "SpoonRowModel", name := "snorersBeside", desc := "(I)I" } : Jvm.MethodName)) ∈ lw_all := lw_g (lw_at lw_m9 217 rfl) rfl
theorem q2235 : (Jvm.Cond.code ({ cls := "SpoonRowModel", name := "snorersBeside", desc := "(I)I" } : Jvm.MethodName) prog_21_method_42_code (2 : Nat) (Option.some Jvm.ClassFile.FieldType.int)) ∈ lw_all := lw_g (lw_at lw_m9 218 rfl) rfl
theorem q2236 : (Jvm.Cond.methodLink "SpoonRowModel" (370 : Nat) ({ cls := "SpoonRowModel", name := "valueNow", desc := "()I" } : Jvm.MethodName)) ∈ lw_all := lw_g (lw_at lw_m9 219 rfl) rfl
theorem q2237 : (Jvm.Cond.privateMethod ({ cls := "SpoonRowModel", name := "valueNow", desc := "()I" } : Jvm.MethodName)) ∈ lw_tbl := lw_at lw_m9 220 rfl
theorem q2238 : (Jvm.Cond.instanceMethod ({ cls := "SpoonRowModel", name := "valueNow", desc := "()I" } : Jvm.MethodName)) ∈ lw_all := lw_g (lw_at lw_m9 221 rfl) rfl
theorem q2239 : (Jvm.Cond.code ({ cls := "SpoonRowModel", name := "valueNow", desc := "()I" } : Jvm.MethodName) prog_21_method_38_code (4 : Nat) (Option.some Jvm.ClassFile.FieldType.int)) ∈ lw_all := lw_g (lw_at lw_m9 222 rfl) rfl
theorem q2240 : (Jvm.Cond.methodLink "SpoonRowModel" (337 : Nat) ({ cls := "SpoonRowModel", name := "reckon", desc := "(III)I" } : Jvm.MethodName)) ∈ lw_all := lw_g (lw_at lw_m9 223 rfl) rfl
theorem q2241 : (Jvm.Cond.static ({ cls := "SpoonRowModel", name := "reckon", desc := "(III)I" } : Jvm.MethodName)) ∈ lw_all := lw_g (lw_at lw_m9 224 rfl) rfl
theorem q2242 : (Jvm.Cond.code ({ cls := "SpoonRowModel", name := "reckon", desc := "(III)I" } : Jvm.MethodName) prog_21_method_37_code (3 : Nat) (Option.some Jvm.ClassFile.FieldType.int)) ∈ lw_all := lw_g (lw_at lw_m9 225 rfl) rfl
theorem q2243 : (Jvm.Cond.methodLink "SpoonRowModel" (382 : Nat) ({ cls := "SpoonRowModel", name := "wake", desc := "(I)V" } : Jvm.MethodName)) ∈ lw_all := lw_g (lw_at lw_m9 226 rfl) rfl
theorem q2244 : (Jvm.Cond.privateMethod ({ cls := "SpoonRowModel", name := "wake", desc := "(I)V" } : Jvm.MethodName)) ∈ lw_tbl := lw_at lw_m9 227 rfl
theorem q2245 : (Jvm.Cond.instanceMethod ({ cls := "SpoonRowModel", name := "wake", desc := "(I)V" } : Jvm.MethodName)) ∈ lw_all := lw_g (lw_at lw_m9 228 rfl) rfl
theorem q2246 : (Jvm.Cond.code ({ cls := "SpoonRowModel", name := "wake", desc := "(I)V" } : Jvm.MethodName) prog_21_method_44_code (2 : Nat) (Option.none : Option Jvm.ClassFile.FieldType)) ∈ lw_all := lw_g (lw_at lw_m9 229 rfl) rfl
theorem q2247 : (Jvm.Cond.methodLink "SpoonRowModel" (391 : Nat) ({ cls := "java/lang/Math", name := "max", desc := "(II)I" } : Jvm.MethodName)) ∈ lw_all := lw_g (lw_at lw_m9 230 rfl) rfl
theorem q2248 : (Jvm.Cond.methodLink "SpoonRowModel" (401 : Nat) ({ cls := "SpoonRowModel", name := "groupEnd", desc := "(I)I" } : Jvm.MethodName)) ∈ lw_all := lw_g (lw_at lw_m9 231 rfl) rfl
theorem q2249 : (Jvm.Cond.privateMethod ({ cls := "SpoonRowModel", name := "groupEnd", desc := "(I)I" } : Jvm.MethodName)) ∈ lw_tbl := lw_at lw_m9 232 rfl
theorem q2250 : (Jvm.Cond.instanceMethod ({ cls := "SpoonRowModel", name := "groupEnd", desc := "(I)I" } : Jvm.MethodName)) ∈ lw_all := lw_g (lw_at lw_m9 233 rfl) rfl
theorem q2251 : (Jvm.Cond.code ({ cls := "SpoonRowModel", name := "groupEnd", desc := "(I)I" } : Jvm.MethodName) prog_21_method_49_code (3 : Nat) (Option.some Jvm.ClassFile.FieldType.int)) ∈ lw_all := lw_g (lw_at lw_m9 234 rfl) rfl
theorem q2252 : (Jvm.Cond.methodLink "SpoonRowModel" (404 : Nat) ({ cls := "SpoonRowModel", name := "hasEnough", desc := "(I)Z" } : Jvm.MethodName)) ∈ lw_all := lw_g (lw_at lw_m9 235 rfl) rfl
theorem q2253 : (Jvm.Cond.privateMethod ({ cls := "SpoonRowModel", name := "hasEnough", desc := "(I)Z" } : Jvm.MethodName)) ∈ lw_tbl := lw_at lw_m9 236 rfl
theorem q2254 : (Jvm.Cond.instanceMethod ({ cls := "SpoonRowModel", name := "hasEnough", desc := "(I)Z" } : Jvm.MethodName)) ∈ lw_all := lw_g (lw_at lw_m9 237 rfl) rfl
theorem q2255 : (Jvm.Cond.code ({ cls := "SpoonRowModel", name := "hasEnough", desc := "(I)Z" } : Jvm.MethodName) prog_21_method_48_code (2 : Nat) (Option.some Jvm.ClassFile.FieldType.boolean)) ∈ lw_all := lw_g (lw_at lw_m9 238 rfl) rfl
theorem q2256 : (Jvm.Cond.methodLink "SpoonRowModel" (447 : Nat) ({ cls := "SpoonRowModel", name := "allWoken", desc := "()I" } : Jvm.MethodName)) ∈ lw_all := lw_g (lw_at lw_m9 239 rfl) rfl
theorem q2257 : (Jvm.Cond.privateMethod ({ cls := "SpoonRowModel", name := "allWoken", desc := "()I" } : Jvm.MethodName)) ∈ lw_tbl := lw_at lw_m10 0 rfl
theorem q2258 : (Jvm.Cond.instanceMethod ({ cls := "SpoonRowModel", name := "allWoken", desc := "()I" } : Jvm.MethodName)) ∈ lw_all := lw_g (lw_at lw_m10 1 rfl) rfl
theorem q2259 : (Jvm.Cond.code ({ cls := "SpoonRowModel", name := "allWoken", desc := "()I" } : Jvm.MethodName) prog_21_method_53_code (3 : Nat) (Option.some Jvm.ClassFile.FieldType.int)) ∈ lw_all := lw_g (lw_at lw_m10 2 rfl) rfl
theorem q2260 : (Jvm.Cond.methodLink "SpoonRowModel" (450 : Nat) ({ cls := "SpoonRowModel", name := "worst", desc := "()I" } : Jvm.MethodName)) ∈ lw_all := lw_g (lw_at lw_m10 3 rfl) rfl
theorem q2261 : (Jvm.Cond.privateMethod ({ cls := "SpoonRowModel", name := "worst", desc := "()I" } : Jvm.MethodName)) ∈ lw_tbl := lw_at lw_m10 4 rfl
theorem q2262 : (Jvm.Cond.instanceMethod ({ cls := "SpoonRowModel", name := "worst", desc := "()I" } : Jvm.MethodName)) ∈ lw_all := lw_g (lw_at lw_m10 5 rfl) rfl
theorem q2263 : (Jvm.Cond.code ({ cls := "SpoonRowModel", name := "worst", desc := "()I" } : Jvm.MethodName) prog_21_method_65_code (3 : Nat) (Option.some Jvm.ClassFile.FieldType.int)) ∈ lw_all := lw_g (lw_at lw_m10 6 rfl) rfl
theorem q2265 : (Jvm.Cond.instanceMethod ({ cls := "SpoonRowModel", name := "woken", desc := "(II)I" } : Jvm.MethodName)) ∈ lw_all := lw_g (lw_at lw_m10 8 rfl) rfl
theorem q2266 : (Jvm.Cond.selects "SpoonRowModel" ({ cls := "SpoonRowModel", name := "woken", desc := "(II)I" } : Jvm.MethodName) ({ cls := "SpoonRowModel", name := "woken", desc := "(II)I" } : Jvm.MethodName)) ∈ lw_all := lw_g (lw_at lw_m10 9 rfl) rfl
theorem q2267 : (Jvm.Cond.code ({ cls := "SpoonRowModel", name := "woken", desc := "(II)I" } : Jvm.MethodName) prog_21_method_67_code (3 : Nat) (Option.some Jvm.ClassFile.FieldType.int)) ∈ lw_all := lw_g (lw_at lw_m10 10 rfl) rfl
theorem q2269 : (Jvm.Cond.instanceMethod ({ cls := "SpoonRowModel", name := "lies", desc := "(III)I" } : Jvm.MethodName)) ∈ lw_all := lw_g (lw_at lw_m10 12 rfl) rfl
theorem q2270 : (Jvm.Cond.selects "SpoonRowModel" ({ cls := "SpoonRowModel", name := "lies", desc := "(III)I" } : Jvm.MethodName) ({ cls := "SpoonRowModel", name := "lies", desc := "(III)I" } : Jvm.MethodName)) ∈ lw_all := lw_g (lw_at lw_m10 13 rfl) rfl
theorem q2271 : (Jvm.Cond.code ({ cls := "SpoonRowModel", name := "lies", desc := "(III)I" } : Jvm.MethodName) prog_21_method_68_code (4 : Nat) (Option.some Jvm.ClassFile.FieldType.int)) ∈ lw_all := lw_g (lw_at lw_m10 14 rfl) rfl
theorem q2273 : (Jvm.Cond.instanceMethod ({ cls := "SpoonRowModel", name := "turn", desc := "(II)I" } : Jvm.MethodName)) ∈ lw_all := lw_g (lw_at lw_m10 16 rfl) rfl
theorem q2274 : (Jvm.Cond.selects "SpoonRowModel" ({ cls := "SpoonRowModel", name := "turn", desc := "(II)I" } : Jvm.MethodName) ({ cls := "SpoonRowModel", name := "turn", desc := "(II)I" } : Jvm.MethodName)) ∈ lw_all := lw_g (lw_at lw_m10 17 rfl) rfl
theorem q2275 : (Jvm.Cond.code ({ cls := "SpoonRowModel", name := "turn", desc := "(II)I" } : Jvm.MethodName) prog_21_method_69_code (3 : Nat) (Option.some Jvm.ClassFile.FieldType.int)) ∈ lw_all := lw_g (lw_at lw_m10 18 rfl) rfl
theorem q2277 : (Jvm.Cond.instanceMethod ({ cls := "SpoonRowModel", name := "orders", desc := "()I" } : Jvm.MethodName)) ∈ lw_all := lw_g (lw_at lw_m10 20 rfl) rfl
theorem q2278 : (Jvm.Cond.selects "SpoonRowModel" ({ cls := "SpoonRowModel", name := "orders", desc := "()I" } : Jvm.MethodName) ({ cls := "SpoonRowModel", name := "orders", desc := "()I" } : Jvm.MethodName)) ∈ lw_all := lw_g (lw_at lw_m10 21 rfl) rfl
theorem q2279 : (Jvm.Cond.code ({ cls := "SpoonRowModel", name := "orders", desc := "()I" } : Jvm.MethodName) prog_21_method_75_code (1 : Nat) (Option.some Jvm.ClassFile.FieldType.int)) ∈ lw_all := lw_g (lw_at lw_m10 22 rfl) rfl
theorem q2280 : (Jvm.Cond.methodLink "SpoonRowModel" (469 : Nat) ({ cls := "SpoonRowModel", name := "tellOrders", desc := "(I)V" } : Jvm.MethodName)) ∈ lw_all := lw_g (lw_at lw_m10 23 rfl) rfl
theorem q2281 : (Jvm.Cond.privateMethod ({ cls := "SpoonRowModel", name := "tellOrders", desc := "(I)V" } : Jvm.MethodName)) ∈ lw_tbl := lw_at lw_m10 24 rfl
theorem q2282 : (Jvm.Cond.instanceMethod ({ cls := "SpoonRowModel", name := "tellOrders", desc := "(I)V" } : Jvm.MethodName)) ∈ lw_all := lw_g (lw_at lw_m10 25 rfl) rfl
theorem q2283 : (Jvm.Cond.code ({ cls := "SpoonRowModel", name := "tellOrders", desc := "(I)V" } : Jvm.MethodName) prog_21_method_73_code (2 : Nat) (Option.none : Option Jvm.ClassFile.FieldType)) ∈ lw_all := lw_g (lw_at lw_m10 26 rfl) rfl
theorem q2284 : (Jvm.Cond.methodLink "SpoonRowModel" (465 : Nat) ({ cls := "SpoonRowModel", name := "orderOn", desc := "(III)V" } : Jvm.MethodName)) ∈ lw_all := lw_g (lw_at lw_m10 27 rfl) rfl
theorem q2285 : (Jvm.Cond.privateMethod ({ cls := "SpoonRowModel", name := "orderOn", desc := "(III)V" } : Jvm.MethodName)) ∈ lw_tbl := lw_at lw_m10 28 rfl
theorem q2286 : (Jvm.Cond.instanceMethod ({ cls := "SpoonRowModel", name := "orderOn", desc := "(III)V" } : Jvm.MethodName)) ∈ lw_all := lw_g (lw_at lw_m10 29 rfl) rfl
theorem q2287 : (Jvm.Cond.code ({ cls := "SpoonRowModel", name := "orderOn", desc := "(III)V" } : Jvm.MethodName) prog_21_method_72_code (6 : Nat) (Option.none : Option Jvm.ClassFile.FieldType)) ∈ lw_all := lw_g (lw_at lw_m10 30 rfl) rfl
theorem q2288 : (Jvm.Cond.methodLink "SpoonRowModel" (459 : Nat) ({ cls := "SpoonRowModel", name := "valueOf", desc := "(I)I" } : Jvm.MethodName)) ∈ lw_all := lw_g (lw_at lw_m10 31 rfl) rfl
theorem q2289 : (Jvm.Cond.privateMethod ({ cls := "SpoonRowModel", name := "valueOf", desc := "(I)I" } : Jvm.MethodName)) ∈ lw_tbl := lw_at lw_m10 32 rfl
theorem q2290 : (Jvm.Cond.instanceMethod ({ cls := "SpoonRowModel", name := "valueOf", desc := "(I)I" } : Jvm.MethodName)) ∈ lw_all := lw_g (lw_at lw_m10 33 rfl) rfl
theorem q2291 : (Jvm.Cond.code ({ cls := "SpoonRowModel", name := "valueOf", desc := "(I)I" } : Jvm.MethodName) prog_21_method_70_code (2 : Nat) (Option.some Jvm.ClassFile.FieldType.int)) ∈ lw_all := lw_g (lw_at lw_m10 34 rfl) rfl
theorem q2292 : (Jvm.Cond.methodLink "SpoonRowModel" (453 : Nat) ({ cls := "SpoonRowModel", name := "tenthsNow", desc := "()I" } : Jvm.MethodName)) ∈ lw_all := lw_g (lw_at lw_m10 35 rfl) rfl
theorem q2293 : (Jvm.Cond.privateMethod ({ cls := "SpoonRowModel", name := "tenthsNow", desc := "()I" } : Jvm.MethodName)) ∈ lw_tbl := lw_at lw_m10 36 rfl
theorem q2294 : (Jvm.Cond.instanceMethod ({ cls := "SpoonRowModel", name := "tenthsNow", desc := "()I" } : Jvm.MethodName)) ∈ lw_all := lw_g (lw_at lw_m10 37 rfl) rfl
theorem q2295 : (Jvm.Cond.code ({ cls := "SpoonRowModel", name := "tenthsNow", desc := "()I" } : Jvm.MethodName) prog_21_method_71_code (4 : Nat) (Option.some Jvm.ClassFile.FieldType.int)) ∈ lw_all := lw_g (lw_at lw_m10 38 rfl) rfl
theorem q2297 : (Jvm.Cond.instanceMethod ({ cls := "SpoonRowModel", name := "order", desc := "()I" } : Jvm.MethodName)) ∈ lw_all := lw_g (lw_at lw_m10 40 rfl) rfl
theorem q2298 : (Jvm.Cond.selects "SpoonRowModel" ({ cls := "SpoonRowModel", name := "order", desc := "()I" } : Jvm.MethodName) ({ cls := "SpoonRowModel", name := "order", desc := "()I" } : Jvm.MethodName)) ∈ lw_all := lw_g (lw_at lw_m10 41 rfl) rfl
theorem q2299 : (Jvm.Cond.code ({ cls := "SpoonRowModel", name := "order", desc := "()I" } : Jvm.MethodName) prog_21_method_76_code (1 : Nat) (Option.some Jvm.ClassFile.FieldType.int)) ∈ lw_all := lw_g (lw_at lw_m10 42 rfl) rfl
theorem q2300 : (Jvm.Cond.methodLink "SpoonRowModel" (472 : Nat) ({ cls := "SpoonRowModel", name := "keepBest", desc := "()V" } : Jvm.MethodName)) ∈ lw_all := lw_g (lw_at lw_m10 43 rfl) rfl
theorem q2301 : (Jvm.Cond.privateMethod ({ cls := "SpoonRowModel", name := "keepBest", desc := "()V" } : Jvm.MethodName)) ∈ lw_tbl := lw_at lw_m10 44 rfl
theorem q2302 : (Jvm.Cond.instanceMethod ({ cls := "SpoonRowModel", name := "keepBest", desc := "()V" } : Jvm.MethodName)) ∈ lw_all := lw_g (lw_at lw_m10 45 rfl) rfl
theorem q2303 : (Jvm.Cond.code ({ cls := "SpoonRowModel", name := "keepBest", desc := "()V" } : Jvm.MethodName) prog_21_method_74_code (2 : Nat) (Option.none : Option Jvm.ClassFile.FieldType)) ∈ lw_all := lw_g (lw_at lw_m10 46 rfl) rfl
theorem q2305 : (Jvm.Cond.instanceMethod ({ cls := "SpoonRowModel", name := "kept", desc := "(I)I" } : Jvm.MethodName)) ∈ lw_all := lw_g (lw_at lw_m10 48 rfl) rfl
theorem q2306 : (Jvm.Cond.selects "SpoonRowModel" ({ cls := "SpoonRowModel", name := "kept", desc := "(I)I" } : Jvm.MethodName) ({ cls := "SpoonRowModel", name := "kept", desc := "(I)I" } : Jvm.MethodName)) ∈ lw_all := lw_g (lw_at lw_m10 49 rfl) rfl
theorem q2307 : (Jvm.Cond.code ({ cls := "SpoonRowModel", name := "kept", desc := "(I)I" } : Jvm.MethodName) prog_21_method_77_code (2 : Nat) (Option.some Jvm.ClassFile.FieldType.int)) ∈ lw_all := lw_g (lw_at lw_m10 50 rfl) rfl
theorem q2309 : (Jvm.Cond.instanceMethod ({ cls := "SpoonRowModel", name := "every", desc := "(II)I" } : Jvm.MethodName)) ∈ lw_all := lw_g (lw_at lw_m10 52 rfl) rfl
theorem q2310 : (Jvm.Cond.selects "SpoonRowModel" ({ cls := "SpoonRowModel", name := "every", desc := "(II)I" } : Jvm.MethodName) ({ cls := "SpoonRowModel", name := "every", desc := "(II)I" } : Jvm.MethodName)) ∈ lw_all := lw_g (lw_at lw_m10 53 rfl) rfl
theorem q2311 : (Jvm.Cond.code ({ cls := "SpoonRowModel", name := "every", desc := "(II)I" } : Jvm.MethodName) prog_21_method_78_code (6 : Nat) (Option.some Jvm.ClassFile.FieldType.int)) ∈ lw_all := lw_g (lw_at lw_m10 54 rfl) rfl
theorem q2313 : (Jvm.Cond.instanceMethod ({ cls := "SpoonRowModel", name := "bolsters", desc := "(I)I" } : Jvm.MethodName)) ∈ lw_all := lw_g (lw_at lw_m10 56 rfl) rfl
theorem q2314 : (Jvm.Cond.selects "SpoonRowModel" ({ cls := "SpoonRowModel", name := "bolsters", desc := "(I)I" } : Jvm.MethodName) ({ cls := "SpoonRowModel", name := "bolsters", desc := "(I)I" } : Jvm.MethodName)) ∈ lw_all := lw_g (lw_at lw_m10 57 rfl) rfl
theorem q2315 : (Jvm.Cond.code ({ cls := "SpoonRowModel", name := "bolsters", desc := "(I)I" } : Jvm.MethodName) prog_21_method_80_code (6 : Nat) (Option.some Jvm.ClassFile.FieldType.int)) ∈ lw_all := lw_g (lw_at lw_m10 58 rfl) rfl
theorem q2316 : (Jvm.Cond.methodLink "SpoonRowModel" (475 : Nat) ({ cls := "SpoonRowModel", name := "bitsOf", desc := "(I)I" } : Jvm.MethodName)) ∈ lw_all := lw_g (lw_at lw_m10 59 rfl) rfl
theorem q2317 : (Jvm.Cond.static ({ cls := "SpoonRowModel", name := "bitsOf", desc := "(I)I" } : Jvm.MethodName)) ∈ lw_all := lw_g (lw_at lw_m10 60 rfl) rfl
theorem q2318 : (Jvm.Cond.code ({ cls := "SpoonRowModel", name := "bitsOf", desc := "(I)I" } : Jvm.MethodName) prog_21_method_79_code (3 : Nat) (Option.some Jvm.ClassFile.FieldType.int)) ∈ lw_all := lw_g (lw_at lw_m10 61 rfl) rfl
theorem q2320 : (Jvm.Cond.instanceMethod ({ cls := "SpoonRowModel", name := "free", desc := "(I)I" } : Jvm.MethodName)) ∈ lw_all := lw_g (lw_at lw_m10 63 rfl) rfl
theorem q2321 : (Jvm.Cond.selects "SpoonRowModel" ({ cls := "SpoonRowModel", name := "free", desc := "(I)I" } : Jvm.MethodName) ({ cls := "SpoonRowModel", name := "free", desc := "(I)I" } : Jvm.MethodName)) ∈ lw_all := lw_g (lw_at lw_m10 64 rfl) rfl
theorem q2322 : (Jvm.Cond.code ({ cls := "SpoonRowModel", name := "free", desc := "(I)I" } : Jvm.MethodName) prog_21_method_81_code (2 : Nat) (Option.some Jvm.ClassFile.FieldType.int)) ∈ lw_all := lw_g (lw_at lw_m10 65 rfl) rfl
theorem q2324 : (Jvm.Cond.instanceMethod ({ cls := "SpoonRowModel", name := "outs", desc := "(I)I" } : Jvm.MethodName)) ∈ lw_all := lw_g (lw_at lw_m10 67 rfl) rfl
theorem q2325 : (Jvm.Cond.selects "SpoonRowModel" ({ cls := "SpoonRowModel", name := "outs", desc := "(I)I" } : Jvm.MethodName) ({ cls := "SpoonRowModel", name := "outs", desc := "(I)I" } : Jvm.MethodName)) ∈ lw_all := lw_g (lw_at lw_m10 68 rfl) rfl
theorem q2326 : (Jvm.Cond.code ({ cls := "SpoonRowModel", name := "outs", desc := "(I)I" } : Jvm.MethodName) prog_21_method_83_code (4 : Nat) (Option.some Jvm.ClassFile.FieldType.int)) ∈ lw_all := lw_g (lw_at lw_m10 69 rfl) rfl
theorem q2327 : (Jvm.Cond.methodLink "SpoonRowModel" (478 : Nat) ({ cls := "SpoonRowModel", name := "common", desc := "(II)I" } : Jvm.MethodName)) ∈ lw_all := lw_g (lw_at lw_m10 70 rfl) rfl
theorem q2328 : (Jvm.Cond.static ({ cls := "SpoonRowModel", name := "common", desc := "(II)I" } : Jvm.MethodName)) ∈ lw_all := lw_g (lw_at lw_m10 71 rfl) rfl
theorem q2329 : (Jvm.Cond.code ({ cls := "SpoonRowModel", name := "common", desc := "(II)I" } : Jvm.MethodName) prog_21_method_82_code (5 : Nat) (Option.some Jvm.ClassFile.FieldType.int)) ∈ lw_all := lw_g (lw_at lw_m10 72 rfl) rfl
theorem q2331 : (Jvm.Cond.instanceMethod ({ cls := "SpoonRowModel", name := "edge", desc := "()I" } : Jvm.MethodName)) ∈ lw_all := lw_g (lw_at lw_m10 74 rfl) rfl
theorem q2332 : (Jvm.Cond.selects "SpoonRowModel" ({ cls := "SpoonRowModel", name := "edge", desc := "()I" } : Jvm.MethodName) ({ cls := "SpoonRowModel", name := "edge", desc := "()I" } : Jvm.MethodName)) ∈ lw_all := lw_g (lw_at lw_m10 75 rfl) rfl
theorem q2333 : (Jvm.Cond.code ({ cls := "SpoonRowModel", name := "edge", desc := "()I" } : Jvm.MethodName) prog_21_method_84_code (1 : Nat) (Option.some Jvm.ClassFile.FieldType.int)) ∈ lw_all := lw_g (lw_at lw_m10 76 rfl) rfl
theorem q2335 : (Jvm.Cond.instanceMethod ({ cls := "SpoonRowModel", name := "fair", desc := "(II)I" } : Jvm.MethodName)) ∈ lw_all := lw_g (lw_at lw_m10 78 rfl) rfl
theorem q2336 : (Jvm.Cond.selects "SpoonRowModel" ({ cls := "SpoonRowModel", name := "fair", desc := "(II)I" } : Jvm.MethodName) ({ cls := "SpoonRowModel", name := "fair", desc := "(II)I" } : Jvm.MethodName)) ∈ lw_all := lw_g (lw_at lw_m10 79 rfl) rfl
theorem q2337 : (Jvm.Cond.code ({ cls := "SpoonRowModel", name := "fair", desc := "(II)I" } : Jvm.MethodName) prog_21_method_85_code (6 : Nat) (Option.some Jvm.ClassFile.FieldType.int)) ∈ lw_all := lw_g (lw_at lw_m10 80 rfl) rfl
theorem q2338 : (Jvm.Cond.constantLong "SpoonRowModel" (481 : Nat) (-1 : Int64)) ∈ lw_all := lw_g (lw_at lw_m10 81 rfl) rfl
theorem q2339 : (Jvm.Cond.constantLong "SpoonRowModel" (483 : Nat) (30 : Int64)) ∈ lw_all := lw_g (lw_at lw_m10 82 rfl) rfl
theorem q2341 : (Jvm.Cond.instanceMethod ({ cls := "SpoonRowModel", name := "see", desc := "(III)I" } : Jvm.MethodName)) ∈ lw_all := lw_g (lw_at lw_m10 84 rfl) rfl
theorem q2342 : (Jvm.Cond.selects "SpoonRowModel" ({ cls := "SpoonRowModel", name := "see", desc := "(III)I" } : Jvm.MethodName) ({ cls := "SpoonRowModel", name := "see", desc := "(III)I" } : Jvm.MethodName)) ∈ lw_all := lw_g (lw_at lw_m10 85 rfl) rfl
theorem q2343 : (Jvm.Cond.code ({ cls := "SpoonRowModel", name := "see", desc := "(III)I" } : Jvm.MethodName) prog_21_method_86_code (4 : Nat) (Option.some Jvm.ClassFile.FieldType.int)) ∈ lw_all := lw_g (lw_at lw_m10 86 rfl) rfl
theorem q2345 : (Jvm.Cond.instanceMethod ({ cls := "SpoonRowModel", name := "forget", desc := "()I" } : Jvm.MethodName)) ∈ lw_all := lw_g (lw_at lw_m10 88 rfl) rfl
theorem q2346 : (Jvm.Cond.selects "SpoonRowModel" ({ cls := "SpoonRowModel", name := "forget", desc := "()I" } : Jvm.MethodName) ({ cls := "SpoonRowModel", name := "forget", desc := "()I" } : Jvm.MethodName)) ∈ lw_all := lw_g (lw_at lw_m10 89 rfl) rfl
theorem q2347 : (Jvm.Cond.code ({ cls := "SpoonRowModel", name := "forget", desc := "()I" } : Jvm.MethodName) prog_21_method_87_code (1 : Nat) (Option.some Jvm.ClassFile.FieldType.int)) ∈ lw_all := lw_g (lw_at lw_m10 90 rfl) rfl
theorem q2349 : (Jvm.Cond.instanceMethod ({ cls := "SpoonRowModel", name := "fits", desc := "(I)I" } : Jvm.MethodName)) ∈ lw_all := lw_g (lw_at lw_m10 92 rfl) rfl
theorem q2350 : (Jvm.Cond.selects "SpoonRowModel" ({ cls := "SpoonRowModel", name := "fits", desc := "(I)I" } : Jvm.MethodName) ({ cls := "SpoonRowModel", name := "fits", desc := "(I)I" } : Jvm.MethodName)) ∈ lw_all := lw_g (lw_at lw_m10 93 rfl) rfl
theorem q2351 : (Jvm.Cond.code ({ cls := "SpoonRowModel", name := "fits", desc := "(I)I" } : Jvm.MethodName) prog_21_method_89_code (6 : Nat) (Option.some Jvm.ClassFile.FieldType.int)) ∈ lw_all := lw_g (lw_at lw_m10 94 rfl) rfl
theorem q2352 : (Jvm.Cond.methodLink "SpoonRowModel" (485 : Nat) ({ cls := "SpoonRowModel", name := "isAsSeen", desc := "(I)Z" } : Jvm.MethodName)) ∈ lw_all := lw_g (lw_at lw_m10 95 rfl) rfl
theorem q2353 : (Jvm.Cond.privateMethod ({ cls := "SpoonRowModel", name := "isAsSeen", desc := "(I)Z" } : Jvm.MethodName)) ∈ lw_tbl := lw_at lw_m10 96 rfl
theorem q2354 : (Jvm.Cond.instanceMethod ({ cls := "SpoonRowModel", name := "isAsSeen", desc := "(I)Z" } : Jvm.MethodName)) ∈ lw_all := lw_g (lw_at lw_m10 97 rfl) rfl
theorem q2355 : (Jvm.Cond.code ({ cls := "SpoonRowModel", name := "isAsSeen", desc := "(I)Z" } : Jvm.MethodName) prog_21_method_88_code (3 : Nat) (Option.some Jvm.ClassFile.FieldType.boolean)) ∈ lw_all := lw_g (lw_at lw_m10 98 rfl) rfl
theorem q2357 : (Jvm.Cond.instanceMethod ({ cls := "SpoonRowModel", name := "without", desc := "(I)I" } : Jvm.MethodName)) ∈ lw_all := lw_g (lw_at lw_m10 100 rfl) rfl
theorem q2358 : (Jvm.Cond.selects "SpoonRowModel" ({ cls := "SpoonRowModel", name := "without", desc := "(I)I" } : Jvm.MethodName) ({ cls := "SpoonRowModel", name := "without", desc := "(I)I" } : Jvm.MethodName)) ∈ lw_all := lw_g (lw_at lw_m10 101 rfl) rfl
theorem q2359 : (Jvm.Cond.code ({ cls := "SpoonRowModel", name := "without", desc := "(I)I" } : Jvm.MethodName) prog_21_method_90_code (5 : Nat) (Option.some Jvm.ClassFile.FieldType.int)) ∈ lw_all := lw_g (lw_at lw_m10 102 rfl) rfl
theorem q2361 : (Jvm.Cond.instanceMethod ({ cls := "SpoonRowModel", name := "year", desc := "(III)I" } : Jvm.MethodName)) ∈ lw_all := lw_g (lw_at lw_m10 104 rfl) rfl
theorem q2362 : (Jvm.Cond.selects "SpoonRowModel" ({ cls := "SpoonRowModel", name := "year", desc := "(III)I" } : Jvm.MethodName) ({ cls := "SpoonRowModel", name := "year", desc := "(III)I" } : Jvm.MethodName)) ∈ lw_all := lw_g (lw_at lw_m10 105 rfl) rfl
theorem q2363 : (Jvm.Cond.code ({ cls := "SpoonRowModel", name := "year", desc := "(III)I" } : Jvm.MethodName) prog_21_method_92_code (9 : Nat) (Option.some Jvm.ClassFile.FieldType.int)) ∈ lw_all := lw_g (lw_at lw_m10 106 rfl) rfl
theorem q2364 : (Jvm.Cond.constantLong "SpoonRowModel" (492 : Nat) (2 : Int64)) ∈ lw_all := lw_g (lw_at lw_m10 107 rfl) rfl
theorem q2365 : (Jvm.Cond.constantLong "SpoonRowModel" (494 : Nat) (40 : Int64)) ∈ lw_all := lw_g (lw_at lw_m10 108 rfl) rfl
theorem q2366 : (Jvm.Cond.methodLink "SpoonRowModel" (496 : Nat) ({ cls := "SpoonRowModel", name := "drawOf", desc := "(I)I" } : Jvm.MethodName)) ∈ lw_all := lw_g (lw_at lw_m10 109 rfl) rfl
theorem q2367 : (Jvm.Cond.privateMethod ({ cls := "SpoonRowModel", name := "drawOf", desc := "(I)I" } : Jvm.MethodName)) ∈ lw_tbl := lw_at lw_m10 110 rfl
theorem q2368 : (Jvm.Cond.instanceMethod ({ cls := "SpoonRowModel", name := "drawOf", desc := "(I)I" } : Jvm.MethodName)) ∈ lw_all := lw_g (lw_at lw_m10 111 rfl) rfl
theorem q2369 : (Jvm.Cond.code ({ cls := "SpoonRowModel", name := "drawOf", desc := "(I)I" } : Jvm.MethodName) prog_21_method_91_code (2 : Nat) (Option.some Jvm.ClassFile.FieldType.int)) ∈ lw_all := lw_g (lw_at lw_m10 112 rfl) rfl
theorem q2370 : (Jvm.Cond.constant "SpoonRowModel" (491 : Nat) (1103515245 : Int32)) ∈ lw_all := lw_g (lw_at lw_m10 113 rfl) rfl
theorem q2372 : (Jvm.Cond.instanceMethod ({ cls := "SpoonRowModel", name := "image", desc := "()V" } : Jvm.MethodName)) ∈ lw_all := lw_g (lw_at lw_m10 115 rfl) rfl
theorem q2373 : (Jvm.Cond.selects "SpoonRowModel" ({ cls := "SpoonRowModel", name := "image", desc := "()V" } : Jvm.MethodName) ({ cls := "SpoonRowModel", name := "image", desc := "()V" } : Jvm.MethodName)) ∈ lw_all := lw_g (lw_at lw_m10 116 rfl) rfl
theorem q2374 : (Jvm.Cond.code ({ cls := "SpoonRowModel", name := "image", desc := "()V" } : Jvm.MethodName) prog_21_method_94_code (1 : Nat) (Option.none : Option Jvm.ClassFile.FieldType)) ∈ lw_all := lw_g (lw_at lw_m10 117 rfl) rfl
theorem q2375 : (Jvm.Cond.methodLink "SpoonRowModel" (505 : Nat) ({ cls := "SpoonRowModel", name := "be", desc := "([I[I)V" } : Jvm.MethodName)) ∈ lw_all := lw_g (lw_at lw_m10 118 rfl) rfl
theorem q2376 : (Jvm.Cond.static ({ cls := "SpoonRowModel", name := "be", desc := "([I[I)V" } : Jvm.MethodName)) ∈ lw_all := lw_g (lw_at lw_m10 119 rfl) rfl
theorem q2377 : (Jvm.Cond.code ({ cls := "SpoonRowModel", name := "be", desc := "([I[I)V" } : Jvm.MethodName) prog_21_method_93_code (3 : Nat) (Option.none : Option Jvm.ClassFile.FieldType)) ∈ lw_all := lw_g (lw_at lw_m10 120 rfl) rfl
theorem q2379 : (Jvm.Cond.instanceMethod ({ cls := "SpoonRowModel", name := "restore", desc := "()Z" } : Jvm.MethodName)) ∈ lw_all := lw_g (lw_at lw_m10 122 rfl) rfl
theorem q2380 : (Jvm.Cond.selects "SpoonRowModel" ({ cls := "SpoonRowModel", name := "restore", desc := "()Z" } : Jvm.MethodName) ({ cls := "SpoonRowModel", name := "restore", desc := "()Z" } : Jvm.MethodName)) ∈ lw_all := lw_g (lw_at lw_m10 123 rfl) rfl
theorem q2381 : (Jvm.Cond.code ({ cls := "SpoonRowModel", name := "restore", desc := "()Z" } : Jvm.MethodName) prog_21_method_95_code (1 : Nat) (Option.some Jvm.ClassFile.FieldType.boolean)) ∈ lw_all := lw_g (lw_at lw_m10 124 rfl) rfl
theorem q2411 : (Jvm.Cond.castable "SpoonRowModel" "java/lang/Object") ∈ lw_tbl := lw_at lw_m10 154 rfl
