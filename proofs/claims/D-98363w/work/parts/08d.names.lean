set_option maxRecDepth 100000
/-! SpoonRow$Reader: codes (from claim/names) -/
abbrev cX9_init : ByteArray := prog_12_method_1_code
def yX9_init : MethodName := ⟨RX9, "<init>", "([BI)V"⟩
def dkwX9_init_1 : List UInt8 := [181, 0, 25, 42, 182, 0, 29, 177]
abbrev dktX9_init_1 : List UInt8 := dkwX9_init_1 ++ []
def dkwX9_init_0 : List UInt8 := [42, 183, 0, 3, 42, 18, 9, 181, 0, 11, 42, 7, 188, 4, 181, 0, 17, 42, 43, 181, 0, 21, 42, 28]
abbrev dktX9_init_0 : List UInt8 := dkwX9_init_0 ++ dktX9_init_1
theorem dksX9_init_0 : cX9_init.data.toList.drop 0 = dktX9_init_0 := by decide +kernel
theorem dksX9_init_1 : cX9_init.data.toList.drop 24 = dktX9_init_1 := dk_seg dksX9_init_0 24 rfl rfl
theorem dX9_init_0 : decode cX9_init 0 = .ok (.aload_n 0, 1) := dk_42 (dk_at dksX9_init_0 0 rfl rfl)
theorem dX9_init_1 : decode cX9_init 1 = .ok (.invokespecial 3, 3) := dk_183 0 3 (dk_at dksX9_init_0 1 rfl rfl)
theorem dX9_init_4 : decode cX9_init 4 = .ok (.aload_n 0, 1) := dk_42 (dk_at dksX9_init_0 4 rfl rfl)
theorem dX9_init_5 : decode cX9_init 5 = .ok (.ldc 9, 2) := dk_18 9 (dk_at dksX9_init_0 5 rfl rfl)
theorem dX9_init_7 : decode cX9_init 7 = .ok (.putfield 11, 3) := dk_181 0 11 (dk_at dksX9_init_0 7 rfl rfl)
theorem dX9_init_10 : decode cX9_init 10 = .ok (.aload_n 0, 1) := dk_42 (dk_at dksX9_init_0 10 rfl rfl)
theorem dX9_init_11 : decode cX9_init 11 = .ok (.iconst 4, 1) := dk_7 (dk_at dksX9_init_0 11 rfl rfl)
theorem dX9_init_12 : decode cX9_init 12 = .ok (.newarray .boolean, 2) := dk_188_4 (dk_at dksX9_init_0 12 rfl rfl)
theorem dX9_init_14 : decode cX9_init 14 = .ok (.putfield 17, 3) := dk_181 0 17 (dk_at dksX9_init_0 14 rfl rfl)
theorem dX9_init_17 : decode cX9_init 17 = .ok (.aload_n 0, 1) := dk_42 (dk_at dksX9_init_0 17 rfl rfl)
theorem dX9_init_18 : decode cX9_init 18 = .ok (.aload_n 1, 1) := dk_43 (dk_at dksX9_init_0 18 rfl rfl)
theorem dX9_init_19 : decode cX9_init 19 = .ok (.putfield 21, 3) := dk_181 0 21 (dk_at dksX9_init_0 19 rfl rfl)
theorem dX9_init_22 : decode cX9_init 22 = .ok (.aload_n 0, 1) := dk_42 (dk_at dksX9_init_0 22 rfl rfl)
theorem dX9_init_23 : decode cX9_init 23 = .ok (.iload_n 2, 1) := dk_28 (dk_at dksX9_init_0 23 rfl rfl)
theorem dX9_init_24 : decode cX9_init 24 = .ok (.putfield 25, 3) := dk_181 0 25 (dk_at dksX9_init_1 0 rfl rfl)
theorem dX9_init_27 : decode cX9_init 27 = .ok (.aload_n 0, 1) := dk_42 (dk_at dksX9_init_1 3 rfl rfl)
theorem dX9_init_28 : decode cX9_init 28 = .ok (.invokevirtual 29, 3) := dk_182 0 29 (dk_at dksX9_init_1 4 rfl rfl)
theorem dX9_init_31 : decode cX9_init 31 = .ok (.return_, 1) := dk_177 (dk_at dksX9_init_1 7 rfl rfl)
abbrev cX9_go : ByteArray := prog_12_method_6_code
def yX9_go : MethodName := ⟨RX9, "go", "()V"⟩
def dkwX9_go_14 : List UInt8 := [146, 184, 0, 97, 181, 0, 11, 42, 89, 180, 0, 32, 4, 96, 181, 0, 32, 177]
abbrev dktX9_go_14 : List UInt8 := dkwX9_go_14 ++ []
def dkwX9_go_13 : List UInt8 := [178, 0, 91, 167, 0, 6, 178, 0, 94, 181, 0, 52, 42, 180, 0, 52, 178, 0, 91, 166, 0, 12, 42, 27]
abbrev dktX9_go_13 : List UInt8 := dkwX9_go_13 ++ dktX9_go_14
def dkwX9_go_12 : List UInt8 := [3, 181, 0, 42, 42, 178, 0, 85, 181, 0, 52, 167, 0, 52, 42, 27, 184, 0, 88, 153, 0, 9]
abbrev dktX9_go_12 : List UInt8 := dkwX9_go_12 ++ dktX9_go_13
def dkwX9_go_11 : List UInt8 := [181, 0, 32, 167, 255, 196, 42, 42, 180, 0, 32, 42, 180, 0, 39, 100, 7, 164, 0, 7, 4, 167, 0, 4]
abbrev dktX9_go_11 : List UInt8 := dkwX9_go_11 ++ dktX9_go_12
def dkwX9_go_10 : List UInt8 := [42, 42, 180, 0, 32, 182, 0, 35, 96, 16, 48, 100, 181, 0, 82, 42, 89, 180, 0, 32, 4, 96]
abbrev dktX9_go_10 : List UInt8 := dkwX9_go_10 ++ dktX9_go_11
def dkwX9_go_9 : List UInt8 := [153, 0, 52, 42, 180, 0, 32, 42, 180, 0, 39, 100, 7, 162, 0, 26, 42, 16, 10, 42, 180, 0, 82, 104]
abbrev dktX9_go_9 : List UInt8 := dkwX9_go_9 ++ dktX9_go_10
def dkwX9_go_8 : List UInt8 := [184, 0, 79, 153, 0, 103, 42, 3, 181, 0, 82, 42, 42, 180, 0, 32, 182, 0, 35, 184, 0, 79]
abbrev dktX9_go_8 : List UInt8 := dkwX9_go_8 ++ dktX9_go_9
def dkwX9_go_7 : List UInt8 := [167, 255, 209, 42, 44, 182, 0, 72, 181, 0, 11, 42, 178, 0, 76, 181, 0, 52, 167, 0, 159, 27]
abbrev dktX9_go_7 : List UInt8 := dkwX9_go_7 ++ dktX9_go_8
def dkwX9_go_6 : List UInt8 := [42, 180, 0, 32, 182, 0, 35, 146, 182, 0, 68, 87, 42, 89, 180, 0, 32, 4, 96, 181, 0, 32]
abbrev dktX9_go_6 : List UInt8 := dkwX9_go_6 ++ dktX9_go_7
def dkwX9_go_5 : List UInt8 := [42, 180, 0, 32, 182, 0, 35, 184, 0, 55, 153, 0, 39, 44, 182, 0, 64, 16, 8, 162, 0, 17, 44, 42]
abbrev dktX9_go_5 : List UInt8 := dkwX9_go_5 ++ dktX9_go_6
def dkwX9_go_4 : List UInt8 := [181, 0, 52, 167, 0, 244, 27, 184, 0, 55, 153, 0, 81, 187, 0, 59, 89, 16, 8, 183, 0, 61, 77, 42]
abbrev dktX9_go_4 : List UInt8 := dkwX9_go_4 ++ dktX9_go_5
def dkwX9_go_3 : List UInt8 := [180, 0, 32, 182, 0, 35, 60, 42, 180, 0, 32, 42, 180, 0, 25, 161, 0, 13, 42, 178, 0, 46]
abbrev dktX9_go_3 : List UInt8 := dkwX9_go_3 ++ dktX9_go_4
def dkwX9_go_2 : List UInt8 := [167, 255, 209, 42, 42, 180, 0, 32, 181, 0, 39, 42, 18, 9, 181, 0, 11, 42, 3, 181, 0, 42, 42, 42]
abbrev dktX9_go_2 : List UInt8 := dkwX9_go_2 ++ dktX9_go_3
def dkwX9_go_1 : List UInt8 := [42, 42, 180, 0, 32, 182, 0, 35, 16, 10, 160, 0, 16, 42, 89, 180, 0, 32, 4, 96, 181, 0, 32]
abbrev dktX9_go_1 : List UInt8 := dkwX9_go_1 ++ dktX9_go_2
def dkwX9_go_0 : List UInt8 := [42, 180, 0, 32, 42, 180, 0, 25, 162, 0, 42, 42, 42, 180, 0, 32, 182, 0, 35, 16, 32, 159, 0, 16]
abbrev dktX9_go_0 : List UInt8 := dkwX9_go_0 ++ dktX9_go_1
theorem dksX9_go_0 : cX9_go.data.toList.drop 0 = dktX9_go_0 := by decide +kernel
theorem dksX9_go_1 : cX9_go.data.toList.drop 24 = dktX9_go_1 := dk_seg dksX9_go_0 24 rfl rfl
theorem dksX9_go_2 : cX9_go.data.toList.drop 47 = dktX9_go_2 := dk_seg dksX9_go_1 23 rfl rfl
theorem dksX9_go_3 : cX9_go.data.toList.drop 71 = dktX9_go_3 := dk_seg dksX9_go_2 24 rfl rfl
theorem dksX9_go_4 : cX9_go.data.toList.drop 93 = dktX9_go_4 := dk_seg dksX9_go_3 22 rfl rfl
theorem dksX9_go_5 : cX9_go.data.toList.drop 117 = dktX9_go_5 := dk_seg dksX9_go_4 24 rfl rfl
theorem dksX9_go_6 : cX9_go.data.toList.drop 141 = dktX9_go_6 := dk_seg dksX9_go_5 24 rfl rfl
theorem dksX9_go_7 : cX9_go.data.toList.drop 163 = dktX9_go_7 := dk_seg dksX9_go_6 22 rfl rfl
theorem dksX9_go_8 : cX9_go.data.toList.drop 185 = dktX9_go_8 := dk_seg dksX9_go_7 22 rfl rfl
theorem dksX9_go_9 : cX9_go.data.toList.drop 207 = dktX9_go_9 := dk_seg dksX9_go_8 22 rfl rfl
theorem dksX9_go_10 : cX9_go.data.toList.drop 231 = dktX9_go_10 := dk_seg dksX9_go_9 24 rfl rfl
theorem dksX9_go_11 : cX9_go.data.toList.drop 253 = dktX9_go_11 := dk_seg dksX9_go_10 22 rfl rfl
theorem dksX9_go_12 : cX9_go.data.toList.drop 277 = dktX9_go_12 := dk_seg dksX9_go_11 24 rfl rfl
theorem dksX9_go_13 : cX9_go.data.toList.drop 299 = dktX9_go_13 := dk_seg dksX9_go_12 22 rfl rfl
theorem dksX9_go_14 : cX9_go.data.toList.drop 323 = dktX9_go_14 := dk_seg dksX9_go_13 24 rfl rfl
theorem dX9_go_0 : decode cX9_go 0 = .ok (.aload_n 0, 1) := dk_42 (dk_at dksX9_go_0 0 rfl rfl)
theorem dX9_go_1 : decode cX9_go 1 = .ok (.getfield 32, 3) := dk_180 0 32 (dk_at dksX9_go_0 1 rfl rfl)
theorem dX9_go_4 : decode cX9_go 4 = .ok (.aload_n 0, 1) := dk_42 (dk_at dksX9_go_0 4 rfl rfl)
theorem dX9_go_5 : decode cX9_go 5 = .ok (.getfield 25, 3) := dk_180 0 25 (dk_at dksX9_go_0 5 rfl rfl)
theorem dX9_go_8 : decode cX9_go 8 = .ok (.if_icmp .ge 42, 3) := dk_162 0 42 (dk_at dksX9_go_0 8 rfl rfl)
theorem dX9_go_11 : decode cX9_go 11 = .ok (.aload_n 0, 1) := dk_42 (dk_at dksX9_go_0 11 rfl rfl)
theorem dX9_go_12 : decode cX9_go 12 = .ok (.aload_n 0, 1) := dk_42 (dk_at dksX9_go_0 12 rfl rfl)
theorem dX9_go_13 : decode cX9_go 13 = .ok (.getfield 32, 3) := dk_180 0 32 (dk_at dksX9_go_0 13 rfl rfl)
theorem dX9_go_16 : decode cX9_go 16 = .ok (.invokevirtual 35, 3) := dk_182 0 35 (dk_at dksX9_go_0 16 rfl rfl)
theorem dX9_go_19 : decode cX9_go 19 = .ok (.bipush 32, 2) := dk_16 32 (dk_at dksX9_go_0 19 rfl rfl)
theorem dX9_go_21 : decode cX9_go 21 = .ok (.if_icmp .eq 16, 3) := dk_159 0 16 (dk_at dksX9_go_0 21 rfl rfl)
theorem dX9_go_24 : decode cX9_go 24 = .ok (.aload_n 0, 1) := dk_42 (dk_at dksX9_go_1 0 rfl rfl)
theorem dX9_go_25 : decode cX9_go 25 = .ok (.aload_n 0, 1) := dk_42 (dk_at dksX9_go_1 1 rfl rfl)
theorem dX9_go_26 : decode cX9_go 26 = .ok (.getfield 32, 3) := dk_180 0 32 (dk_at dksX9_go_1 2 rfl rfl)
theorem dX9_go_29 : decode cX9_go 29 = .ok (.invokevirtual 35, 3) := dk_182 0 35 (dk_at dksX9_go_1 5 rfl rfl)
theorem dX9_go_32 : decode cX9_go 32 = .ok (.bipush 10, 2) := dk_16 10 (dk_at dksX9_go_1 8 rfl rfl)
theorem dX9_go_34 : decode cX9_go 34 = .ok (.if_icmp .ne 16, 3) := dk_160 0 16 (dk_at dksX9_go_1 10 rfl rfl)
theorem dX9_go_37 : decode cX9_go 37 = .ok (.aload_n 0, 1) := dk_42 (dk_at dksX9_go_1 13 rfl rfl)
theorem dX9_go_38 : decode cX9_go 38 = .ok (.dup, 1) := dk_89 (dk_at dksX9_go_1 14 rfl rfl)
theorem dX9_go_39 : decode cX9_go 39 = .ok (.getfield 32, 3) := dk_180 0 32 (dk_at dksX9_go_1 15 rfl rfl)
theorem dX9_go_42 : decode cX9_go 42 = .ok (.iconst 1, 1) := dk_4 (dk_at dksX9_go_1 18 rfl rfl)
theorem dX9_go_43 : decode cX9_go 43 = .ok (.iadd, 1) := dk_96 (dk_at dksX9_go_1 19 rfl rfl)
theorem dX9_go_44 : decode cX9_go 44 = .ok (.putfield 32, 3) := dk_181 0 32 (dk_at dksX9_go_1 20 rfl rfl)
theorem dX9_go_47 : decode cX9_go 47 = .ok (.goto (-47), 3) := dk_167 255 209 (dk_at dksX9_go_2 0 rfl rfl)
theorem dX9_go_50 : decode cX9_go 50 = .ok (.aload_n 0, 1) := dk_42 (dk_at dksX9_go_2 3 rfl rfl)
theorem dX9_go_51 : decode cX9_go 51 = .ok (.aload_n 0, 1) := dk_42 (dk_at dksX9_go_2 4 rfl rfl)
theorem dX9_go_52 : decode cX9_go 52 = .ok (.getfield 32, 3) := dk_180 0 32 (dk_at dksX9_go_2 5 rfl rfl)
theorem dX9_go_55 : decode cX9_go 55 = .ok (.putfield 39, 3) := dk_181 0 39 (dk_at dksX9_go_2 8 rfl rfl)
theorem dX9_go_58 : decode cX9_go 58 = .ok (.aload_n 0, 1) := dk_42 (dk_at dksX9_go_2 11 rfl rfl)
theorem dX9_go_59 : decode cX9_go 59 = .ok (.ldc 9, 2) := dk_18 9 (dk_at dksX9_go_2 12 rfl rfl)
theorem dX9_go_61 : decode cX9_go 61 = .ok (.putfield 11, 3) := dk_181 0 11 (dk_at dksX9_go_2 14 rfl rfl)
theorem dX9_go_64 : decode cX9_go 64 = .ok (.aload_n 0, 1) := dk_42 (dk_at dksX9_go_2 17 rfl rfl)
theorem dX9_go_65 : decode cX9_go 65 = .ok (.iconst 0, 1) := dk_3 (dk_at dksX9_go_2 18 rfl rfl)
theorem dX9_go_66 : decode cX9_go 66 = .ok (.putfield 42, 3) := dk_181 0 42 (dk_at dksX9_go_2 19 rfl rfl)
theorem dX9_go_69 : decode cX9_go 69 = .ok (.aload_n 0, 1) := dk_42 (dk_at dksX9_go_2 22 rfl rfl)
theorem dX9_go_70 : decode cX9_go 70 = .ok (.aload_n 0, 1) := dk_42 (dk_at dksX9_go_2 23 rfl rfl)
theorem dX9_go_71 : decode cX9_go 71 = .ok (.getfield 32, 3) := dk_180 0 32 (dk_at dksX9_go_3 0 rfl rfl)
theorem dX9_go_74 : decode cX9_go 74 = .ok (.invokevirtual 35, 3) := dk_182 0 35 (dk_at dksX9_go_3 3 rfl rfl)
theorem dX9_go_77 : decode cX9_go 77 = .ok (.istore_n 1, 1) := dk_60 (dk_at dksX9_go_3 6 rfl rfl)
theorem dX9_go_78 : decode cX9_go 78 = .ok (.aload_n 0, 1) := dk_42 (dk_at dksX9_go_3 7 rfl rfl)
theorem dX9_go_79 : decode cX9_go 79 = .ok (.getfield 32, 3) := dk_180 0 32 (dk_at dksX9_go_3 8 rfl rfl)
theorem dX9_go_82 : decode cX9_go 82 = .ok (.aload_n 0, 1) := dk_42 (dk_at dksX9_go_3 11 rfl rfl)
theorem dX9_go_83 : decode cX9_go 83 = .ok (.getfield 25, 3) := dk_180 0 25 (dk_at dksX9_go_3 12 rfl rfl)
theorem dX9_go_86 : decode cX9_go 86 = .ok (.if_icmp .lt 13, 3) := dk_161 0 13 (dk_at dksX9_go_3 15 rfl rfl)
theorem dX9_go_89 : decode cX9_go 89 = .ok (.aload_n 0, 1) := dk_42 (dk_at dksX9_go_3 18 rfl rfl)
theorem dX9_go_90 : decode cX9_go 90 = .ok (.getstatic 46, 3) := dk_178 0 46 (dk_at dksX9_go_3 19 rfl rfl)
theorem dX9_go_93 : decode cX9_go 93 = .ok (.putfield 52, 3) := dk_181 0 52 (dk_at dksX9_go_4 0 rfl rfl)
theorem dX9_go_96 : decode cX9_go 96 = .ok (.goto 244, 3) := dk_167 0 244 (dk_at dksX9_go_4 3 rfl rfl)
theorem dX9_go_99 : decode cX9_go 99 = .ok (.iload_n 1, 1) := dk_27 (dk_at dksX9_go_4 6 rfl rfl)
theorem dX9_go_100 : decode cX9_go 100 = .ok (.invokestatic 55, 3) := dk_184 0 55 (dk_at dksX9_go_4 7 rfl rfl)
theorem dX9_go_103 : decode cX9_go 103 = .ok (.ifCond .eq 81, 3) := dk_153 0 81 (dk_at dksX9_go_4 10 rfl rfl)
theorem dX9_go_106 : decode cX9_go 106 = .ok (.new 59, 3) := dk_187 0 59 (dk_at dksX9_go_4 13 rfl rfl)
theorem dX9_go_109 : decode cX9_go 109 = .ok (.dup, 1) := dk_89 (dk_at dksX9_go_4 16 rfl rfl)
theorem dX9_go_110 : decode cX9_go 110 = .ok (.bipush 8, 2) := dk_16 8 (dk_at dksX9_go_4 17 rfl rfl)
theorem dX9_go_112 : decode cX9_go 112 = .ok (.invokespecial 61, 3) := dk_183 0 61 (dk_at dksX9_go_4 19 rfl rfl)
theorem dX9_go_115 : decode cX9_go 115 = .ok (.astore_n 2, 1) := dk_77 (dk_at dksX9_go_4 22 rfl rfl)
theorem dX9_go_116 : decode cX9_go 116 = .ok (.aload_n 0, 1) := dk_42 (dk_at dksX9_go_4 23 rfl rfl)
theorem dX9_go_117 : decode cX9_go 117 = .ok (.aload_n 0, 1) := dk_42 (dk_at dksX9_go_5 0 rfl rfl)
theorem dX9_go_118 : decode cX9_go 118 = .ok (.getfield 32, 3) := dk_180 0 32 (dk_at dksX9_go_5 1 rfl rfl)
theorem dX9_go_121 : decode cX9_go 121 = .ok (.invokevirtual 35, 3) := dk_182 0 35 (dk_at dksX9_go_5 4 rfl rfl)
theorem dX9_go_124 : decode cX9_go 124 = .ok (.invokestatic 55, 3) := dk_184 0 55 (dk_at dksX9_go_5 7 rfl rfl)
theorem dX9_go_127 : decode cX9_go 127 = .ok (.ifCond .eq 39, 3) := dk_153 0 39 (dk_at dksX9_go_5 10 rfl rfl)
theorem dX9_go_130 : decode cX9_go 130 = .ok (.aload_n 2, 1) := dk_44 (dk_at dksX9_go_5 13 rfl rfl)
theorem dX9_go_131 : decode cX9_go 131 = .ok (.invokevirtual 64, 3) := dk_182 0 64 (dk_at dksX9_go_5 14 rfl rfl)
theorem dX9_go_134 : decode cX9_go 134 = .ok (.bipush 8, 2) := dk_16 8 (dk_at dksX9_go_5 17 rfl rfl)
theorem dX9_go_136 : decode cX9_go 136 = .ok (.if_icmp .ge 17, 3) := dk_162 0 17 (dk_at dksX9_go_5 19 rfl rfl)
theorem dX9_go_139 : decode cX9_go 139 = .ok (.aload_n 2, 1) := dk_44 (dk_at dksX9_go_5 22 rfl rfl)
theorem dX9_go_140 : decode cX9_go 140 = .ok (.aload_n 0, 1) := dk_42 (dk_at dksX9_go_5 23 rfl rfl)
theorem dX9_go_141 : decode cX9_go 141 = .ok (.aload_n 0, 1) := dk_42 (dk_at dksX9_go_6 0 rfl rfl)
theorem dX9_go_142 : decode cX9_go 142 = .ok (.getfield 32, 3) := dk_180 0 32 (dk_at dksX9_go_6 1 rfl rfl)
theorem dX9_go_145 : decode cX9_go 145 = .ok (.invokevirtual 35, 3) := dk_182 0 35 (dk_at dksX9_go_6 4 rfl rfl)
theorem dX9_go_148 : decode cX9_go 148 = .ok (.i2c, 1) := dk_146 (dk_at dksX9_go_6 7 rfl rfl)
theorem dX9_go_149 : decode cX9_go 149 = .ok (.invokevirtual 68, 3) := dk_182 0 68 (dk_at dksX9_go_6 8 rfl rfl)
theorem dX9_go_152 : decode cX9_go 152 = .ok (.pop, 1) := dk_87 (dk_at dksX9_go_6 11 rfl rfl)
theorem dX9_go_153 : decode cX9_go 153 = .ok (.aload_n 0, 1) := dk_42 (dk_at dksX9_go_6 12 rfl rfl)
theorem dX9_go_154 : decode cX9_go 154 = .ok (.dup, 1) := dk_89 (dk_at dksX9_go_6 13 rfl rfl)
theorem dX9_go_155 : decode cX9_go 155 = .ok (.getfield 32, 3) := dk_180 0 32 (dk_at dksX9_go_6 14 rfl rfl)
theorem dX9_go_158 : decode cX9_go 158 = .ok (.iconst 1, 1) := dk_4 (dk_at dksX9_go_6 17 rfl rfl)
theorem dX9_go_159 : decode cX9_go 159 = .ok (.iadd, 1) := dk_96 (dk_at dksX9_go_6 18 rfl rfl)
theorem dX9_go_160 : decode cX9_go 160 = .ok (.putfield 32, 3) := dk_181 0 32 (dk_at dksX9_go_6 19 rfl rfl)
theorem dX9_go_163 : decode cX9_go 163 = .ok (.goto (-47), 3) := dk_167 255 209 (dk_at dksX9_go_7 0 rfl rfl)
theorem dX9_go_166 : decode cX9_go 166 = .ok (.aload_n 0, 1) := dk_42 (dk_at dksX9_go_7 3 rfl rfl)
theorem dX9_go_167 : decode cX9_go 167 = .ok (.aload_n 2, 1) := dk_44 (dk_at dksX9_go_7 4 rfl rfl)
theorem dX9_go_168 : decode cX9_go 168 = .ok (.invokevirtual 72, 3) := dk_182 0 72 (dk_at dksX9_go_7 5 rfl rfl)
theorem dX9_go_171 : decode cX9_go 171 = .ok (.putfield 11, 3) := dk_181 0 11 (dk_at dksX9_go_7 8 rfl rfl)
theorem dX9_go_174 : decode cX9_go 174 = .ok (.aload_n 0, 1) := dk_42 (dk_at dksX9_go_7 11 rfl rfl)
theorem dX9_go_175 : decode cX9_go 175 = .ok (.getstatic 76, 3) := dk_178 0 76 (dk_at dksX9_go_7 12 rfl rfl)
theorem dX9_go_178 : decode cX9_go 178 = .ok (.putfield 52, 3) := dk_181 0 52 (dk_at dksX9_go_7 15 rfl rfl)
theorem dX9_go_181 : decode cX9_go 181 = .ok (.goto 159, 3) := dk_167 0 159 (dk_at dksX9_go_7 18 rfl rfl)
theorem dX9_go_184 : decode cX9_go 184 = .ok (.iload_n 1, 1) := dk_27 (dk_at dksX9_go_7 21 rfl rfl)
theorem dX9_go_185 : decode cX9_go 185 = .ok (.invokestatic 79, 3) := dk_184 0 79 (dk_at dksX9_go_8 0 rfl rfl)
theorem dX9_go_188 : decode cX9_go 188 = .ok (.ifCond .eq 103, 3) := dk_153 0 103 (dk_at dksX9_go_8 3 rfl rfl)
theorem dX9_go_191 : decode cX9_go 191 = .ok (.aload_n 0, 1) := dk_42 (dk_at dksX9_go_8 6 rfl rfl)
theorem dX9_go_192 : decode cX9_go 192 = .ok (.iconst 0, 1) := dk_3 (dk_at dksX9_go_8 7 rfl rfl)
theorem dX9_go_193 : decode cX9_go 193 = .ok (.putfield 82, 3) := dk_181 0 82 (dk_at dksX9_go_8 8 rfl rfl)
theorem dX9_go_196 : decode cX9_go 196 = .ok (.aload_n 0, 1) := dk_42 (dk_at dksX9_go_8 11 rfl rfl)
theorem dX9_go_197 : decode cX9_go 197 = .ok (.aload_n 0, 1) := dk_42 (dk_at dksX9_go_8 12 rfl rfl)
theorem dX9_go_198 : decode cX9_go 198 = .ok (.getfield 32, 3) := dk_180 0 32 (dk_at dksX9_go_8 13 rfl rfl)
theorem dX9_go_201 : decode cX9_go 201 = .ok (.invokevirtual 35, 3) := dk_182 0 35 (dk_at dksX9_go_8 16 rfl rfl)
theorem dX9_go_204 : decode cX9_go 204 = .ok (.invokestatic 79, 3) := dk_184 0 79 (dk_at dksX9_go_8 19 rfl rfl)
theorem dX9_go_207 : decode cX9_go 207 = .ok (.ifCond .eq 52, 3) := dk_153 0 52 (dk_at dksX9_go_9 0 rfl rfl)
theorem dX9_go_210 : decode cX9_go 210 = .ok (.aload_n 0, 1) := dk_42 (dk_at dksX9_go_9 3 rfl rfl)
theorem dX9_go_211 : decode cX9_go 211 = .ok (.getfield 32, 3) := dk_180 0 32 (dk_at dksX9_go_9 4 rfl rfl)
theorem dX9_go_214 : decode cX9_go 214 = .ok (.aload_n 0, 1) := dk_42 (dk_at dksX9_go_9 7 rfl rfl)
theorem dX9_go_215 : decode cX9_go 215 = .ok (.getfield 39, 3) := dk_180 0 39 (dk_at dksX9_go_9 8 rfl rfl)
theorem dX9_go_218 : decode cX9_go 218 = .ok (.isub, 1) := dk_100 (dk_at dksX9_go_9 11 rfl rfl)
theorem dX9_go_219 : decode cX9_go 219 = .ok (.iconst 4, 1) := dk_7 (dk_at dksX9_go_9 12 rfl rfl)
theorem dX9_go_220 : decode cX9_go 220 = .ok (.if_icmp .ge 26, 3) := dk_162 0 26 (dk_at dksX9_go_9 13 rfl rfl)
theorem dX9_go_223 : decode cX9_go 223 = .ok (.aload_n 0, 1) := dk_42 (dk_at dksX9_go_9 16 rfl rfl)
theorem dX9_go_224 : decode cX9_go 224 = .ok (.bipush 10, 2) := dk_16 10 (dk_at dksX9_go_9 17 rfl rfl)
theorem dX9_go_226 : decode cX9_go 226 = .ok (.aload_n 0, 1) := dk_42 (dk_at dksX9_go_9 19 rfl rfl)
theorem dX9_go_227 : decode cX9_go 227 = .ok (.getfield 82, 3) := dk_180 0 82 (dk_at dksX9_go_9 20 rfl rfl)
theorem dX9_go_230 : decode cX9_go 230 = .ok (.imul, 1) := dk_104 (dk_at dksX9_go_9 23 rfl rfl)
theorem dX9_go_231 : decode cX9_go 231 = .ok (.aload_n 0, 1) := dk_42 (dk_at dksX9_go_10 0 rfl rfl)
theorem dX9_go_232 : decode cX9_go 232 = .ok (.aload_n 0, 1) := dk_42 (dk_at dksX9_go_10 1 rfl rfl)
theorem dX9_go_233 : decode cX9_go 233 = .ok (.getfield 32, 3) := dk_180 0 32 (dk_at dksX9_go_10 2 rfl rfl)
theorem dX9_go_236 : decode cX9_go 236 = .ok (.invokevirtual 35, 3) := dk_182 0 35 (dk_at dksX9_go_10 5 rfl rfl)
theorem dX9_go_239 : decode cX9_go 239 = .ok (.iadd, 1) := dk_96 (dk_at dksX9_go_10 8 rfl rfl)
theorem dX9_go_240 : decode cX9_go 240 = .ok (.bipush 48, 2) := dk_16 48 (dk_at dksX9_go_10 9 rfl rfl)
theorem dX9_go_242 : decode cX9_go 242 = .ok (.isub, 1) := dk_100 (dk_at dksX9_go_10 11 rfl rfl)
theorem dX9_go_243 : decode cX9_go 243 = .ok (.putfield 82, 3) := dk_181 0 82 (dk_at dksX9_go_10 12 rfl rfl)
theorem dX9_go_246 : decode cX9_go 246 = .ok (.aload_n 0, 1) := dk_42 (dk_at dksX9_go_10 15 rfl rfl)
theorem dX9_go_247 : decode cX9_go 247 = .ok (.dup, 1) := dk_89 (dk_at dksX9_go_10 16 rfl rfl)
theorem dX9_go_248 : decode cX9_go 248 = .ok (.getfield 32, 3) := dk_180 0 32 (dk_at dksX9_go_10 17 rfl rfl)
theorem dX9_go_251 : decode cX9_go 251 = .ok (.iconst 1, 1) := dk_4 (dk_at dksX9_go_10 20 rfl rfl)
theorem dX9_go_252 : decode cX9_go 252 = .ok (.iadd, 1) := dk_96 (dk_at dksX9_go_10 21 rfl rfl)
theorem dX9_go_253 : decode cX9_go 253 = .ok (.putfield 32, 3) := dk_181 0 32 (dk_at dksX9_go_11 0 rfl rfl)
theorem dX9_go_256 : decode cX9_go 256 = .ok (.goto (-60), 3) := dk_167 255 196 (dk_at dksX9_go_11 3 rfl rfl)
theorem dX9_go_259 : decode cX9_go 259 = .ok (.aload_n 0, 1) := dk_42 (dk_at dksX9_go_11 6 rfl rfl)
theorem dX9_go_260 : decode cX9_go 260 = .ok (.aload_n 0, 1) := dk_42 (dk_at dksX9_go_11 7 rfl rfl)
theorem dX9_go_261 : decode cX9_go 261 = .ok (.getfield 32, 3) := dk_180 0 32 (dk_at dksX9_go_11 8 rfl rfl)
theorem dX9_go_264 : decode cX9_go 264 = .ok (.aload_n 0, 1) := dk_42 (dk_at dksX9_go_11 11 rfl rfl)
theorem dX9_go_265 : decode cX9_go 265 = .ok (.getfield 39, 3) := dk_180 0 39 (dk_at dksX9_go_11 12 rfl rfl)
theorem dX9_go_268 : decode cX9_go 268 = .ok (.isub, 1) := dk_100 (dk_at dksX9_go_11 15 rfl rfl)
theorem dX9_go_269 : decode cX9_go 269 = .ok (.iconst 4, 1) := dk_7 (dk_at dksX9_go_11 16 rfl rfl)
theorem dX9_go_270 : decode cX9_go 270 = .ok (.if_icmp .le 7, 3) := dk_164 0 7 (dk_at dksX9_go_11 17 rfl rfl)
theorem dX9_go_273 : decode cX9_go 273 = .ok (.iconst 1, 1) := dk_4 (dk_at dksX9_go_11 20 rfl rfl)
theorem dX9_go_274 : decode cX9_go 274 = .ok (.goto 4, 3) := dk_167 0 4 (dk_at dksX9_go_11 21 rfl rfl)
theorem dX9_go_277 : decode cX9_go 277 = .ok (.iconst 0, 1) := dk_3 (dk_at dksX9_go_12 0 rfl rfl)
theorem dX9_go_278 : decode cX9_go 278 = .ok (.putfield 42, 3) := dk_181 0 42 (dk_at dksX9_go_12 1 rfl rfl)
theorem dX9_go_281 : decode cX9_go 281 = .ok (.aload_n 0, 1) := dk_42 (dk_at dksX9_go_12 4 rfl rfl)
theorem dX9_go_282 : decode cX9_go 282 = .ok (.getstatic 85, 3) := dk_178 0 85 (dk_at dksX9_go_12 5 rfl rfl)
theorem dX9_go_285 : decode cX9_go 285 = .ok (.putfield 52, 3) := dk_181 0 52 (dk_at dksX9_go_12 8 rfl rfl)
theorem dX9_go_288 : decode cX9_go 288 = .ok (.goto 52, 3) := dk_167 0 52 (dk_at dksX9_go_12 11 rfl rfl)
theorem dX9_go_291 : decode cX9_go 291 = .ok (.aload_n 0, 1) := dk_42 (dk_at dksX9_go_12 14 rfl rfl)
theorem dX9_go_292 : decode cX9_go 292 = .ok (.iload_n 1, 1) := dk_27 (dk_at dksX9_go_12 15 rfl rfl)
theorem dX9_go_293 : decode cX9_go 293 = .ok (.invokestatic 88, 3) := dk_184 0 88 (dk_at dksX9_go_12 16 rfl rfl)
theorem dX9_go_296 : decode cX9_go 296 = .ok (.ifCond .eq 9, 3) := dk_153 0 9 (dk_at dksX9_go_12 19 rfl rfl)
theorem dX9_go_299 : decode cX9_go 299 = .ok (.getstatic 91, 3) := dk_178 0 91 (dk_at dksX9_go_13 0 rfl rfl)
theorem dX9_go_302 : decode cX9_go 302 = .ok (.goto 6, 3) := dk_167 0 6 (dk_at dksX9_go_13 3 rfl rfl)
theorem dX9_go_305 : decode cX9_go 305 = .ok (.getstatic 94, 3) := dk_178 0 94 (dk_at dksX9_go_13 6 rfl rfl)
theorem dX9_go_308 : decode cX9_go 308 = .ok (.putfield 52, 3) := dk_181 0 52 (dk_at dksX9_go_13 9 rfl rfl)
theorem dX9_go_311 : decode cX9_go 311 = .ok (.aload_n 0, 1) := dk_42 (dk_at dksX9_go_13 12 rfl rfl)
theorem dX9_go_312 : decode cX9_go 312 = .ok (.getfield 52, 3) := dk_180 0 52 (dk_at dksX9_go_13 13 rfl rfl)
theorem dX9_go_315 : decode cX9_go 315 = .ok (.getstatic 91, 3) := dk_178 0 91 (dk_at dksX9_go_13 16 rfl rfl)
theorem dX9_go_318 : decode cX9_go 318 = .ok (.if_acmp .ne 12, 3) := dk_166 0 12 (dk_at dksX9_go_13 19 rfl rfl)
theorem dX9_go_321 : decode cX9_go 321 = .ok (.aload_n 0, 1) := dk_42 (dk_at dksX9_go_13 22 rfl rfl)
theorem dX9_go_322 : decode cX9_go 322 = .ok (.iload_n 1, 1) := dk_27 (dk_at dksX9_go_13 23 rfl rfl)
theorem dX9_go_323 : decode cX9_go 323 = .ok (.i2c, 1) := dk_146 (dk_at dksX9_go_14 0 rfl rfl)
theorem dX9_go_324 : decode cX9_go 324 = .ok (.invokestatic 97, 3) := dk_184 0 97 (dk_at dksX9_go_14 1 rfl rfl)
theorem dX9_go_327 : decode cX9_go 327 = .ok (.putfield 11, 3) := dk_181 0 11 (dk_at dksX9_go_14 4 rfl rfl)
theorem dX9_go_330 : decode cX9_go 330 = .ok (.aload_n 0, 1) := dk_42 (dk_at dksX9_go_14 7 rfl rfl)
theorem dX9_go_331 : decode cX9_go 331 = .ok (.dup, 1) := dk_89 (dk_at dksX9_go_14 8 rfl rfl)
theorem dX9_go_332 : decode cX9_go 332 = .ok (.getfield 32, 3) := dk_180 0 32 (dk_at dksX9_go_14 9 rfl rfl)
theorem dX9_go_335 : decode cX9_go 335 = .ok (.iconst 1, 1) := dk_4 (dk_at dksX9_go_14 12 rfl rfl)
theorem dX9_go_336 : decode cX9_go 336 = .ok (.iadd, 1) := dk_96 (dk_at dksX9_go_14 13 rfl rfl)
theorem dX9_go_337 : decode cX9_go 337 = .ok (.putfield 32, 3) := dk_181 0 32 (dk_at dksX9_go_14 14 rfl rfl)
theorem dX9_go_340 : decode cX9_go 340 = .ok (.return_, 1) := dk_177 (dk_at dksX9_go_14 17 rfl rfl)
abbrev cX9_byteAt : ByteArray := prog_12_method_2_code
def yX9_byteAt : MethodName := ⟨RX9, "byteAt", "(I)I"⟩
def dkwX9_byteAt_0 : List UInt8 := [27, 42, 180, 0, 25, 162, 0, 16, 42, 180, 0, 21, 27, 51, 17, 0, 255, 126, 167, 0, 4, 3, 172]
abbrev dktX9_byteAt_0 : List UInt8 := dkwX9_byteAt_0 ++ []
theorem dksX9_byteAt_0 : cX9_byteAt.data.toList.drop 0 = dktX9_byteAt_0 := by decide +kernel
theorem dX9_byteAt_0 : decode cX9_byteAt 0 = .ok (.iload_n 1, 1) := dk_27 (dk_at dksX9_byteAt_0 0 rfl rfl)
theorem dX9_byteAt_1 : decode cX9_byteAt 1 = .ok (.aload_n 0, 1) := dk_42 (dk_at dksX9_byteAt_0 1 rfl rfl)
theorem dX9_byteAt_2 : decode cX9_byteAt 2 = .ok (.getfield 25, 3) := dk_180 0 25 (dk_at dksX9_byteAt_0 2 rfl rfl)
theorem dX9_byteAt_5 : decode cX9_byteAt 5 = .ok (.if_icmp .ge 16, 3) := dk_162 0 16 (dk_at dksX9_byteAt_0 5 rfl rfl)
theorem dX9_byteAt_8 : decode cX9_byteAt 8 = .ok (.aload_n 0, 1) := dk_42 (dk_at dksX9_byteAt_0 8 rfl rfl)
theorem dX9_byteAt_9 : decode cX9_byteAt 9 = .ok (.getfield 21, 3) := dk_180 0 21 (dk_at dksX9_byteAt_0 9 rfl rfl)
theorem dX9_byteAt_12 : decode cX9_byteAt 12 = .ok (.iload_n 1, 1) := dk_27 (dk_at dksX9_byteAt_0 12 rfl rfl)
theorem dX9_byteAt_13 : decode cX9_byteAt 13 = .ok (.baload, 1) := dk_51 (dk_at dksX9_byteAt_0 13 rfl rfl)
theorem dX9_byteAt_14 : decode cX9_byteAt 14 = .ok (.sipush 255, 3) := dk_17 0 255 (dk_at dksX9_byteAt_0 14 rfl rfl)
theorem dX9_byteAt_17 : decode cX9_byteAt 17 = .ok (.iand, 1) := dk_126 (dk_at dksX9_byteAt_0 17 rfl rfl)
theorem dX9_byteAt_18 : decode cX9_byteAt 18 = .ok (.goto 4, 3) := dk_167 0 4 (dk_at dksX9_byteAt_0 18 rfl rfl)
theorem dX9_byteAt_21 : decode cX9_byteAt 21 = .ok (.iconst 0, 1) := dk_3 (dk_at dksX9_byteAt_0 21 rfl rfl)
theorem dX9_byteAt_22 : decode cX9_byteAt 22 = .ok (.ireturn, 1) := dk_172 (dk_at dksX9_byteAt_0 22 rfl rfl)
abbrev cX9_isLetter : ByteArray := prog_12_method_3_code
def yX9_isLetter : MethodName := ⟨RX9, "isLetter", "(I)Z"⟩
def dkwX9_isLetter_0 : List UInt8 := [26, 16, 97, 161, 0, 13, 26, 16, 122, 163, 0, 7, 4, 167, 0, 4, 3, 172]
abbrev dktX9_isLetter_0 : List UInt8 := dkwX9_isLetter_0 ++ []
theorem dksX9_isLetter_0 : cX9_isLetter.data.toList.drop 0 = dktX9_isLetter_0 := by decide +kernel
theorem dX9_isLetter_0 : decode cX9_isLetter 0 = .ok (.iload_n 0, 1) := dk_26 (dk_at dksX9_isLetter_0 0 rfl rfl)
theorem dX9_isLetter_1 : decode cX9_isLetter 1 = .ok (.bipush 97, 2) := dk_16 97 (dk_at dksX9_isLetter_0 1 rfl rfl)
theorem dX9_isLetter_3 : decode cX9_isLetter 3 = .ok (.if_icmp .lt 13, 3) := dk_161 0 13 (dk_at dksX9_isLetter_0 3 rfl rfl)
theorem dX9_isLetter_6 : decode cX9_isLetter 6 = .ok (.iload_n 0, 1) := dk_26 (dk_at dksX9_isLetter_0 6 rfl rfl)
theorem dX9_isLetter_7 : decode cX9_isLetter 7 = .ok (.bipush 122, 2) := dk_16 122 (dk_at dksX9_isLetter_0 7 rfl rfl)
theorem dX9_isLetter_9 : decode cX9_isLetter 9 = .ok (.if_icmp .gt 7, 3) := dk_163 0 7 (dk_at dksX9_isLetter_0 9 rfl rfl)
theorem dX9_isLetter_12 : decode cX9_isLetter 12 = .ok (.iconst 1, 1) := dk_4 (dk_at dksX9_isLetter_0 12 rfl rfl)
theorem dX9_isLetter_13 : decode cX9_isLetter 13 = .ok (.goto 4, 3) := dk_167 0 4 (dk_at dksX9_isLetter_0 13 rfl rfl)
theorem dX9_isLetter_16 : decode cX9_isLetter 16 = .ok (.iconst 0, 1) := dk_3 (dk_at dksX9_isLetter_0 16 rfl rfl)
theorem dX9_isLetter_17 : decode cX9_isLetter 17 = .ok (.ireturn, 1) := dk_172 (dk_at dksX9_isLetter_0 17 rfl rfl)
abbrev cX9_isDigit : ByteArray := prog_12_method_4_code
def yX9_isDigit : MethodName := ⟨RX9, "isDigit", "(I)Z"⟩
def dkwX9_isDigit_0 : List UInt8 := [26, 16, 48, 161, 0, 13, 26, 16, 57, 163, 0, 7, 4, 167, 0, 4, 3, 172]
abbrev dktX9_isDigit_0 : List UInt8 := dkwX9_isDigit_0 ++ []
theorem dksX9_isDigit_0 : cX9_isDigit.data.toList.drop 0 = dktX9_isDigit_0 := by decide +kernel
theorem dX9_isDigit_0 : decode cX9_isDigit 0 = .ok (.iload_n 0, 1) := dk_26 (dk_at dksX9_isDigit_0 0 rfl rfl)
theorem dX9_isDigit_1 : decode cX9_isDigit 1 = .ok (.bipush 48, 2) := dk_16 48 (dk_at dksX9_isDigit_0 1 rfl rfl)
theorem dX9_isDigit_3 : decode cX9_isDigit 3 = .ok (.if_icmp .lt 13, 3) := dk_161 0 13 (dk_at dksX9_isDigit_0 3 rfl rfl)
theorem dX9_isDigit_6 : decode cX9_isDigit 6 = .ok (.iload_n 0, 1) := dk_26 (dk_at dksX9_isDigit_0 6 rfl rfl)
theorem dX9_isDigit_7 : decode cX9_isDigit 7 = .ok (.bipush 57, 2) := dk_16 57 (dk_at dksX9_isDigit_0 7 rfl rfl)
theorem dX9_isDigit_9 : decode cX9_isDigit 9 = .ok (.if_icmp .gt 7, 3) := dk_163 0 7 (dk_at dksX9_isDigit_0 9 rfl rfl)
theorem dX9_isDigit_12 : decode cX9_isDigit 12 = .ok (.iconst 1, 1) := dk_4 (dk_at dksX9_isDigit_0 12 rfl rfl)
theorem dX9_isDigit_13 : decode cX9_isDigit 13 = .ok (.goto 4, 3) := dk_167 0 4 (dk_at dksX9_isDigit_0 13 rfl rfl)
theorem dX9_isDigit_16 : decode cX9_isDigit 16 = .ok (.iconst 0, 1) := dk_3 (dk_at dksX9_isDigit_0 16 rfl rfl)
theorem dX9_isDigit_17 : decode cX9_isDigit 17 = .ok (.ireturn, 1) := dk_172 (dk_at dksX9_isDigit_0 17 rfl rfl)
abbrev cX9_isSign : ByteArray := prog_12_method_5_code
def yX9_isSign : MethodName := ⟨RX9, "isSign", "(I)Z"⟩
def dkwX9_isSign_2 : List UInt8 := [26, 16, 61, 160, 0, 7, 4, 167, 0, 4, 3, 172]
abbrev dktX9_isSign_2 : List UInt8 := dkwX9_isSign_2 ++ []
def dkwX9_isSign_1 : List UInt8 := [26, 16, 45, 159, 0, 27, 26, 16, 42, 159, 0, 21, 26, 16, 47, 159, 0, 15, 26, 16, 60, 159, 0, 9]
abbrev dktX9_isSign_1 : List UInt8 := dkwX9_isSign_1 ++ dktX9_isSign_2
def dkwX9_isSign_0 : List UInt8 := [26, 16, 59, 159, 0, 51, 26, 16, 40, 159, 0, 45, 26, 16, 41, 159, 0, 39, 26, 16, 43, 159, 0, 33]
abbrev dktX9_isSign_0 : List UInt8 := dkwX9_isSign_0 ++ dktX9_isSign_1
theorem dksX9_isSign_0 : cX9_isSign.data.toList.drop 0 = dktX9_isSign_0 := by decide +kernel
theorem dksX9_isSign_1 : cX9_isSign.data.toList.drop 24 = dktX9_isSign_1 := dk_seg dksX9_isSign_0 24 rfl rfl
theorem dksX9_isSign_2 : cX9_isSign.data.toList.drop 48 = dktX9_isSign_2 := dk_seg dksX9_isSign_1 24 rfl rfl
theorem dX9_isSign_0 : decode cX9_isSign 0 = .ok (.iload_n 0, 1) := dk_26 (dk_at dksX9_isSign_0 0 rfl rfl)
theorem dX9_isSign_1 : decode cX9_isSign 1 = .ok (.bipush 59, 2) := dk_16 59 (dk_at dksX9_isSign_0 1 rfl rfl)
theorem dX9_isSign_3 : decode cX9_isSign 3 = .ok (.if_icmp .eq 51, 3) := dk_159 0 51 (dk_at dksX9_isSign_0 3 rfl rfl)
theorem dX9_isSign_6 : decode cX9_isSign 6 = .ok (.iload_n 0, 1) := dk_26 (dk_at dksX9_isSign_0 6 rfl rfl)
theorem dX9_isSign_7 : decode cX9_isSign 7 = .ok (.bipush 40, 2) := dk_16 40 (dk_at dksX9_isSign_0 7 rfl rfl)
theorem dX9_isSign_9 : decode cX9_isSign 9 = .ok (.if_icmp .eq 45, 3) := dk_159 0 45 (dk_at dksX9_isSign_0 9 rfl rfl)
theorem dX9_isSign_12 : decode cX9_isSign 12 = .ok (.iload_n 0, 1) := dk_26 (dk_at dksX9_isSign_0 12 rfl rfl)
theorem dX9_isSign_13 : decode cX9_isSign 13 = .ok (.bipush 41, 2) := dk_16 41 (dk_at dksX9_isSign_0 13 rfl rfl)
theorem dX9_isSign_15 : decode cX9_isSign 15 = .ok (.if_icmp .eq 39, 3) := dk_159 0 39 (dk_at dksX9_isSign_0 15 rfl rfl)
theorem dX9_isSign_18 : decode cX9_isSign 18 = .ok (.iload_n 0, 1) := dk_26 (dk_at dksX9_isSign_0 18 rfl rfl)
theorem dX9_isSign_19 : decode cX9_isSign 19 = .ok (.bipush 43, 2) := dk_16 43 (dk_at dksX9_isSign_0 19 rfl rfl)
theorem dX9_isSign_21 : decode cX9_isSign 21 = .ok (.if_icmp .eq 33, 3) := dk_159 0 33 (dk_at dksX9_isSign_0 21 rfl rfl)
theorem dX9_isSign_24 : decode cX9_isSign 24 = .ok (.iload_n 0, 1) := dk_26 (dk_at dksX9_isSign_1 0 rfl rfl)
theorem dX9_isSign_25 : decode cX9_isSign 25 = .ok (.bipush 45, 2) := dk_16 45 (dk_at dksX9_isSign_1 1 rfl rfl)
theorem dX9_isSign_27 : decode cX9_isSign 27 = .ok (.if_icmp .eq 27, 3) := dk_159 0 27 (dk_at dksX9_isSign_1 3 rfl rfl)
theorem dX9_isSign_30 : decode cX9_isSign 30 = .ok (.iload_n 0, 1) := dk_26 (dk_at dksX9_isSign_1 6 rfl rfl)
theorem dX9_isSign_31 : decode cX9_isSign 31 = .ok (.bipush 42, 2) := dk_16 42 (dk_at dksX9_isSign_1 7 rfl rfl)
theorem dX9_isSign_33 : decode cX9_isSign 33 = .ok (.if_icmp .eq 21, 3) := dk_159 0 21 (dk_at dksX9_isSign_1 9 rfl rfl)
theorem dX9_isSign_36 : decode cX9_isSign 36 = .ok (.iload_n 0, 1) := dk_26 (dk_at dksX9_isSign_1 12 rfl rfl)
theorem dX9_isSign_37 : decode cX9_isSign 37 = .ok (.bipush 47, 2) := dk_16 47 (dk_at dksX9_isSign_1 13 rfl rfl)
theorem dX9_isSign_39 : decode cX9_isSign 39 = .ok (.if_icmp .eq 15, 3) := dk_159 0 15 (dk_at dksX9_isSign_1 15 rfl rfl)
theorem dX9_isSign_42 : decode cX9_isSign 42 = .ok (.iload_n 0, 1) := dk_26 (dk_at dksX9_isSign_1 18 rfl rfl)
theorem dX9_isSign_43 : decode cX9_isSign 43 = .ok (.bipush 60, 2) := dk_16 60 (dk_at dksX9_isSign_1 19 rfl rfl)
theorem dX9_isSign_45 : decode cX9_isSign 45 = .ok (.if_icmp .eq 9, 3) := dk_159 0 9 (dk_at dksX9_isSign_1 21 rfl rfl)
theorem dX9_isSign_48 : decode cX9_isSign 48 = .ok (.iload_n 0, 1) := dk_26 (dk_at dksX9_isSign_2 0 rfl rfl)
theorem dX9_isSign_49 : decode cX9_isSign 49 = .ok (.bipush 61, 2) := dk_16 61 (dk_at dksX9_isSign_2 1 rfl rfl)
theorem dX9_isSign_51 : decode cX9_isSign 51 = .ok (.if_icmp .ne 7, 3) := dk_160 0 7 (dk_at dksX9_isSign_2 3 rfl rfl)
theorem dX9_isSign_54 : decode cX9_isSign 54 = .ok (.iconst 1, 1) := dk_4 (dk_at dksX9_isSign_2 6 rfl rfl)
theorem dX9_isSign_55 : decode cX9_isSign 55 = .ok (.goto 4, 3) := dk_167 0 4 (dk_at dksX9_isSign_2 7 rfl rfl)
theorem dX9_isSign_58 : decode cX9_isSign 58 = .ok (.iconst 0, 1) := dk_3 (dk_at dksX9_isSign_2 10 rfl rfl)
theorem dX9_isSign_59 : decode cX9_isSign 59 = .ok (.ireturn, 1) := dk_172 (dk_at dksX9_isSign_2 11 rfl rfl)
abbrev cX9_bed : ByteArray := prog_12_method_14_code
def yX9_bed : MethodName := ⟨RX9, "bed", "()LSpoonRow$Bed;"⟩
def dkwX9_bed_13 : List UInt8 := [182, 0, 193, 167, 254, 216, 43, 176]
abbrev dktX9_bed_13 : List UInt8 := dkwX9_bed_13 ++ []
def dkwX9_bed_12 : List UInt8 := [16, 7, 162, 0, 7, 4, 167, 0, 4, 3, 5, 182, 0, 116, 42, 43, 182, 0, 189, 42, 18, 191]
abbrev dktX9_bed_12 : List UInt8 := dkwX9_bed_12 ++ dktX9_bed_13
def dkwX9_bed_11 : List UInt8 := [182, 0, 112, 153, 0, 7, 4, 167, 0, 4, 3, 4, 182, 0, 116, 42, 43, 180, 0, 181, 182, 0, 185]
abbrev dktX9_bed_11 : List UInt8 := dkwX9_bed_11 ++ dktX9_bed_12
def dkwX9_bed_10 : List UInt8 := [154, 0, 30, 42, 18, 175, 182, 0, 112, 154, 0, 21, 42, 18, 177, 182, 0, 112, 154, 0, 12, 42, 18, 179]
abbrev dktX9_bed_10 : List UInt8 := dkwX9_bed_10 ++ dktX9_bed_11
def dkwX9_bed_9 : List UInt8 := [182, 0, 116, 42, 182, 0, 29, 42, 43, 182, 0, 170, 167, 0, 76, 42, 42, 18, 173, 182, 0, 112]
abbrev dktX9_bed_9 : List UInt8 := dkwX9_bed_9 ++ dktX9_bed_10
def dkwX9_bed_8 : List UInt8 := [18, 165, 182, 0, 112, 153, 0, 34, 42, 43, 180, 0, 167, 16, 6, 162, 0, 7, 4, 167, 0, 4, 3, 5]
abbrev dktX9_bed_8 : List UInt8 := dkwX9_bed_8 ++ dktX9_bed_9
def dkwX9_bed_7 : List UInt8 := [8, 182, 0, 116, 42, 182, 0, 29, 43, 89, 180, 0, 162, 4, 28, 120, 128, 181, 0, 162, 167, 0, 116, 42]
abbrev dktX9_bed_7 : List UInt8 := dkwX9_bed_7 ++ dktX9_bed_8
def dkwX9_bed_6 : List UInt8 := [4, 16, 6, 182, 0, 159, 61, 42, 43, 180, 0, 162, 28, 122, 4, 126, 154, 0, 7, 4, 167, 0, 4, 3]
abbrev dktX9_bed_6 : List UInt8 := dkwX9_bed_6 ++ dktX9_bed_7
def dkwX9_bed_5 : List UInt8 := [3, 182, 0, 150, 181, 0, 154, 167, 0, 177, 42, 18, 157, 182, 0, 112, 153, 0, 55, 42, 182, 0, 29, 42]
abbrev dktX9_bed_5 : List UInt8 := dkwX9_bed_5 ++ dktX9_bed_6
def dkwX9_bed_4 : List UInt8 := [3, 16, 60, 182, 0, 129, 181, 0, 146, 167, 0, 199, 42, 18, 148, 6, 182, 0, 125, 153, 0, 15, 43, 42]
abbrev dktX9_bed_4 : List UInt8 := dkwX9_bed_4 ++ dktX9_bed_5
def dkwX9_bed_3 : List UInt8 := [17, 2, 88, 182, 0, 129, 181, 0, 141, 167, 0, 223, 42, 18, 144, 5, 182, 0, 125, 153, 0, 17, 43, 42]
abbrev dktX9_bed_3 : List UInt8 := dkwX9_bed_3 ++ dktX9_bed_4
def dkwX9_bed_2 : List UInt8 := [182, 0, 129, 181, 0, 136, 167, 0, 248, 42, 18, 139, 4, 182, 0, 125, 153, 0, 18, 43, 42, 4]
abbrev dktX9_bed_2 : List UInt8 := dkwX9_bed_2 ++ dktX9_bed_3
def dkwX9_bed_1 : List UInt8 := [182, 0, 125, 153, 0, 28, 43, 42, 4, 16, 99, 182, 0, 129, 181, 0, 133, 43, 42, 3, 16, 9]
abbrev dktX9_bed_1 : List UInt8 := dkwX9_bed_1 ++ dktX9_bed_2
def dkwX9_bed_0 : List UInt8 := [187, 0, 120, 89, 183, 0, 122, 76, 42, 180, 0, 52, 178, 0, 46, 165, 1, 36, 42, 18, 123, 3]
abbrev dktX9_bed_0 : List UInt8 := dkwX9_bed_0 ++ dktX9_bed_1
theorem dksX9_bed_0 : cX9_bed.data.toList.drop 0 = dktX9_bed_0 := by decide +kernel
theorem dksX9_bed_1 : cX9_bed.data.toList.drop 22 = dktX9_bed_1 := dk_seg dksX9_bed_0 22 rfl rfl
theorem dksX9_bed_2 : cX9_bed.data.toList.drop 44 = dktX9_bed_2 := dk_seg dksX9_bed_1 22 rfl rfl
theorem dksX9_bed_3 : cX9_bed.data.toList.drop 66 = dktX9_bed_3 := dk_seg dksX9_bed_2 22 rfl rfl
theorem dksX9_bed_4 : cX9_bed.data.toList.drop 90 = dktX9_bed_4 := dk_seg dksX9_bed_3 24 rfl rfl
theorem dksX9_bed_5 : cX9_bed.data.toList.drop 114 = dktX9_bed_5 := dk_seg dksX9_bed_4 24 rfl rfl
theorem dksX9_bed_6 : cX9_bed.data.toList.drop 138 = dktX9_bed_6 := dk_seg dksX9_bed_5 24 rfl rfl
theorem dksX9_bed_7 : cX9_bed.data.toList.drop 162 = dktX9_bed_7 := dk_seg dksX9_bed_6 24 rfl rfl
theorem dksX9_bed_8 : cX9_bed.data.toList.drop 186 = dktX9_bed_8 := dk_seg dksX9_bed_7 24 rfl rfl
theorem dksX9_bed_9 : cX9_bed.data.toList.drop 210 = dktX9_bed_9 := dk_seg dksX9_bed_8 24 rfl rfl
theorem dksX9_bed_10 : cX9_bed.data.toList.drop 232 = dktX9_bed_10 := dk_seg dksX9_bed_9 22 rfl rfl
theorem dksX9_bed_11 : cX9_bed.data.toList.drop 256 = dktX9_bed_11 := dk_seg dksX9_bed_10 24 rfl rfl
theorem dksX9_bed_12 : cX9_bed.data.toList.drop 279 = dktX9_bed_12 := dk_seg dksX9_bed_11 23 rfl rfl
theorem dksX9_bed_13 : cX9_bed.data.toList.drop 301 = dktX9_bed_13 := dk_seg dksX9_bed_12 22 rfl rfl
theorem dX9_bed_0 : decode cX9_bed 0 = .ok (.new 120, 3) := dk_187 0 120 (dk_at dksX9_bed_0 0 rfl rfl)
theorem dX9_bed_3 : decode cX9_bed 3 = .ok (.dup, 1) := dk_89 (dk_at dksX9_bed_0 3 rfl rfl)
theorem dX9_bed_4 : decode cX9_bed 4 = .ok (.invokespecial 122, 3) := dk_183 0 122 (dk_at dksX9_bed_0 4 rfl rfl)
theorem dX9_bed_7 : decode cX9_bed 7 = .ok (.astore_n 1, 1) := dk_76 (dk_at dksX9_bed_0 7 rfl rfl)
theorem dX9_bed_8 : decode cX9_bed 8 = .ok (.aload_n 0, 1) := dk_42 (dk_at dksX9_bed_0 8 rfl rfl)
theorem dX9_bed_9 : decode cX9_bed 9 = .ok (.getfield 52, 3) := dk_180 0 52 (dk_at dksX9_bed_0 9 rfl rfl)
theorem dX9_bed_12 : decode cX9_bed 12 = .ok (.getstatic 46, 3) := dk_178 0 46 (dk_at dksX9_bed_0 12 rfl rfl)
theorem dX9_bed_15 : decode cX9_bed 15 = .ok (.if_acmp .eq 292, 3) := dk_165 1 36 (dk_at dksX9_bed_0 15 rfl rfl)
theorem dX9_bed_18 : decode cX9_bed 18 = .ok (.aload_n 0, 1) := dk_42 (dk_at dksX9_bed_0 18 rfl rfl)
theorem dX9_bed_19 : decode cX9_bed 19 = .ok (.ldc 123, 2) := dk_18 123 (dk_at dksX9_bed_0 19 rfl rfl)
theorem dX9_bed_21 : decode cX9_bed 21 = .ok (.iconst 0, 1) := dk_3 (dk_at dksX9_bed_0 21 rfl rfl)
theorem dX9_bed_22 : decode cX9_bed 22 = .ok (.invokevirtual 125, 3) := dk_182 0 125 (dk_at dksX9_bed_1 0 rfl rfl)
theorem dX9_bed_25 : decode cX9_bed 25 = .ok (.ifCond .eq 28, 3) := dk_153 0 28 (dk_at dksX9_bed_1 3 rfl rfl)
theorem dX9_bed_28 : decode cX9_bed 28 = .ok (.aload_n 1, 1) := dk_43 (dk_at dksX9_bed_1 6 rfl rfl)
theorem dX9_bed_29 : decode cX9_bed 29 = .ok (.aload_n 0, 1) := dk_42 (dk_at dksX9_bed_1 7 rfl rfl)
theorem dX9_bed_30 : decode cX9_bed 30 = .ok (.iconst 1, 1) := dk_4 (dk_at dksX9_bed_1 8 rfl rfl)
theorem dX9_bed_31 : decode cX9_bed 31 = .ok (.bipush 99, 2) := dk_16 99 (dk_at dksX9_bed_1 9 rfl rfl)
theorem dX9_bed_33 : decode cX9_bed 33 = .ok (.invokevirtual 129, 3) := dk_182 0 129 (dk_at dksX9_bed_1 11 rfl rfl)
theorem dX9_bed_36 : decode cX9_bed 36 = .ok (.putfield 133, 3) := dk_181 0 133 (dk_at dksX9_bed_1 14 rfl rfl)
theorem dX9_bed_39 : decode cX9_bed 39 = .ok (.aload_n 1, 1) := dk_43 (dk_at dksX9_bed_1 17 rfl rfl)
theorem dX9_bed_40 : decode cX9_bed 40 = .ok (.aload_n 0, 1) := dk_42 (dk_at dksX9_bed_1 18 rfl rfl)
theorem dX9_bed_41 : decode cX9_bed 41 = .ok (.iconst 0, 1) := dk_3 (dk_at dksX9_bed_1 19 rfl rfl)
theorem dX9_bed_42 : decode cX9_bed 42 = .ok (.bipush 9, 2) := dk_16 9 (dk_at dksX9_bed_1 20 rfl rfl)
theorem dX9_bed_44 : decode cX9_bed 44 = .ok (.invokevirtual 129, 3) := dk_182 0 129 (dk_at dksX9_bed_2 0 rfl rfl)
theorem dX9_bed_47 : decode cX9_bed 47 = .ok (.putfield 136, 3) := dk_181 0 136 (dk_at dksX9_bed_2 3 rfl rfl)
theorem dX9_bed_50 : decode cX9_bed 50 = .ok (.goto 248, 3) := dk_167 0 248 (dk_at dksX9_bed_2 6 rfl rfl)
theorem dX9_bed_53 : decode cX9_bed 53 = .ok (.aload_n 0, 1) := dk_42 (dk_at dksX9_bed_2 9 rfl rfl)
theorem dX9_bed_54 : decode cX9_bed 54 = .ok (.ldc 139, 2) := dk_18 139 (dk_at dksX9_bed_2 10 rfl rfl)
theorem dX9_bed_56 : decode cX9_bed 56 = .ok (.iconst 1, 1) := dk_4 (dk_at dksX9_bed_2 12 rfl rfl)
theorem dX9_bed_57 : decode cX9_bed 57 = .ok (.invokevirtual 125, 3) := dk_182 0 125 (dk_at dksX9_bed_2 13 rfl rfl)
theorem dX9_bed_60 : decode cX9_bed 60 = .ok (.ifCond .eq 18, 3) := dk_153 0 18 (dk_at dksX9_bed_2 16 rfl rfl)
theorem dX9_bed_63 : decode cX9_bed 63 = .ok (.aload_n 1, 1) := dk_43 (dk_at dksX9_bed_2 19 rfl rfl)
theorem dX9_bed_64 : decode cX9_bed 64 = .ok (.aload_n 0, 1) := dk_42 (dk_at dksX9_bed_2 20 rfl rfl)
theorem dX9_bed_65 : decode cX9_bed 65 = .ok (.iconst 1, 1) := dk_4 (dk_at dksX9_bed_2 21 rfl rfl)
theorem dX9_bed_66 : decode cX9_bed 66 = .ok (.sipush 600, 3) := dk_17 2 88 (dk_at dksX9_bed_3 0 rfl rfl)
theorem dX9_bed_69 : decode cX9_bed 69 = .ok (.invokevirtual 129, 3) := dk_182 0 129 (dk_at dksX9_bed_3 3 rfl rfl)
theorem dX9_bed_72 : decode cX9_bed 72 = .ok (.putfield 141, 3) := dk_181 0 141 (dk_at dksX9_bed_3 6 rfl rfl)
theorem dX9_bed_75 : decode cX9_bed 75 = .ok (.goto 223, 3) := dk_167 0 223 (dk_at dksX9_bed_3 9 rfl rfl)
theorem dX9_bed_78 : decode cX9_bed 78 = .ok (.aload_n 0, 1) := dk_42 (dk_at dksX9_bed_3 12 rfl rfl)
theorem dX9_bed_79 : decode cX9_bed 79 = .ok (.ldc 144, 2) := dk_18 144 (dk_at dksX9_bed_3 13 rfl rfl)
theorem dX9_bed_81 : decode cX9_bed 81 = .ok (.iconst 2, 1) := dk_5 (dk_at dksX9_bed_3 15 rfl rfl)
theorem dX9_bed_82 : decode cX9_bed 82 = .ok (.invokevirtual 125, 3) := dk_182 0 125 (dk_at dksX9_bed_3 16 rfl rfl)
theorem dX9_bed_85 : decode cX9_bed 85 = .ok (.ifCond .eq 17, 3) := dk_153 0 17 (dk_at dksX9_bed_3 19 rfl rfl)
theorem dX9_bed_88 : decode cX9_bed 88 = .ok (.aload_n 1, 1) := dk_43 (dk_at dksX9_bed_3 22 rfl rfl)
theorem dX9_bed_89 : decode cX9_bed 89 = .ok (.aload_n 0, 1) := dk_42 (dk_at dksX9_bed_3 23 rfl rfl)
theorem dX9_bed_90 : decode cX9_bed 90 = .ok (.iconst 0, 1) := dk_3 (dk_at dksX9_bed_4 0 rfl rfl)
theorem dX9_bed_91 : decode cX9_bed 91 = .ok (.bipush 60, 2) := dk_16 60 (dk_at dksX9_bed_4 1 rfl rfl)
theorem dX9_bed_93 : decode cX9_bed 93 = .ok (.invokevirtual 129, 3) := dk_182 0 129 (dk_at dksX9_bed_4 3 rfl rfl)
theorem dX9_bed_96 : decode cX9_bed 96 = .ok (.putfield 146, 3) := dk_181 0 146 (dk_at dksX9_bed_4 6 rfl rfl)
theorem dX9_bed_99 : decode cX9_bed 99 = .ok (.goto 199, 3) := dk_167 0 199 (dk_at dksX9_bed_4 9 rfl rfl)
theorem dX9_bed_102 : decode cX9_bed 102 = .ok (.aload_n 0, 1) := dk_42 (dk_at dksX9_bed_4 12 rfl rfl)
theorem dX9_bed_103 : decode cX9_bed 103 = .ok (.ldc 148, 2) := dk_18 148 (dk_at dksX9_bed_4 13 rfl rfl)
theorem dX9_bed_105 : decode cX9_bed 105 = .ok (.iconst 3, 1) := dk_6 (dk_at dksX9_bed_4 15 rfl rfl)
theorem dX9_bed_106 : decode cX9_bed 106 = .ok (.invokevirtual 125, 3) := dk_182 0 125 (dk_at dksX9_bed_4 16 rfl rfl)
theorem dX9_bed_109 : decode cX9_bed 109 = .ok (.ifCond .eq 15, 3) := dk_153 0 15 (dk_at dksX9_bed_4 19 rfl rfl)
theorem dX9_bed_112 : decode cX9_bed 112 = .ok (.aload_n 1, 1) := dk_43 (dk_at dksX9_bed_4 22 rfl rfl)
theorem dX9_bed_113 : decode cX9_bed 113 = .ok (.aload_n 0, 1) := dk_42 (dk_at dksX9_bed_4 23 rfl rfl)
theorem dX9_bed_114 : decode cX9_bed 114 = .ok (.iconst 0, 1) := dk_3 (dk_at dksX9_bed_5 0 rfl rfl)
theorem dX9_bed_115 : decode cX9_bed 115 = .ok (.invokevirtual 150, 3) := dk_182 0 150 (dk_at dksX9_bed_5 1 rfl rfl)
theorem dX9_bed_118 : decode cX9_bed 118 = .ok (.putfield 154, 3) := dk_181 0 154 (dk_at dksX9_bed_5 4 rfl rfl)
theorem dX9_bed_121 : decode cX9_bed 121 = .ok (.goto 177, 3) := dk_167 0 177 (dk_at dksX9_bed_5 7 rfl rfl)
theorem dX9_bed_124 : decode cX9_bed 124 = .ok (.aload_n 0, 1) := dk_42 (dk_at dksX9_bed_5 10 rfl rfl)
theorem dX9_bed_125 : decode cX9_bed 125 = .ok (.ldc 157, 2) := dk_18 157 (dk_at dksX9_bed_5 11 rfl rfl)
theorem dX9_bed_127 : decode cX9_bed 127 = .ok (.invokevirtual 112, 3) := dk_182 0 112 (dk_at dksX9_bed_5 13 rfl rfl)
theorem dX9_bed_130 : decode cX9_bed 130 = .ok (.ifCond .eq 55, 3) := dk_153 0 55 (dk_at dksX9_bed_5 16 rfl rfl)
theorem dX9_bed_133 : decode cX9_bed 133 = .ok (.aload_n 0, 1) := dk_42 (dk_at dksX9_bed_5 19 rfl rfl)
theorem dX9_bed_134 : decode cX9_bed 134 = .ok (.invokevirtual 29, 3) := dk_182 0 29 (dk_at dksX9_bed_5 20 rfl rfl)
theorem dX9_bed_137 : decode cX9_bed 137 = .ok (.aload_n 0, 1) := dk_42 (dk_at dksX9_bed_5 23 rfl rfl)
theorem dX9_bed_138 : decode cX9_bed 138 = .ok (.iconst 1, 1) := dk_4 (dk_at dksX9_bed_6 0 rfl rfl)
theorem dX9_bed_139 : decode cX9_bed 139 = .ok (.bipush 6, 2) := dk_16 6 (dk_at dksX9_bed_6 1 rfl rfl)
theorem dX9_bed_141 : decode cX9_bed 141 = .ok (.invokevirtual 159, 3) := dk_182 0 159 (dk_at dksX9_bed_6 3 rfl rfl)
theorem dX9_bed_144 : decode cX9_bed 144 = .ok (.istore_n 2, 1) := dk_61 (dk_at dksX9_bed_6 6 rfl rfl)
theorem dX9_bed_145 : decode cX9_bed 145 = .ok (.aload_n 0, 1) := dk_42 (dk_at dksX9_bed_6 7 rfl rfl)
theorem dX9_bed_146 : decode cX9_bed 146 = .ok (.aload_n 1, 1) := dk_43 (dk_at dksX9_bed_6 8 rfl rfl)
theorem dX9_bed_147 : decode cX9_bed 147 = .ok (.getfield 162, 3) := dk_180 0 162 (dk_at dksX9_bed_6 9 rfl rfl)
theorem dX9_bed_150 : decode cX9_bed 150 = .ok (.iload_n 2, 1) := dk_28 (dk_at dksX9_bed_6 12 rfl rfl)
theorem dX9_bed_151 : decode cX9_bed 151 = .ok (.ishr, 1) := dk_122 (dk_at dksX9_bed_6 13 rfl rfl)
theorem dX9_bed_152 : decode cX9_bed 152 = .ok (.iconst 1, 1) := dk_4 (dk_at dksX9_bed_6 14 rfl rfl)
theorem dX9_bed_153 : decode cX9_bed 153 = .ok (.iand, 1) := dk_126 (dk_at dksX9_bed_6 15 rfl rfl)
theorem dX9_bed_154 : decode cX9_bed 154 = .ok (.ifCond .ne 7, 3) := dk_154 0 7 (dk_at dksX9_bed_6 16 rfl rfl)
theorem dX9_bed_157 : decode cX9_bed 157 = .ok (.iconst 1, 1) := dk_4 (dk_at dksX9_bed_6 19 rfl rfl)
theorem dX9_bed_158 : decode cX9_bed 158 = .ok (.goto 4, 3) := dk_167 0 4 (dk_at dksX9_bed_6 20 rfl rfl)
theorem dX9_bed_161 : decode cX9_bed 161 = .ok (.iconst 0, 1) := dk_3 (dk_at dksX9_bed_6 23 rfl rfl)
theorem dX9_bed_162 : decode cX9_bed 162 = .ok (.iconst 5, 1) := dk_8 (dk_at dksX9_bed_7 0 rfl rfl)
theorem dX9_bed_163 : decode cX9_bed 163 = .ok (.invokevirtual 116, 3) := dk_182 0 116 (dk_at dksX9_bed_7 1 rfl rfl)
theorem dX9_bed_166 : decode cX9_bed 166 = .ok (.aload_n 0, 1) := dk_42 (dk_at dksX9_bed_7 4 rfl rfl)
theorem dX9_bed_167 : decode cX9_bed 167 = .ok (.invokevirtual 29, 3) := dk_182 0 29 (dk_at dksX9_bed_7 5 rfl rfl)
theorem dX9_bed_170 : decode cX9_bed 170 = .ok (.aload_n 1, 1) := dk_43 (dk_at dksX9_bed_7 8 rfl rfl)
theorem dX9_bed_171 : decode cX9_bed 171 = .ok (.dup, 1) := dk_89 (dk_at dksX9_bed_7 9 rfl rfl)
theorem dX9_bed_172 : decode cX9_bed 172 = .ok (.getfield 162, 3) := dk_180 0 162 (dk_at dksX9_bed_7 10 rfl rfl)
theorem dX9_bed_175 : decode cX9_bed 175 = .ok (.iconst 1, 1) := dk_4 (dk_at dksX9_bed_7 13 rfl rfl)
theorem dX9_bed_176 : decode cX9_bed 176 = .ok (.iload_n 2, 1) := dk_28 (dk_at dksX9_bed_7 14 rfl rfl)
theorem dX9_bed_177 : decode cX9_bed 177 = .ok (.ishl, 1) := dk_120 (dk_at dksX9_bed_7 15 rfl rfl)
theorem dX9_bed_178 : decode cX9_bed 178 = .ok (.ior, 1) := dk_128 (dk_at dksX9_bed_7 16 rfl rfl)
theorem dX9_bed_179 : decode cX9_bed 179 = .ok (.putfield 162, 3) := dk_181 0 162 (dk_at dksX9_bed_7 17 rfl rfl)
theorem dX9_bed_182 : decode cX9_bed 182 = .ok (.goto 116, 3) := dk_167 0 116 (dk_at dksX9_bed_7 20 rfl rfl)
theorem dX9_bed_185 : decode cX9_bed 185 = .ok (.aload_n 0, 1) := dk_42 (dk_at dksX9_bed_7 23 rfl rfl)
theorem dX9_bed_186 : decode cX9_bed 186 = .ok (.ldc 165, 2) := dk_18 165 (dk_at dksX9_bed_8 0 rfl rfl)
theorem dX9_bed_188 : decode cX9_bed 188 = .ok (.invokevirtual 112, 3) := dk_182 0 112 (dk_at dksX9_bed_8 2 rfl rfl)
theorem dX9_bed_191 : decode cX9_bed 191 = .ok (.ifCond .eq 34, 3) := dk_153 0 34 (dk_at dksX9_bed_8 5 rfl rfl)
theorem dX9_bed_194 : decode cX9_bed 194 = .ok (.aload_n 0, 1) := dk_42 (dk_at dksX9_bed_8 8 rfl rfl)
theorem dX9_bed_195 : decode cX9_bed 195 = .ok (.aload_n 1, 1) := dk_43 (dk_at dksX9_bed_8 9 rfl rfl)
theorem dX9_bed_196 : decode cX9_bed 196 = .ok (.getfield 167, 3) := dk_180 0 167 (dk_at dksX9_bed_8 10 rfl rfl)
theorem dX9_bed_199 : decode cX9_bed 199 = .ok (.bipush 6, 2) := dk_16 6 (dk_at dksX9_bed_8 13 rfl rfl)
theorem dX9_bed_201 : decode cX9_bed 201 = .ok (.if_icmp .ge 7, 3) := dk_162 0 7 (dk_at dksX9_bed_8 15 rfl rfl)
theorem dX9_bed_204 : decode cX9_bed 204 = .ok (.iconst 1, 1) := dk_4 (dk_at dksX9_bed_8 18 rfl rfl)
theorem dX9_bed_205 : decode cX9_bed 205 = .ok (.goto 4, 3) := dk_167 0 4 (dk_at dksX9_bed_8 19 rfl rfl)
theorem dX9_bed_208 : decode cX9_bed 208 = .ok (.iconst 0, 1) := dk_3 (dk_at dksX9_bed_8 22 rfl rfl)
theorem dX9_bed_209 : decode cX9_bed 209 = .ok (.iconst 2, 1) := dk_5 (dk_at dksX9_bed_8 23 rfl rfl)
theorem dX9_bed_210 : decode cX9_bed 210 = .ok (.invokevirtual 116, 3) := dk_182 0 116 (dk_at dksX9_bed_9 0 rfl rfl)
theorem dX9_bed_213 : decode cX9_bed 213 = .ok (.aload_n 0, 1) := dk_42 (dk_at dksX9_bed_9 3 rfl rfl)
theorem dX9_bed_214 : decode cX9_bed 214 = .ok (.invokevirtual 29, 3) := dk_182 0 29 (dk_at dksX9_bed_9 4 rfl rfl)
theorem dX9_bed_217 : decode cX9_bed 217 = .ok (.aload_n 0, 1) := dk_42 (dk_at dksX9_bed_9 7 rfl rfl)
theorem dX9_bed_218 : decode cX9_bed 218 = .ok (.aload_n 1, 1) := dk_43 (dk_at dksX9_bed_9 8 rfl rfl)
theorem dX9_bed_219 : decode cX9_bed 219 = .ok (.invokevirtual 170, 3) := dk_182 0 170 (dk_at dksX9_bed_9 9 rfl rfl)
theorem dX9_bed_222 : decode cX9_bed 222 = .ok (.goto 76, 3) := dk_167 0 76 (dk_at dksX9_bed_9 12 rfl rfl)
theorem dX9_bed_225 : decode cX9_bed 225 = .ok (.aload_n 0, 1) := dk_42 (dk_at dksX9_bed_9 15 rfl rfl)
theorem dX9_bed_226 : decode cX9_bed 226 = .ok (.aload_n 0, 1) := dk_42 (dk_at dksX9_bed_9 16 rfl rfl)
theorem dX9_bed_227 : decode cX9_bed 227 = .ok (.ldc 173, 2) := dk_18 173 (dk_at dksX9_bed_9 17 rfl rfl)
theorem dX9_bed_229 : decode cX9_bed 229 = .ok (.invokevirtual 112, 3) := dk_182 0 112 (dk_at dksX9_bed_9 19 rfl rfl)
theorem dX9_bed_232 : decode cX9_bed 232 = .ok (.ifCond .ne 30, 3) := dk_154 0 30 (dk_at dksX9_bed_10 0 rfl rfl)
theorem dX9_bed_235 : decode cX9_bed 235 = .ok (.aload_n 0, 1) := dk_42 (dk_at dksX9_bed_10 3 rfl rfl)
theorem dX9_bed_236 : decode cX9_bed 236 = .ok (.ldc 175, 2) := dk_18 175 (dk_at dksX9_bed_10 4 rfl rfl)
theorem dX9_bed_238 : decode cX9_bed 238 = .ok (.invokevirtual 112, 3) := dk_182 0 112 (dk_at dksX9_bed_10 6 rfl rfl)
theorem dX9_bed_241 : decode cX9_bed 241 = .ok (.ifCond .ne 21, 3) := dk_154 0 21 (dk_at dksX9_bed_10 9 rfl rfl)
theorem dX9_bed_244 : decode cX9_bed 244 = .ok (.aload_n 0, 1) := dk_42 (dk_at dksX9_bed_10 12 rfl rfl)
theorem dX9_bed_245 : decode cX9_bed 245 = .ok (.ldc 177, 2) := dk_18 177 (dk_at dksX9_bed_10 13 rfl rfl)
theorem dX9_bed_247 : decode cX9_bed 247 = .ok (.invokevirtual 112, 3) := dk_182 0 112 (dk_at dksX9_bed_10 15 rfl rfl)
theorem dX9_bed_250 : decode cX9_bed 250 = .ok (.ifCond .ne 12, 3) := dk_154 0 12 (dk_at dksX9_bed_10 18 rfl rfl)
theorem dX9_bed_253 : decode cX9_bed 253 = .ok (.aload_n 0, 1) := dk_42 (dk_at dksX9_bed_10 21 rfl rfl)
theorem dX9_bed_254 : decode cX9_bed 254 = .ok (.ldc 179, 2) := dk_18 179 (dk_at dksX9_bed_10 22 rfl rfl)
theorem dX9_bed_256 : decode cX9_bed 256 = .ok (.invokevirtual 112, 3) := dk_182 0 112 (dk_at dksX9_bed_11 0 rfl rfl)
theorem dX9_bed_259 : decode cX9_bed 259 = .ok (.ifCond .eq 7, 3) := dk_153 0 7 (dk_at dksX9_bed_11 3 rfl rfl)
theorem dX9_bed_262 : decode cX9_bed 262 = .ok (.iconst 1, 1) := dk_4 (dk_at dksX9_bed_11 6 rfl rfl)
theorem dX9_bed_263 : decode cX9_bed 263 = .ok (.goto 4, 3) := dk_167 0 4 (dk_at dksX9_bed_11 7 rfl rfl)
theorem dX9_bed_266 : decode cX9_bed 266 = .ok (.iconst 0, 1) := dk_3 (dk_at dksX9_bed_11 10 rfl rfl)
theorem dX9_bed_267 : decode cX9_bed 267 = .ok (.iconst 1, 1) := dk_4 (dk_at dksX9_bed_11 11 rfl rfl)
theorem dX9_bed_268 : decode cX9_bed 268 = .ok (.invokevirtual 116, 3) := dk_182 0 116 (dk_at dksX9_bed_11 12 rfl rfl)
theorem dX9_bed_271 : decode cX9_bed 271 = .ok (.aload_n 0, 1) := dk_42 (dk_at dksX9_bed_11 15 rfl rfl)
theorem dX9_bed_272 : decode cX9_bed 272 = .ok (.aload_n 1, 1) := dk_43 (dk_at dksX9_bed_11 16 rfl rfl)
theorem dX9_bed_273 : decode cX9_bed 273 = .ok (.getfield 181, 3) := dk_180 0 181 (dk_at dksX9_bed_11 17 rfl rfl)
theorem dX9_bed_276 : decode cX9_bed 276 = .ok (.invokevirtual 185, 3) := dk_182 0 185 (dk_at dksX9_bed_11 20 rfl rfl)
theorem dX9_bed_279 : decode cX9_bed 279 = .ok (.bipush 7, 2) := dk_16 7 (dk_at dksX9_bed_12 0 rfl rfl)
theorem dX9_bed_281 : decode cX9_bed 281 = .ok (.if_icmp .ge 7, 3) := dk_162 0 7 (dk_at dksX9_bed_12 2 rfl rfl)
theorem dX9_bed_284 : decode cX9_bed 284 = .ok (.iconst 1, 1) := dk_4 (dk_at dksX9_bed_12 5 rfl rfl)
theorem dX9_bed_285 : decode cX9_bed 285 = .ok (.goto 4, 3) := dk_167 0 4 (dk_at dksX9_bed_12 6 rfl rfl)
theorem dX9_bed_288 : decode cX9_bed 288 = .ok (.iconst 0, 1) := dk_3 (dk_at dksX9_bed_12 9 rfl rfl)
theorem dX9_bed_289 : decode cX9_bed 289 = .ok (.iconst 2, 1) := dk_5 (dk_at dksX9_bed_12 10 rfl rfl)
theorem dX9_bed_290 : decode cX9_bed 290 = .ok (.invokevirtual 116, 3) := dk_182 0 116 (dk_at dksX9_bed_12 11 rfl rfl)
theorem dX9_bed_293 : decode cX9_bed 293 = .ok (.aload_n 0, 1) := dk_42 (dk_at dksX9_bed_12 14 rfl rfl)
theorem dX9_bed_294 : decode cX9_bed 294 = .ok (.aload_n 1, 1) := dk_43 (dk_at dksX9_bed_12 15 rfl rfl)
theorem dX9_bed_295 : decode cX9_bed 295 = .ok (.invokevirtual 189, 3) := dk_182 0 189 (dk_at dksX9_bed_12 16 rfl rfl)
theorem dX9_bed_298 : decode cX9_bed 298 = .ok (.aload_n 0, 1) := dk_42 (dk_at dksX9_bed_12 19 rfl rfl)
theorem dX9_bed_299 : decode cX9_bed 299 = .ok (.ldc 191, 2) := dk_18 191 (dk_at dksX9_bed_12 20 rfl rfl)
theorem dX9_bed_301 : decode cX9_bed 301 = .ok (.invokevirtual 193, 3) := dk_182 0 193 (dk_at dksX9_bed_13 0 rfl rfl)
theorem dX9_bed_304 : decode cX9_bed 304 = .ok (.goto (-296), 3) := dk_167 254 216 (dk_at dksX9_bed_13 3 rfl rfl)
theorem dX9_bed_307 : decode cX9_bed 307 = .ok (.aload_n 1, 1) := dk_43 (dk_at dksX9_bed_13 6 rfl rfl)
theorem dX9_bed_308 : decode cX9_bed 308 = .ok (.areturn, 1) := dk_176 (dk_at dksX9_bed_13 7 rfl rfl)
abbrev cX9_begins : ByteArray := prog_12_method_11_code
def yX9_begins : MethodName := ⟨RX9, "begins", "(Ljava/lang/String;I)Z"⟩
def dkwX9_begins_1 : List UInt8 := [3, 8, 182, 0, 116, 42, 180, 0, 17, 28, 4, 84, 42, 182, 0, 29, 4, 172]
abbrev dktX9_begins_1 : List UInt8 := dkwX9_begins_1 ++ []
def dkwX9_begins_0 : List UInt8 := [42, 43, 182, 0, 112, 154, 0, 5, 3, 172, 42, 42, 180, 0, 17, 28, 51, 154, 0, 7, 4, 167, 0, 4]
abbrev dktX9_begins_0 : List UInt8 := dkwX9_begins_0 ++ dktX9_begins_1
theorem dksX9_begins_0 : cX9_begins.data.toList.drop 0 = dktX9_begins_0 := by decide +kernel
theorem dksX9_begins_1 : cX9_begins.data.toList.drop 24 = dktX9_begins_1 := dk_seg dksX9_begins_0 24 rfl rfl
theorem dX9_begins_0 : decode cX9_begins 0 = .ok (.aload_n 0, 1) := dk_42 (dk_at dksX9_begins_0 0 rfl rfl)
theorem dX9_begins_1 : decode cX9_begins 1 = .ok (.aload_n 1, 1) := dk_43 (dk_at dksX9_begins_0 1 rfl rfl)
theorem dX9_begins_2 : decode cX9_begins 2 = .ok (.invokevirtual 112, 3) := dk_182 0 112 (dk_at dksX9_begins_0 2 rfl rfl)
theorem dX9_begins_5 : decode cX9_begins 5 = .ok (.ifCond .ne 5, 3) := dk_154 0 5 (dk_at dksX9_begins_0 5 rfl rfl)
theorem dX9_begins_8 : decode cX9_begins 8 = .ok (.iconst 0, 1) := dk_3 (dk_at dksX9_begins_0 8 rfl rfl)
theorem dX9_begins_9 : decode cX9_begins 9 = .ok (.ireturn, 1) := dk_172 (dk_at dksX9_begins_0 9 rfl rfl)
theorem dX9_begins_10 : decode cX9_begins 10 = .ok (.aload_n 0, 1) := dk_42 (dk_at dksX9_begins_0 10 rfl rfl)
theorem dX9_begins_11 : decode cX9_begins 11 = .ok (.aload_n 0, 1) := dk_42 (dk_at dksX9_begins_0 11 rfl rfl)
theorem dX9_begins_12 : decode cX9_begins 12 = .ok (.getfield 17, 3) := dk_180 0 17 (dk_at dksX9_begins_0 12 rfl rfl)
theorem dX9_begins_15 : decode cX9_begins 15 = .ok (.iload_n 2, 1) := dk_28 (dk_at dksX9_begins_0 15 rfl rfl)
theorem dX9_begins_16 : decode cX9_begins 16 = .ok (.baload, 1) := dk_51 (dk_at dksX9_begins_0 16 rfl rfl)
theorem dX9_begins_17 : decode cX9_begins 17 = .ok (.ifCond .ne 7, 3) := dk_154 0 7 (dk_at dksX9_begins_0 17 rfl rfl)
theorem dX9_begins_20 : decode cX9_begins 20 = .ok (.iconst 1, 1) := dk_4 (dk_at dksX9_begins_0 20 rfl rfl)
theorem dX9_begins_21 : decode cX9_begins 21 = .ok (.goto 4, 3) := dk_167 0 4 (dk_at dksX9_begins_0 21 rfl rfl)
theorem dX9_begins_24 : decode cX9_begins 24 = .ok (.iconst 0, 1) := dk_3 (dk_at dksX9_begins_1 0 rfl rfl)
theorem dX9_begins_25 : decode cX9_begins 25 = .ok (.iconst 5, 1) := dk_8 (dk_at dksX9_begins_1 1 rfl rfl)
theorem dX9_begins_26 : decode cX9_begins 26 = .ok (.invokevirtual 116, 3) := dk_182 0 116 (dk_at dksX9_begins_1 2 rfl rfl)
theorem dX9_begins_29 : decode cX9_begins 29 = .ok (.aload_n 0, 1) := dk_42 (dk_at dksX9_begins_1 5 rfl rfl)
theorem dX9_begins_30 : decode cX9_begins 30 = .ok (.getfield 17, 3) := dk_180 0 17 (dk_at dksX9_begins_1 6 rfl rfl)
theorem dX9_begins_33 : decode cX9_begins 33 = .ok (.iload_n 2, 1) := dk_28 (dk_at dksX9_begins_1 9 rfl rfl)
theorem dX9_begins_34 : decode cX9_begins 34 = .ok (.iconst 1, 1) := dk_4 (dk_at dksX9_begins_1 10 rfl rfl)
theorem dX9_begins_35 : decode cX9_begins 35 = .ok (.bastore, 1) := dk_84 (dk_at dksX9_begins_1 11 rfl rfl)
theorem dX9_begins_36 : decode cX9_begins 36 = .ok (.aload_n 0, 1) := dk_42 (dk_at dksX9_begins_1 12 rfl rfl)
theorem dX9_begins_37 : decode cX9_begins 37 = .ok (.invokevirtual 29, 3) := dk_182 0 29 (dk_at dksX9_begins_1 13 rfl rfl)
theorem dX9_begins_40 : decode cX9_begins 40 = .ok (.iconst 1, 1) := dk_4 (dk_at dksX9_begins_1 16 rfl rfl)
theorem dX9_begins_41 : decode cX9_begins 41 = .ok (.ireturn, 1) := dk_172 (dk_at dksX9_begins_1 17 rfl rfl)
abbrev cX9_is : ByteArray := prog_12_method_7_code
def yX9_is : MethodName := ⟨RX9, "is", "(Ljava/lang/String;)Z"⟩
def dkwX9_is_1 : List UInt8 := [43, 182, 0, 103, 153, 0, 7, 4, 167, 0, 4, 3, 172]
abbrev dktX9_is_1 : List UInt8 := dkwX9_is_1 ++ []
def dkwX9_is_0 : List UInt8 := [42, 180, 0, 52, 178, 0, 76, 165, 0, 13, 42, 180, 0, 52, 178, 0, 91, 166, 0, 18, 42, 180, 0, 11]
abbrev dktX9_is_0 : List UInt8 := dkwX9_is_0 ++ dktX9_is_1
theorem dksX9_is_0 : cX9_is.data.toList.drop 0 = dktX9_is_0 := by decide +kernel
theorem dksX9_is_1 : cX9_is.data.toList.drop 24 = dktX9_is_1 := dk_seg dksX9_is_0 24 rfl rfl
theorem dX9_is_0 : decode cX9_is 0 = .ok (.aload_n 0, 1) := dk_42 (dk_at dksX9_is_0 0 rfl rfl)
theorem dX9_is_1 : decode cX9_is 1 = .ok (.getfield 52, 3) := dk_180 0 52 (dk_at dksX9_is_0 1 rfl rfl)
theorem dX9_is_4 : decode cX9_is 4 = .ok (.getstatic 76, 3) := dk_178 0 76 (dk_at dksX9_is_0 4 rfl rfl)
theorem dX9_is_7 : decode cX9_is 7 = .ok (.if_acmp .eq 13, 3) := dk_165 0 13 (dk_at dksX9_is_0 7 rfl rfl)
theorem dX9_is_10 : decode cX9_is 10 = .ok (.aload_n 0, 1) := dk_42 (dk_at dksX9_is_0 10 rfl rfl)
theorem dX9_is_11 : decode cX9_is 11 = .ok (.getfield 52, 3) := dk_180 0 52 (dk_at dksX9_is_0 11 rfl rfl)
theorem dX9_is_14 : decode cX9_is 14 = .ok (.getstatic 91, 3) := dk_178 0 91 (dk_at dksX9_is_0 14 rfl rfl)
theorem dX9_is_17 : decode cX9_is 17 = .ok (.if_acmp .ne 18, 3) := dk_166 0 18 (dk_at dksX9_is_0 17 rfl rfl)
theorem dX9_is_20 : decode cX9_is 20 = .ok (.aload_n 0, 1) := dk_42 (dk_at dksX9_is_0 20 rfl rfl)
theorem dX9_is_21 : decode cX9_is 21 = .ok (.getfield 11, 3) := dk_180 0 11 (dk_at dksX9_is_0 21 rfl rfl)
theorem dX9_is_24 : decode cX9_is 24 = .ok (.aload_n 1, 1) := dk_43 (dk_at dksX9_is_1 0 rfl rfl)
theorem dX9_is_25 : decode cX9_is 25 = .ok (.invokevirtual 103, 3) := dk_182 0 103 (dk_at dksX9_is_1 1 rfl rfl)
theorem dX9_is_28 : decode cX9_is 28 = .ok (.ifCond .eq 7, 3) := dk_153 0 7 (dk_at dksX9_is_1 4 rfl rfl)
theorem dX9_is_31 : decode cX9_is 31 = .ok (.iconst 1, 1) := dk_4 (dk_at dksX9_is_1 7 rfl rfl)
theorem dX9_is_32 : decode cX9_is 32 = .ok (.goto 4, 3) := dk_167 0 4 (dk_at dksX9_is_1 8 rfl rfl)
theorem dX9_is_35 : decode cX9_is 35 = .ok (.iconst 0, 1) := dk_3 (dk_at dksX9_is_1 11 rfl rfl)
theorem dX9_is_36 : decode cX9_is 36 = .ok (.ireturn, 1) := dk_172 (dk_at dksX9_is_1 12 rfl rfl)
abbrev cX9_check : ByteArray := prog_12_method_8_code
def yX9_check : MethodName := ⟨RX9, "check", "(ZI)V"⟩
def dkwX9_check_0 : List UInt8 := [27, 154, 0, 16, 187, 0, 107, 89, 28, 42, 180, 0, 39, 183, 0, 109, 191, 177]
abbrev dktX9_check_0 : List UInt8 := dkwX9_check_0 ++ []
theorem dksX9_check_0 : cX9_check.data.toList.drop 0 = dktX9_check_0 := by decide +kernel
theorem dX9_check_0 : decode cX9_check 0 = .ok (.iload_n 1, 1) := dk_27 (dk_at dksX9_check_0 0 rfl rfl)
theorem dX9_check_1 : decode cX9_check 1 = .ok (.ifCond .ne 16, 3) := dk_154 0 16 (dk_at dksX9_check_0 1 rfl rfl)
theorem dX9_check_4 : decode cX9_check 4 = .ok (.new 107, 3) := dk_187 0 107 (dk_at dksX9_check_0 4 rfl rfl)
theorem dX9_check_7 : decode cX9_check 7 = .ok (.dup, 1) := dk_89 (dk_at dksX9_check_0 7 rfl rfl)
theorem dX9_check_8 : decode cX9_check 8 = .ok (.iload_n 2, 1) := dk_28 (dk_at dksX9_check_0 8 rfl rfl)
theorem dX9_check_9 : decode cX9_check 9 = .ok (.aload_n 0, 1) := dk_42 (dk_at dksX9_check_0 9 rfl rfl)
theorem dX9_check_10 : decode cX9_check 10 = .ok (.getfield 39, 3) := dk_180 0 39 (dk_at dksX9_check_0 10 rfl rfl)
theorem dX9_check_13 : decode cX9_check 13 = .ok (.invokespecial 109, 3) := dk_183 0 109 (dk_at dksX9_check_0 13 rfl rfl)
theorem dX9_check_16 : decode cX9_check 16 = .ok (.athrow, 1) := dk_191 (dk_at dksX9_check_0 16 rfl rfl)
theorem dX9_check_17 : decode cX9_check 17 = .ok (.return_, 1) := dk_177 (dk_at dksX9_check_0 17 rfl rfl)
abbrev cX9_number : ByteArray := prog_12_method_10_code
def yX9_number : MethodName := ⟨RX9, "number", "(II)I"⟩
def dkwX9_number_2 : List UInt8 := [167, 0, 4, 3, 5, 182, 0, 116, 42, 180, 0, 82, 62, 42, 182, 0, 29, 29, 172]
abbrev dktX9_number_2 : List UInt8 := dkwX9_number_2 ++ []
def dkwX9_number_1 : List UInt8 := [180, 0, 42, 154, 0, 23, 42, 180, 0, 82, 27, 161, 0, 15, 42, 180, 0, 82, 28, 163, 0, 7, 4]
abbrev dktX9_number_1 : List UInt8 := dkwX9_number_1 ++ dktX9_number_2
def dkwX9_number_0 : List UInt8 := [42, 42, 180, 0, 52, 178, 0, 85, 166, 0, 7, 4, 167, 0, 4, 3, 4, 182, 0, 116, 42, 42]
abbrev dktX9_number_0 : List UInt8 := dkwX9_number_0 ++ dktX9_number_1
theorem dksX9_number_0 : cX9_number.data.toList.drop 0 = dktX9_number_0 := by decide +kernel
theorem dksX9_number_1 : cX9_number.data.toList.drop 22 = dktX9_number_1 := dk_seg dksX9_number_0 22 rfl rfl
theorem dksX9_number_2 : cX9_number.data.toList.drop 45 = dktX9_number_2 := dk_seg dksX9_number_1 23 rfl rfl
theorem dX9_number_0 : decode cX9_number 0 = .ok (.aload_n 0, 1) := dk_42 (dk_at dksX9_number_0 0 rfl rfl)
theorem dX9_number_1 : decode cX9_number 1 = .ok (.aload_n 0, 1) := dk_42 (dk_at dksX9_number_0 1 rfl rfl)
theorem dX9_number_2 : decode cX9_number 2 = .ok (.getfield 52, 3) := dk_180 0 52 (dk_at dksX9_number_0 2 rfl rfl)
theorem dX9_number_5 : decode cX9_number 5 = .ok (.getstatic 85, 3) := dk_178 0 85 (dk_at dksX9_number_0 5 rfl rfl)
theorem dX9_number_8 : decode cX9_number 8 = .ok (.if_acmp .ne 7, 3) := dk_166 0 7 (dk_at dksX9_number_0 8 rfl rfl)
theorem dX9_number_11 : decode cX9_number 11 = .ok (.iconst 1, 1) := dk_4 (dk_at dksX9_number_0 11 rfl rfl)
theorem dX9_number_12 : decode cX9_number 12 = .ok (.goto 4, 3) := dk_167 0 4 (dk_at dksX9_number_0 12 rfl rfl)
theorem dX9_number_15 : decode cX9_number 15 = .ok (.iconst 0, 1) := dk_3 (dk_at dksX9_number_0 15 rfl rfl)
theorem dX9_number_16 : decode cX9_number 16 = .ok (.iconst 1, 1) := dk_4 (dk_at dksX9_number_0 16 rfl rfl)
theorem dX9_number_17 : decode cX9_number 17 = .ok (.invokevirtual 116, 3) := dk_182 0 116 (dk_at dksX9_number_0 17 rfl rfl)
theorem dX9_number_20 : decode cX9_number 20 = .ok (.aload_n 0, 1) := dk_42 (dk_at dksX9_number_0 20 rfl rfl)
theorem dX9_number_21 : decode cX9_number 21 = .ok (.aload_n 0, 1) := dk_42 (dk_at dksX9_number_0 21 rfl rfl)
theorem dX9_number_22 : decode cX9_number 22 = .ok (.getfield 42, 3) := dk_180 0 42 (dk_at dksX9_number_1 0 rfl rfl)
theorem dX9_number_25 : decode cX9_number 25 = .ok (.ifCond .ne 23, 3) := dk_154 0 23 (dk_at dksX9_number_1 3 rfl rfl)
theorem dX9_number_28 : decode cX9_number 28 = .ok (.aload_n 0, 1) := dk_42 (dk_at dksX9_number_1 6 rfl rfl)
theorem dX9_number_29 : decode cX9_number 29 = .ok (.getfield 82, 3) := dk_180 0 82 (dk_at dksX9_number_1 7 rfl rfl)
theorem dX9_number_32 : decode cX9_number 32 = .ok (.iload_n 1, 1) := dk_27 (dk_at dksX9_number_1 10 rfl rfl)
theorem dX9_number_33 : decode cX9_number 33 = .ok (.if_icmp .lt 15, 3) := dk_161 0 15 (dk_at dksX9_number_1 11 rfl rfl)
theorem dX9_number_36 : decode cX9_number 36 = .ok (.aload_n 0, 1) := dk_42 (dk_at dksX9_number_1 14 rfl rfl)
theorem dX9_number_37 : decode cX9_number 37 = .ok (.getfield 82, 3) := dk_180 0 82 (dk_at dksX9_number_1 15 rfl rfl)
theorem dX9_number_40 : decode cX9_number 40 = .ok (.iload_n 2, 1) := dk_28 (dk_at dksX9_number_1 18 rfl rfl)
theorem dX9_number_41 : decode cX9_number 41 = .ok (.if_icmp .gt 7, 3) := dk_163 0 7 (dk_at dksX9_number_1 19 rfl rfl)
theorem dX9_number_44 : decode cX9_number 44 = .ok (.iconst 1, 1) := dk_4 (dk_at dksX9_number_1 22 rfl rfl)
theorem dX9_number_45 : decode cX9_number 45 = .ok (.goto 4, 3) := dk_167 0 4 (dk_at dksX9_number_2 0 rfl rfl)
theorem dX9_number_48 : decode cX9_number 48 = .ok (.iconst 0, 1) := dk_3 (dk_at dksX9_number_2 3 rfl rfl)
theorem dX9_number_49 : decode cX9_number 49 = .ok (.iconst 2, 1) := dk_5 (dk_at dksX9_number_2 4 rfl rfl)
theorem dX9_number_50 : decode cX9_number 50 = .ok (.invokevirtual 116, 3) := dk_182 0 116 (dk_at dksX9_number_2 5 rfl rfl)
theorem dX9_number_53 : decode cX9_number 53 = .ok (.aload_n 0, 1) := dk_42 (dk_at dksX9_number_2 8 rfl rfl)
theorem dX9_number_54 : decode cX9_number 54 = .ok (.getfield 82, 3) := dk_180 0 82 (dk_at dksX9_number_2 9 rfl rfl)
theorem dX9_number_57 : decode cX9_number 57 = .ok (.istore_n 3, 1) := dk_62 (dk_at dksX9_number_2 12 rfl rfl)
theorem dX9_number_58 : decode cX9_number 58 = .ok (.aload_n 0, 1) := dk_42 (dk_at dksX9_number_2 13 rfl rfl)
theorem dX9_number_59 : decode cX9_number 59 = .ok (.invokevirtual 29, 3) := dk_182 0 29 (dk_at dksX9_number_2 14 rfl rfl)
theorem dX9_number_62 : decode cX9_number 62 = .ok (.iload_n 3, 1) := dk_29 (dk_at dksX9_number_2 17 rfl rfl)
theorem dX9_number_63 : decode cX9_number 63 = .ok (.ireturn, 1) := dk_172 (dk_at dksX9_number_2 18 rfl rfl)
abbrev cX9_expr : ByteArray := prog_12_method_17_code
def yX9_expr : MethodName := ⟨RX9, "expr", "(I)LSpoonRow$Expr;"⟩
def dkwX9_expr_3 : List UInt8 := [42, 27, 182, 0, 222, 183, 0, 229, 77, 167, 255, 227, 44, 176]
abbrev dktX9_expr_3 : List UInt8 := dkwX9_expr_3 ++ []
def dkwX9_expr_2 : List UInt8 := [182, 0, 222, 77, 42, 18, 225, 182, 0, 112, 153, 0, 26, 42, 182, 0, 29, 187, 0, 227, 89, 16, 124, 44]
abbrev dktX9_expr_2 : List UInt8 := dkwX9_expr_2 ++ dktX9_expr_3
def dkwX9_expr_1 : List UInt8 := [165, 0, 16, 42, 18, 220, 182, 0, 112, 154, 0, 7, 4, 167, 0, 4, 3, 5, 182, 0, 116, 42, 27]
abbrev dktX9_expr_1 : List UInt8 := dkwX9_expr_1 ++ dktX9_expr_2
def dkwX9_expr_0 : List UInt8 := [27, 16, 6, 161, 0, 42, 42, 42, 180, 0, 52, 178, 0, 85, 165, 0, 26, 42, 180, 0, 52, 178, 0, 76]
abbrev dktX9_expr_0 : List UInt8 := dkwX9_expr_0 ++ dktX9_expr_1
theorem dksX9_expr_0 : cX9_expr.data.toList.drop 0 = dktX9_expr_0 := by decide +kernel
theorem dksX9_expr_1 : cX9_expr.data.toList.drop 24 = dktX9_expr_1 := dk_seg dksX9_expr_0 24 rfl rfl
theorem dksX9_expr_2 : cX9_expr.data.toList.drop 47 = dktX9_expr_2 := dk_seg dksX9_expr_1 23 rfl rfl
theorem dksX9_expr_3 : cX9_expr.data.toList.drop 71 = dktX9_expr_3 := dk_seg dksX9_expr_2 24 rfl rfl
theorem dX9_expr_0 : decode cX9_expr 0 = .ok (.iload_n 1, 1) := dk_27 (dk_at dksX9_expr_0 0 rfl rfl)
theorem dX9_expr_1 : decode cX9_expr 1 = .ok (.bipush 6, 2) := dk_16 6 (dk_at dksX9_expr_0 1 rfl rfl)
theorem dX9_expr_3 : decode cX9_expr 3 = .ok (.if_icmp .lt 42, 3) := dk_161 0 42 (dk_at dksX9_expr_0 3 rfl rfl)
theorem dX9_expr_6 : decode cX9_expr 6 = .ok (.aload_n 0, 1) := dk_42 (dk_at dksX9_expr_0 6 rfl rfl)
theorem dX9_expr_7 : decode cX9_expr 7 = .ok (.aload_n 0, 1) := dk_42 (dk_at dksX9_expr_0 7 rfl rfl)
theorem dX9_expr_8 : decode cX9_expr 8 = .ok (.getfield 52, 3) := dk_180 0 52 (dk_at dksX9_expr_0 8 rfl rfl)
theorem dX9_expr_11 : decode cX9_expr 11 = .ok (.getstatic 85, 3) := dk_178 0 85 (dk_at dksX9_expr_0 11 rfl rfl)
theorem dX9_expr_14 : decode cX9_expr 14 = .ok (.if_acmp .eq 26, 3) := dk_165 0 26 (dk_at dksX9_expr_0 14 rfl rfl)
theorem dX9_expr_17 : decode cX9_expr 17 = .ok (.aload_n 0, 1) := dk_42 (dk_at dksX9_expr_0 17 rfl rfl)
theorem dX9_expr_18 : decode cX9_expr 18 = .ok (.getfield 52, 3) := dk_180 0 52 (dk_at dksX9_expr_0 18 rfl rfl)
theorem dX9_expr_21 : decode cX9_expr 21 = .ok (.getstatic 76, 3) := dk_178 0 76 (dk_at dksX9_expr_0 21 rfl rfl)
theorem dX9_expr_24 : decode cX9_expr 24 = .ok (.if_acmp .eq 16, 3) := dk_165 0 16 (dk_at dksX9_expr_1 0 rfl rfl)
theorem dX9_expr_27 : decode cX9_expr 27 = .ok (.aload_n 0, 1) := dk_42 (dk_at dksX9_expr_1 3 rfl rfl)
theorem dX9_expr_28 : decode cX9_expr 28 = .ok (.ldc 220, 2) := dk_18 220 (dk_at dksX9_expr_1 4 rfl rfl)
theorem dX9_expr_30 : decode cX9_expr 30 = .ok (.invokevirtual 112, 3) := dk_182 0 112 (dk_at dksX9_expr_1 6 rfl rfl)
theorem dX9_expr_33 : decode cX9_expr 33 = .ok (.ifCond .ne 7, 3) := dk_154 0 7 (dk_at dksX9_expr_1 9 rfl rfl)
theorem dX9_expr_36 : decode cX9_expr 36 = .ok (.iconst 1, 1) := dk_4 (dk_at dksX9_expr_1 12 rfl rfl)
theorem dX9_expr_37 : decode cX9_expr 37 = .ok (.goto 4, 3) := dk_167 0 4 (dk_at dksX9_expr_1 13 rfl rfl)
theorem dX9_expr_40 : decode cX9_expr 40 = .ok (.iconst 0, 1) := dk_3 (dk_at dksX9_expr_1 16 rfl rfl)
theorem dX9_expr_41 : decode cX9_expr 41 = .ok (.iconst 2, 1) := dk_5 (dk_at dksX9_expr_1 17 rfl rfl)
theorem dX9_expr_42 : decode cX9_expr 42 = .ok (.invokevirtual 116, 3) := dk_182 0 116 (dk_at dksX9_expr_1 18 rfl rfl)
theorem dX9_expr_45 : decode cX9_expr 45 = .ok (.aload_n 0, 1) := dk_42 (dk_at dksX9_expr_1 21 rfl rfl)
theorem dX9_expr_46 : decode cX9_expr 46 = .ok (.iload_n 1, 1) := dk_27 (dk_at dksX9_expr_1 22 rfl rfl)
theorem dX9_expr_47 : decode cX9_expr 47 = .ok (.invokevirtual 222, 3) := dk_182 0 222 (dk_at dksX9_expr_2 0 rfl rfl)
theorem dX9_expr_50 : decode cX9_expr 50 = .ok (.astore_n 2, 1) := dk_77 (dk_at dksX9_expr_2 3 rfl rfl)
theorem dX9_expr_51 : decode cX9_expr 51 = .ok (.aload_n 0, 1) := dk_42 (dk_at dksX9_expr_2 4 rfl rfl)
theorem dX9_expr_52 : decode cX9_expr 52 = .ok (.ldc 225, 2) := dk_18 225 (dk_at dksX9_expr_2 5 rfl rfl)
theorem dX9_expr_54 : decode cX9_expr 54 = .ok (.invokevirtual 112, 3) := dk_182 0 112 (dk_at dksX9_expr_2 7 rfl rfl)
theorem dX9_expr_57 : decode cX9_expr 57 = .ok (.ifCond .eq 26, 3) := dk_153 0 26 (dk_at dksX9_expr_2 10 rfl rfl)
theorem dX9_expr_60 : decode cX9_expr 60 = .ok (.aload_n 0, 1) := dk_42 (dk_at dksX9_expr_2 13 rfl rfl)
theorem dX9_expr_61 : decode cX9_expr 61 = .ok (.invokevirtual 29, 3) := dk_182 0 29 (dk_at dksX9_expr_2 14 rfl rfl)
theorem dX9_expr_64 : decode cX9_expr 64 = .ok (.new 227, 3) := dk_187 0 227 (dk_at dksX9_expr_2 17 rfl rfl)
theorem dX9_expr_67 : decode cX9_expr 67 = .ok (.dup, 1) := dk_89 (dk_at dksX9_expr_2 20 rfl rfl)
theorem dX9_expr_68 : decode cX9_expr 68 = .ok (.bipush 124, 2) := dk_16 124 (dk_at dksX9_expr_2 21 rfl rfl)
theorem dX9_expr_70 : decode cX9_expr 70 = .ok (.aload_n 2, 1) := dk_44 (dk_at dksX9_expr_2 23 rfl rfl)
theorem dX9_expr_71 : decode cX9_expr 71 = .ok (.aload_n 0, 1) := dk_42 (dk_at dksX9_expr_3 0 rfl rfl)
theorem dX9_expr_72 : decode cX9_expr 72 = .ok (.iload_n 1, 1) := dk_27 (dk_at dksX9_expr_3 1 rfl rfl)
theorem dX9_expr_73 : decode cX9_expr 73 = .ok (.invokevirtual 222, 3) := dk_182 0 222 (dk_at dksX9_expr_3 2 rfl rfl)
theorem dX9_expr_76 : decode cX9_expr 76 = .ok (.invokespecial 229, 3) := dk_183 0 229 (dk_at dksX9_expr_3 5 rfl rfl)
theorem dX9_expr_79 : decode cX9_expr 79 = .ok (.astore_n 2, 1) := dk_77 (dk_at dksX9_expr_3 8 rfl rfl)
theorem dX9_expr_80 : decode cX9_expr 80 = .ok (.goto (-29), 3) := dk_167 255 227 (dk_at dksX9_expr_3 9 rfl rfl)
theorem dX9_expr_83 : decode cX9_expr 83 = .ok (.aload_n 2, 1) := dk_44 (dk_at dksX9_expr_3 12 rfl rfl)
theorem dX9_expr_84 : decode cX9_expr 84 = .ok (.areturn, 1) := dk_176 (dk_at dksX9_expr_3 13 rfl rfl)
abbrev cX9_and : ByteArray := prog_12_method_18_code
def yX9_and : MethodName := ⟨RX9, "and", "(I)LSpoonRow$Expr;"⟩
def dkwX9_and_1 : List UInt8 := [16, 38, 44, 42, 27, 182, 0, 232, 183, 0, 229, 77, 167, 255, 227, 44, 176]
abbrev dktX9_and_1 : List UInt8 := dkwX9_and_1 ++ []
def dkwX9_and_0 : List UInt8 := [42, 27, 182, 0, 232, 77, 42, 18, 235, 182, 0, 112, 153, 0, 26, 42, 182, 0, 29, 187, 0, 227, 89]
abbrev dktX9_and_0 : List UInt8 := dkwX9_and_0 ++ dktX9_and_1
theorem dksX9_and_0 : cX9_and.data.toList.drop 0 = dktX9_and_0 := by decide +kernel
theorem dksX9_and_1 : cX9_and.data.toList.drop 23 = dktX9_and_1 := dk_seg dksX9_and_0 23 rfl rfl
theorem dX9_and_0 : decode cX9_and 0 = .ok (.aload_n 0, 1) := dk_42 (dk_at dksX9_and_0 0 rfl rfl)
theorem dX9_and_1 : decode cX9_and 1 = .ok (.iload_n 1, 1) := dk_27 (dk_at dksX9_and_0 1 rfl rfl)
theorem dX9_and_2 : decode cX9_and 2 = .ok (.invokevirtual 232, 3) := dk_182 0 232 (dk_at dksX9_and_0 2 rfl rfl)
theorem dX9_and_5 : decode cX9_and 5 = .ok (.astore_n 2, 1) := dk_77 (dk_at dksX9_and_0 5 rfl rfl)
theorem dX9_and_6 : decode cX9_and 6 = .ok (.aload_n 0, 1) := dk_42 (dk_at dksX9_and_0 6 rfl rfl)
theorem dX9_and_7 : decode cX9_and 7 = .ok (.ldc 235, 2) := dk_18 235 (dk_at dksX9_and_0 7 rfl rfl)
theorem dX9_and_9 : decode cX9_and 9 = .ok (.invokevirtual 112, 3) := dk_182 0 112 (dk_at dksX9_and_0 9 rfl rfl)
theorem dX9_and_12 : decode cX9_and 12 = .ok (.ifCond .eq 26, 3) := dk_153 0 26 (dk_at dksX9_and_0 12 rfl rfl)
theorem dX9_and_15 : decode cX9_and 15 = .ok (.aload_n 0, 1) := dk_42 (dk_at dksX9_and_0 15 rfl rfl)
theorem dX9_and_16 : decode cX9_and 16 = .ok (.invokevirtual 29, 3) := dk_182 0 29 (dk_at dksX9_and_0 16 rfl rfl)
theorem dX9_and_19 : decode cX9_and 19 = .ok (.new 227, 3) := dk_187 0 227 (dk_at dksX9_and_0 19 rfl rfl)
theorem dX9_and_22 : decode cX9_and 22 = .ok (.dup, 1) := dk_89 (dk_at dksX9_and_0 22 rfl rfl)
theorem dX9_and_23 : decode cX9_and 23 = .ok (.bipush 38, 2) := dk_16 38 (dk_at dksX9_and_1 0 rfl rfl)
theorem dX9_and_25 : decode cX9_and 25 = .ok (.aload_n 2, 1) := dk_44 (dk_at dksX9_and_1 2 rfl rfl)
theorem dX9_and_26 : decode cX9_and 26 = .ok (.aload_n 0, 1) := dk_42 (dk_at dksX9_and_1 3 rfl rfl)
theorem dX9_and_27 : decode cX9_and 27 = .ok (.iload_n 1, 1) := dk_27 (dk_at dksX9_and_1 4 rfl rfl)
theorem dX9_and_28 : decode cX9_and 28 = .ok (.invokevirtual 232, 3) := dk_182 0 232 (dk_at dksX9_and_1 5 rfl rfl)
theorem dX9_and_31 : decode cX9_and 31 = .ok (.invokespecial 229, 3) := dk_183 0 229 (dk_at dksX9_and_1 8 rfl rfl)
theorem dX9_and_34 : decode cX9_and 34 = .ok (.astore_n 2, 1) := dk_77 (dk_at dksX9_and_1 11 rfl rfl)
theorem dX9_and_35 : decode cX9_and 35 = .ok (.goto (-29), 3) := dk_167 255 227 (dk_at dksX9_and_1 12 rfl rfl)
theorem dX9_and_38 : decode cX9_and 38 = .ok (.aload_n 2, 1) := dk_44 (dk_at dksX9_and_1 15 rfl rfl)
theorem dX9_and_39 : decode cX9_and 39 = .ok (.areturn, 1) := dk_176 (dk_at dksX9_and_1 16 rfl rfl)
abbrev cX9_not : ByteArray := prog_12_method_19_code
def yX9_not : MethodName := ⟨RX9, "not", "(I)LSpoonRow$Expr;"⟩
def dkwX9_not_4 : List UInt8 := [158, 0, 18, 187, 0, 248, 89, 45, 183, 0, 250, 78, 132, 2, 255, 167, 255, 240, 45, 176]
abbrev dktX9_not_4 : List UInt8 := dkwX9_not_4 ++ []
def dkwX9_not_3 : List UInt8 := [54, 4, 42, 182, 0, 29, 187, 0, 227, 89, 21, 4, 45, 42, 27, 182, 0, 237, 183, 0, 229, 78, 28]
abbrev dktX9_not_3 : List UInt8 := dkwX9_not_3 ++ dktX9_not_4
def dkwX9_not_2 : List UInt8 := [182, 0, 112, 154, 0, 12, 42, 18, 242, 182, 0, 112, 153, 0, 33, 42, 180, 0, 11, 3, 182, 0, 244]
abbrev dktX9_not_2 : List UInt8 := dkwX9_not_2 ++ dktX9_not_3
def dkwX9_not_1 : List UInt8 := [182, 0, 116, 42, 182, 0, 29, 132, 2, 1, 167, 255, 224, 42, 27, 182, 0, 237, 78, 42, 18, 240]
abbrev dktX9_not_1 : List UInt8 := dkwX9_not_1 ++ dktX9_not_2
def dkwX9_not_0 : List UInt8 := [3, 61, 42, 18, 236, 182, 0, 112, 153, 0, 29, 42, 28, 16, 6, 162, 0, 7, 4, 167, 0, 4, 3, 5]
abbrev dktX9_not_0 : List UInt8 := dkwX9_not_0 ++ dktX9_not_1
theorem dksX9_not_0 : cX9_not.data.toList.drop 0 = dktX9_not_0 := by decide +kernel
theorem dksX9_not_1 : cX9_not.data.toList.drop 24 = dktX9_not_1 := dk_seg dksX9_not_0 24 rfl rfl
theorem dksX9_not_2 : cX9_not.data.toList.drop 46 = dktX9_not_2 := dk_seg dksX9_not_1 22 rfl rfl
theorem dksX9_not_3 : cX9_not.data.toList.drop 69 = dktX9_not_3 := dk_seg dksX9_not_2 23 rfl rfl
theorem dksX9_not_4 : cX9_not.data.toList.drop 92 = dktX9_not_4 := dk_seg dksX9_not_3 23 rfl rfl
theorem dX9_not_0 : decode cX9_not 0 = .ok (.iconst 0, 1) := dk_3 (dk_at dksX9_not_0 0 rfl rfl)
theorem dX9_not_1 : decode cX9_not 1 = .ok (.istore_n 2, 1) := dk_61 (dk_at dksX9_not_0 1 rfl rfl)
theorem dX9_not_2 : decode cX9_not 2 = .ok (.aload_n 0, 1) := dk_42 (dk_at dksX9_not_0 2 rfl rfl)
theorem dX9_not_3 : decode cX9_not 3 = .ok (.ldc 236, 2) := dk_18 236 (dk_at dksX9_not_0 3 rfl rfl)
theorem dX9_not_5 : decode cX9_not 5 = .ok (.invokevirtual 112, 3) := dk_182 0 112 (dk_at dksX9_not_0 5 rfl rfl)
theorem dX9_not_8 : decode cX9_not 8 = .ok (.ifCond .eq 29, 3) := dk_153 0 29 (dk_at dksX9_not_0 8 rfl rfl)
theorem dX9_not_11 : decode cX9_not 11 = .ok (.aload_n 0, 1) := dk_42 (dk_at dksX9_not_0 11 rfl rfl)
theorem dX9_not_12 : decode cX9_not 12 = .ok (.iload_n 2, 1) := dk_28 (dk_at dksX9_not_0 12 rfl rfl)
theorem dX9_not_13 : decode cX9_not 13 = .ok (.bipush 6, 2) := dk_16 6 (dk_at dksX9_not_0 13 rfl rfl)
theorem dX9_not_15 : decode cX9_not 15 = .ok (.if_icmp .ge 7, 3) := dk_162 0 7 (dk_at dksX9_not_0 15 rfl rfl)
theorem dX9_not_18 : decode cX9_not 18 = .ok (.iconst 1, 1) := dk_4 (dk_at dksX9_not_0 18 rfl rfl)
theorem dX9_not_19 : decode cX9_not 19 = .ok (.goto 4, 3) := dk_167 0 4 (dk_at dksX9_not_0 19 rfl rfl)
theorem dX9_not_22 : decode cX9_not 22 = .ok (.iconst 0, 1) := dk_3 (dk_at dksX9_not_0 22 rfl rfl)
theorem dX9_not_23 : decode cX9_not 23 = .ok (.iconst 2, 1) := dk_5 (dk_at dksX9_not_0 23 rfl rfl)
theorem dX9_not_24 : decode cX9_not 24 = .ok (.invokevirtual 116, 3) := dk_182 0 116 (dk_at dksX9_not_1 0 rfl rfl)
theorem dX9_not_27 : decode cX9_not 27 = .ok (.aload_n 0, 1) := dk_42 (dk_at dksX9_not_1 3 rfl rfl)
theorem dX9_not_28 : decode cX9_not 28 = .ok (.invokevirtual 29, 3) := dk_182 0 29 (dk_at dksX9_not_1 4 rfl rfl)
theorem dX9_not_31 : decode cX9_not 31 = .ok (.iinc 2 1, 3) := dk_132 2 1 (dk_at dksX9_not_1 7 rfl rfl)
theorem dX9_not_34 : decode cX9_not 34 = .ok (.goto (-32), 3) := dk_167 255 224 (dk_at dksX9_not_1 10 rfl rfl)
theorem dX9_not_37 : decode cX9_not 37 = .ok (.aload_n 0, 1) := dk_42 (dk_at dksX9_not_1 13 rfl rfl)
theorem dX9_not_38 : decode cX9_not 38 = .ok (.iload_n 1, 1) := dk_27 (dk_at dksX9_not_1 14 rfl rfl)
theorem dX9_not_39 : decode cX9_not 39 = .ok (.invokevirtual 237, 3) := dk_182 0 237 (dk_at dksX9_not_1 15 rfl rfl)
theorem dX9_not_42 : decode cX9_not 42 = .ok (.astore_n 3, 1) := dk_78 (dk_at dksX9_not_1 18 rfl rfl)
theorem dX9_not_43 : decode cX9_not 43 = .ok (.aload_n 0, 1) := dk_42 (dk_at dksX9_not_1 19 rfl rfl)
theorem dX9_not_44 : decode cX9_not 44 = .ok (.ldc 240, 2) := dk_18 240 (dk_at dksX9_not_1 20 rfl rfl)
theorem dX9_not_46 : decode cX9_not 46 = .ok (.invokevirtual 112, 3) := dk_182 0 112 (dk_at dksX9_not_2 0 rfl rfl)
theorem dX9_not_49 : decode cX9_not 49 = .ok (.ifCond .ne 12, 3) := dk_154 0 12 (dk_at dksX9_not_2 3 rfl rfl)
theorem dX9_not_52 : decode cX9_not 52 = .ok (.aload_n 0, 1) := dk_42 (dk_at dksX9_not_2 6 rfl rfl)
theorem dX9_not_53 : decode cX9_not 53 = .ok (.ldc 242, 2) := dk_18 242 (dk_at dksX9_not_2 7 rfl rfl)
theorem dX9_not_55 : decode cX9_not 55 = .ok (.invokevirtual 112, 3) := dk_182 0 112 (dk_at dksX9_not_2 9 rfl rfl)
theorem dX9_not_58 : decode cX9_not 58 = .ok (.ifCond .eq 33, 3) := dk_153 0 33 (dk_at dksX9_not_2 12 rfl rfl)
theorem dX9_not_61 : decode cX9_not 61 = .ok (.aload_n 0, 1) := dk_42 (dk_at dksX9_not_2 15 rfl rfl)
theorem dX9_not_62 : decode cX9_not 62 = .ok (.getfield 11, 3) := dk_180 0 11 (dk_at dksX9_not_2 16 rfl rfl)
theorem dX9_not_65 : decode cX9_not 65 = .ok (.iconst 0, 1) := dk_3 (dk_at dksX9_not_2 19 rfl rfl)
theorem dX9_not_66 : decode cX9_not 66 = .ok (.invokevirtual 244, 3) := dk_182 0 244 (dk_at dksX9_not_2 20 rfl rfl)
theorem dX9_not_69 : decode cX9_not 69 = .ok (.istore 4, 2) := dk_54 4 (dk_at dksX9_not_3 0 rfl rfl)
theorem dX9_not_71 : decode cX9_not 71 = .ok (.aload_n 0, 1) := dk_42 (dk_at dksX9_not_3 2 rfl rfl)
theorem dX9_not_72 : decode cX9_not 72 = .ok (.invokevirtual 29, 3) := dk_182 0 29 (dk_at dksX9_not_3 3 rfl rfl)
theorem dX9_not_75 : decode cX9_not 75 = .ok (.new 227, 3) := dk_187 0 227 (dk_at dksX9_not_3 6 rfl rfl)
theorem dX9_not_78 : decode cX9_not 78 = .ok (.dup, 1) := dk_89 (dk_at dksX9_not_3 9 rfl rfl)
theorem dX9_not_79 : decode cX9_not 79 = .ok (.iload 4, 2) := dk_21 4 (dk_at dksX9_not_3 10 rfl rfl)
theorem dX9_not_81 : decode cX9_not 81 = .ok (.aload_n 3, 1) := dk_45 (dk_at dksX9_not_3 12 rfl rfl)
theorem dX9_not_82 : decode cX9_not 82 = .ok (.aload_n 0, 1) := dk_42 (dk_at dksX9_not_3 13 rfl rfl)
theorem dX9_not_83 : decode cX9_not 83 = .ok (.iload_n 1, 1) := dk_27 (dk_at dksX9_not_3 14 rfl rfl)
theorem dX9_not_84 : decode cX9_not 84 = .ok (.invokevirtual 237, 3) := dk_182 0 237 (dk_at dksX9_not_3 15 rfl rfl)
theorem dX9_not_87 : decode cX9_not 87 = .ok (.invokespecial 229, 3) := dk_183 0 229 (dk_at dksX9_not_3 18 rfl rfl)
theorem dX9_not_90 : decode cX9_not 90 = .ok (.astore_n 3, 1) := dk_78 (dk_at dksX9_not_3 21 rfl rfl)
theorem dX9_not_91 : decode cX9_not 91 = .ok (.iload_n 2, 1) := dk_28 (dk_at dksX9_not_3 22 rfl rfl)
theorem dX9_not_92 : decode cX9_not 92 = .ok (.ifCond .le 18, 3) := dk_158 0 18 (dk_at dksX9_not_4 0 rfl rfl)
theorem dX9_not_95 : decode cX9_not 95 = .ok (.new 248, 3) := dk_187 0 248 (dk_at dksX9_not_4 3 rfl rfl)
theorem dX9_not_98 : decode cX9_not 98 = .ok (.dup, 1) := dk_89 (dk_at dksX9_not_4 6 rfl rfl)
theorem dX9_not_99 : decode cX9_not 99 = .ok (.aload_n 3, 1) := dk_45 (dk_at dksX9_not_4 7 rfl rfl)
theorem dX9_not_100 : decode cX9_not 100 = .ok (.invokespecial 250, 3) := dk_183 0 250 (dk_at dksX9_not_4 8 rfl rfl)
theorem dX9_not_103 : decode cX9_not 103 = .ok (.astore_n 3, 1) := dk_78 (dk_at dksX9_not_4 11 rfl rfl)
theorem dX9_not_104 : decode cX9_not 104 = .ok (.iinc 2 (-1), 3) := dk_132 2 255 (dk_at dksX9_not_4 12 rfl rfl)
theorem dX9_not_107 : decode cX9_not 107 = .ok (.goto (-16), 3) := dk_167 255 240 (dk_at dksX9_not_4 15 rfl rfl)
theorem dX9_not_110 : decode cX9_not 110 = .ok (.aload_n 3, 1) := dk_45 (dk_at dksX9_not_4 18 rfl rfl)
theorem dX9_not_111 : decode cX9_not 111 = .ok (.areturn, 1) := dk_176 (dk_at dksX9_not_4 19 rfl rfl)
abbrev cX9_sum : ByteArray := prog_12_method_20_code
def yX9_sum : MethodName := ⟨RX9, "sum", "(I)LSpoonRow$Expr;"⟩
def dkwX9_sum_2 : List UInt8 := [182, 0, 253, 183, 0, 229, 77, 167, 255, 208, 44, 176]
abbrev dktX9_sum_2 : List UInt8 := dkwX9_sum_2 ++ []
def dkwX9_sum_1 : List UInt8 := [153, 0, 34, 42, 180, 0, 11, 3, 182, 0, 244, 62, 42, 182, 0, 29, 187, 0, 227, 89, 29, 44, 42, 27]
abbrev dktX9_sum_1 : List UInt8 := dkwX9_sum_1 ++ dktX9_sum_2
def dkwX9_sum_0 : List UInt8 := [42, 27, 182, 0, 253, 77, 42, 19, 1, 0, 182, 0, 112, 154, 0, 13, 42, 19, 1, 2, 182, 0, 112]
abbrev dktX9_sum_0 : List UInt8 := dkwX9_sum_0 ++ dktX9_sum_1
theorem dksX9_sum_0 : cX9_sum.data.toList.drop 0 = dktX9_sum_0 := by decide +kernel
theorem dksX9_sum_1 : cX9_sum.data.toList.drop 23 = dktX9_sum_1 := dk_seg dksX9_sum_0 23 rfl rfl
theorem dksX9_sum_2 : cX9_sum.data.toList.drop 47 = dktX9_sum_2 := dk_seg dksX9_sum_1 24 rfl rfl
theorem dX9_sum_0 : decode cX9_sum 0 = .ok (.aload_n 0, 1) := dk_42 (dk_at dksX9_sum_0 0 rfl rfl)
theorem dX9_sum_1 : decode cX9_sum 1 = .ok (.iload_n 1, 1) := dk_27 (dk_at dksX9_sum_0 1 rfl rfl)
theorem dX9_sum_2 : decode cX9_sum 2 = .ok (.invokevirtual 253, 3) := dk_182 0 253 (dk_at dksX9_sum_0 2 rfl rfl)
theorem dX9_sum_5 : decode cX9_sum 5 = .ok (.astore_n 2, 1) := dk_77 (dk_at dksX9_sum_0 5 rfl rfl)
theorem dX9_sum_6 : decode cX9_sum 6 = .ok (.aload_n 0, 1) := dk_42 (dk_at dksX9_sum_0 6 rfl rfl)
theorem dX9_sum_7 : decode cX9_sum 7 = .ok (.ldc_w 256, 3) := dk_19 1 0 (dk_at dksX9_sum_0 7 rfl rfl)
theorem dX9_sum_10 : decode cX9_sum 10 = .ok (.invokevirtual 112, 3) := dk_182 0 112 (dk_at dksX9_sum_0 10 rfl rfl)
theorem dX9_sum_13 : decode cX9_sum 13 = .ok (.ifCond .ne 13, 3) := dk_154 0 13 (dk_at dksX9_sum_0 13 rfl rfl)
theorem dX9_sum_16 : decode cX9_sum 16 = .ok (.aload_n 0, 1) := dk_42 (dk_at dksX9_sum_0 16 rfl rfl)
theorem dX9_sum_17 : decode cX9_sum 17 = .ok (.ldc_w 258, 3) := dk_19 1 2 (dk_at dksX9_sum_0 17 rfl rfl)
theorem dX9_sum_20 : decode cX9_sum 20 = .ok (.invokevirtual 112, 3) := dk_182 0 112 (dk_at dksX9_sum_0 20 rfl rfl)
theorem dX9_sum_23 : decode cX9_sum 23 = .ok (.ifCond .eq 34, 3) := dk_153 0 34 (dk_at dksX9_sum_1 0 rfl rfl)
theorem dX9_sum_26 : decode cX9_sum 26 = .ok (.aload_n 0, 1) := dk_42 (dk_at dksX9_sum_1 3 rfl rfl)
theorem dX9_sum_27 : decode cX9_sum 27 = .ok (.getfield 11, 3) := dk_180 0 11 (dk_at dksX9_sum_1 4 rfl rfl)
theorem dX9_sum_30 : decode cX9_sum 30 = .ok (.iconst 0, 1) := dk_3 (dk_at dksX9_sum_1 7 rfl rfl)
theorem dX9_sum_31 : decode cX9_sum 31 = .ok (.invokevirtual 244, 3) := dk_182 0 244 (dk_at dksX9_sum_1 8 rfl rfl)
theorem dX9_sum_34 : decode cX9_sum 34 = .ok (.istore_n 3, 1) := dk_62 (dk_at dksX9_sum_1 11 rfl rfl)
theorem dX9_sum_35 : decode cX9_sum 35 = .ok (.aload_n 0, 1) := dk_42 (dk_at dksX9_sum_1 12 rfl rfl)
theorem dX9_sum_36 : decode cX9_sum 36 = .ok (.invokevirtual 29, 3) := dk_182 0 29 (dk_at dksX9_sum_1 13 rfl rfl)
theorem dX9_sum_39 : decode cX9_sum 39 = .ok (.new 227, 3) := dk_187 0 227 (dk_at dksX9_sum_1 16 rfl rfl)
theorem dX9_sum_42 : decode cX9_sum 42 = .ok (.dup, 1) := dk_89 (dk_at dksX9_sum_1 19 rfl rfl)
theorem dX9_sum_43 : decode cX9_sum 43 = .ok (.iload_n 3, 1) := dk_29 (dk_at dksX9_sum_1 20 rfl rfl)
theorem dX9_sum_44 : decode cX9_sum 44 = .ok (.aload_n 2, 1) := dk_44 (dk_at dksX9_sum_1 21 rfl rfl)
theorem dX9_sum_45 : decode cX9_sum 45 = .ok (.aload_n 0, 1) := dk_42 (dk_at dksX9_sum_1 22 rfl rfl)
theorem dX9_sum_46 : decode cX9_sum 46 = .ok (.iload_n 1, 1) := dk_27 (dk_at dksX9_sum_1 23 rfl rfl)
theorem dX9_sum_47 : decode cX9_sum 47 = .ok (.invokevirtual 253, 3) := dk_182 0 253 (dk_at dksX9_sum_2 0 rfl rfl)
theorem dX9_sum_50 : decode cX9_sum 50 = .ok (.invokespecial 229, 3) := dk_183 0 229 (dk_at dksX9_sum_2 3 rfl rfl)
theorem dX9_sum_53 : decode cX9_sum 53 = .ok (.astore_n 2, 1) := dk_77 (dk_at dksX9_sum_2 6 rfl rfl)
theorem dX9_sum_54 : decode cX9_sum 54 = .ok (.goto (-48), 3) := dk_167 255 208 (dk_at dksX9_sum_2 7 rfl rfl)
theorem dX9_sum_57 : decode cX9_sum 57 = .ok (.aload_n 2, 1) := dk_44 (dk_at dksX9_sum_2 10 rfl rfl)
theorem dX9_sum_58 : decode cX9_sum 58 = .ok (.areturn, 1) := dk_176 (dk_at dksX9_sum_2 11 rfl rfl)
abbrev cX9_product : ByteArray := prog_12_method_21_code
def yX9_product : MethodName := ⟨RX9, "product", "(I)LSpoonRow$Expr;"⟩
def dkwX9_product_2 : List UInt8 := [182, 1, 4, 183, 0, 229, 77, 167, 255, 208, 44, 176]
abbrev dktX9_product_2 : List UInt8 := dkwX9_product_2 ++ []
def dkwX9_product_1 : List UInt8 := [153, 0, 34, 42, 180, 0, 11, 3, 182, 0, 244, 62, 42, 182, 0, 29, 187, 0, 227, 89, 29, 44, 42, 27]
abbrev dktX9_product_1 : List UInt8 := dkwX9_product_1 ++ dktX9_product_2
def dkwX9_product_0 : List UInt8 := [42, 27, 182, 1, 4, 77, 42, 19, 1, 7, 182, 0, 112, 154, 0, 13, 42, 19, 1, 9, 182, 0, 112]
abbrev dktX9_product_0 : List UInt8 := dkwX9_product_0 ++ dktX9_product_1
theorem dksX9_product_0 : cX9_product.data.toList.drop 0 = dktX9_product_0 := by decide +kernel
theorem dksX9_product_1 : cX9_product.data.toList.drop 23 = dktX9_product_1 := dk_seg dksX9_product_0 23 rfl rfl
theorem dksX9_product_2 : cX9_product.data.toList.drop 47 = dktX9_product_2 := dk_seg dksX9_product_1 24 rfl rfl
theorem dX9_product_0 : decode cX9_product 0 = .ok (.aload_n 0, 1) := dk_42 (dk_at dksX9_product_0 0 rfl rfl)
theorem dX9_product_1 : decode cX9_product 1 = .ok (.iload_n 1, 1) := dk_27 (dk_at dksX9_product_0 1 rfl rfl)
theorem dX9_product_2 : decode cX9_product 2 = .ok (.invokevirtual 260, 3) := dk_182 1 4 (dk_at dksX9_product_0 2 rfl rfl)
theorem dX9_product_5 : decode cX9_product 5 = .ok (.astore_n 2, 1) := dk_77 (dk_at dksX9_product_0 5 rfl rfl)
theorem dX9_product_6 : decode cX9_product 6 = .ok (.aload_n 0, 1) := dk_42 (dk_at dksX9_product_0 6 rfl rfl)
theorem dX9_product_7 : decode cX9_product 7 = .ok (.ldc_w 263, 3) := dk_19 1 7 (dk_at dksX9_product_0 7 rfl rfl)
theorem dX9_product_10 : decode cX9_product 10 = .ok (.invokevirtual 112, 3) := dk_182 0 112 (dk_at dksX9_product_0 10 rfl rfl)
theorem dX9_product_13 : decode cX9_product 13 = .ok (.ifCond .ne 13, 3) := dk_154 0 13 (dk_at dksX9_product_0 13 rfl rfl)
theorem dX9_product_16 : decode cX9_product 16 = .ok (.aload_n 0, 1) := dk_42 (dk_at dksX9_product_0 16 rfl rfl)
theorem dX9_product_17 : decode cX9_product 17 = .ok (.ldc_w 265, 3) := dk_19 1 9 (dk_at dksX9_product_0 17 rfl rfl)
theorem dX9_product_20 : decode cX9_product 20 = .ok (.invokevirtual 112, 3) := dk_182 0 112 (dk_at dksX9_product_0 20 rfl rfl)
theorem dX9_product_23 : decode cX9_product 23 = .ok (.ifCond .eq 34, 3) := dk_153 0 34 (dk_at dksX9_product_1 0 rfl rfl)
theorem dX9_product_26 : decode cX9_product 26 = .ok (.aload_n 0, 1) := dk_42 (dk_at dksX9_product_1 3 rfl rfl)
theorem dX9_product_27 : decode cX9_product 27 = .ok (.getfield 11, 3) := dk_180 0 11 (dk_at dksX9_product_1 4 rfl rfl)
theorem dX9_product_30 : decode cX9_product 30 = .ok (.iconst 0, 1) := dk_3 (dk_at dksX9_product_1 7 rfl rfl)
theorem dX9_product_31 : decode cX9_product 31 = .ok (.invokevirtual 244, 3) := dk_182 0 244 (dk_at dksX9_product_1 8 rfl rfl)
theorem dX9_product_34 : decode cX9_product 34 = .ok (.istore_n 3, 1) := dk_62 (dk_at dksX9_product_1 11 rfl rfl)
theorem dX9_product_35 : decode cX9_product 35 = .ok (.aload_n 0, 1) := dk_42 (dk_at dksX9_product_1 12 rfl rfl)
theorem dX9_product_36 : decode cX9_product 36 = .ok (.invokevirtual 29, 3) := dk_182 0 29 (dk_at dksX9_product_1 13 rfl rfl)
theorem dX9_product_39 : decode cX9_product 39 = .ok (.new 227, 3) := dk_187 0 227 (dk_at dksX9_product_1 16 rfl rfl)
theorem dX9_product_42 : decode cX9_product 42 = .ok (.dup, 1) := dk_89 (dk_at dksX9_product_1 19 rfl rfl)
theorem dX9_product_43 : decode cX9_product 43 = .ok (.iload_n 3, 1) := dk_29 (dk_at dksX9_product_1 20 rfl rfl)
theorem dX9_product_44 : decode cX9_product 44 = .ok (.aload_n 2, 1) := dk_44 (dk_at dksX9_product_1 21 rfl rfl)
theorem dX9_product_45 : decode cX9_product 45 = .ok (.aload_n 0, 1) := dk_42 (dk_at dksX9_product_1 22 rfl rfl)
theorem dX9_product_46 : decode cX9_product 46 = .ok (.iload_n 1, 1) := dk_27 (dk_at dksX9_product_1 23 rfl rfl)
theorem dX9_product_47 : decode cX9_product 47 = .ok (.invokevirtual 260, 3) := dk_182 1 4 (dk_at dksX9_product_2 0 rfl rfl)
theorem dX9_product_50 : decode cX9_product 50 = .ok (.invokespecial 229, 3) := dk_183 0 229 (dk_at dksX9_product_2 3 rfl rfl)
theorem dX9_product_53 : decode cX9_product 53 = .ok (.astore_n 2, 1) := dk_77 (dk_at dksX9_product_2 6 rfl rfl)
theorem dX9_product_54 : decode cX9_product 54 = .ok (.goto (-48), 3) := dk_167 255 208 (dk_at dksX9_product_2 7 rfl rfl)
theorem dX9_product_57 : decode cX9_product 57 = .ok (.aload_n 2, 1) := dk_44 (dk_at dksX9_product_2 10 rfl rfl)
theorem dX9_product_58 : decode cX9_product 58 = .ok (.areturn, 1) := dk_176 (dk_at dksX9_product_2 11 rfl rfl)
abbrev cX9_part : ByteArray := prog_12_method_22_code
def yX9_part : MethodName := ⟨RX9, "part", "(I)LSpoonRow$Expr;"⟩
def dkwX9_part_4 : List UInt8 := [167, 0, 4, 3, 6, 182, 0, 116, 42, 182, 0, 29, 187, 1, 19, 89, 44, 183, 1, 21, 176]
abbrev dktX9_part_4 : List UInt8 := dkwX9_part_4 ++ []
def dkwX9_part_3 : List UInt8 := [167, 0, 4, 3, 4, 182, 0, 116, 42, 180, 0, 11, 184, 1, 16, 77, 42, 44, 198, 0, 7, 4]
abbrev dktX9_part_3 : List UInt8 := dkwX9_part_3 ++ dktX9_part_4
def dkwX9_part_2 : List UInt8 := [77, 42, 19, 1, 14, 182, 0, 193, 44, 176, 42, 42, 180, 0, 52, 178, 0, 76, 166, 0, 7, 4]
abbrev dktX9_part_2 : List UInt8 := dkwX9_part_2 ++ dktX9_part_3
def dkwX9_part_1 : List UInt8 := [183, 1, 13, 176, 42, 18, 220, 182, 0, 112, 153, 0, 24, 42, 182, 0, 29, 42, 27, 4, 96, 182, 0, 150]
abbrev dktX9_part_1 : List UInt8 := dkwX9_part_1 ++ dktX9_part_2
def dkwX9_part_0 : List UInt8 := [42, 180, 0, 52, 178, 0, 85, 166, 0, 19, 187, 1, 11, 89, 42, 3, 17, 39, 15, 182, 0, 129]
abbrev dktX9_part_0 : List UInt8 := dkwX9_part_0 ++ dktX9_part_1
theorem dksX9_part_0 : cX9_part.data.toList.drop 0 = dktX9_part_0 := by decide +kernel
theorem dksX9_part_1 : cX9_part.data.toList.drop 22 = dktX9_part_1 := dk_seg dksX9_part_0 22 rfl rfl
theorem dksX9_part_2 : cX9_part.data.toList.drop 46 = dktX9_part_2 := dk_seg dksX9_part_1 24 rfl rfl
theorem dksX9_part_3 : cX9_part.data.toList.drop 68 = dktX9_part_3 := dk_seg dksX9_part_2 22 rfl rfl
theorem dksX9_part_4 : cX9_part.data.toList.drop 90 = dktX9_part_4 := dk_seg dksX9_part_3 22 rfl rfl
theorem dX9_part_0 : decode cX9_part 0 = .ok (.aload_n 0, 1) := dk_42 (dk_at dksX9_part_0 0 rfl rfl)
theorem dX9_part_1 : decode cX9_part 1 = .ok (.getfield 52, 3) := dk_180 0 52 (dk_at dksX9_part_0 1 rfl rfl)
theorem dX9_part_4 : decode cX9_part 4 = .ok (.getstatic 85, 3) := dk_178 0 85 (dk_at dksX9_part_0 4 rfl rfl)
theorem dX9_part_7 : decode cX9_part 7 = .ok (.if_acmp .ne 19, 3) := dk_166 0 19 (dk_at dksX9_part_0 7 rfl rfl)
theorem dX9_part_10 : decode cX9_part 10 = .ok (.new 267, 3) := dk_187 1 11 (dk_at dksX9_part_0 10 rfl rfl)
theorem dX9_part_13 : decode cX9_part 13 = .ok (.dup, 1) := dk_89 (dk_at dksX9_part_0 13 rfl rfl)
theorem dX9_part_14 : decode cX9_part 14 = .ok (.aload_n 0, 1) := dk_42 (dk_at dksX9_part_0 14 rfl rfl)
theorem dX9_part_15 : decode cX9_part 15 = .ok (.iconst 0, 1) := dk_3 (dk_at dksX9_part_0 15 rfl rfl)
theorem dX9_part_16 : decode cX9_part 16 = .ok (.sipush 9999, 3) := dk_17 39 15 (dk_at dksX9_part_0 16 rfl rfl)
theorem dX9_part_19 : decode cX9_part 19 = .ok (.invokevirtual 129, 3) := dk_182 0 129 (dk_at dksX9_part_0 19 rfl rfl)
theorem dX9_part_22 : decode cX9_part 22 = .ok (.invokespecial 269, 3) := dk_183 1 13 (dk_at dksX9_part_1 0 rfl rfl)
theorem dX9_part_25 : decode cX9_part 25 = .ok (.areturn, 1) := dk_176 (dk_at dksX9_part_1 3 rfl rfl)
theorem dX9_part_26 : decode cX9_part 26 = .ok (.aload_n 0, 1) := dk_42 (dk_at dksX9_part_1 4 rfl rfl)
theorem dX9_part_27 : decode cX9_part 27 = .ok (.ldc 220, 2) := dk_18 220 (dk_at dksX9_part_1 5 rfl rfl)
theorem dX9_part_29 : decode cX9_part 29 = .ok (.invokevirtual 112, 3) := dk_182 0 112 (dk_at dksX9_part_1 7 rfl rfl)
theorem dX9_part_32 : decode cX9_part 32 = .ok (.ifCond .eq 24, 3) := dk_153 0 24 (dk_at dksX9_part_1 10 rfl rfl)
theorem dX9_part_35 : decode cX9_part 35 = .ok (.aload_n 0, 1) := dk_42 (dk_at dksX9_part_1 13 rfl rfl)
theorem dX9_part_36 : decode cX9_part 36 = .ok (.invokevirtual 29, 3) := dk_182 0 29 (dk_at dksX9_part_1 14 rfl rfl)
theorem dX9_part_39 : decode cX9_part 39 = .ok (.aload_n 0, 1) := dk_42 (dk_at dksX9_part_1 17 rfl rfl)
theorem dX9_part_40 : decode cX9_part 40 = .ok (.iload_n 1, 1) := dk_27 (dk_at dksX9_part_1 18 rfl rfl)
theorem dX9_part_41 : decode cX9_part 41 = .ok (.iconst 1, 1) := dk_4 (dk_at dksX9_part_1 19 rfl rfl)
theorem dX9_part_42 : decode cX9_part 42 = .ok (.iadd, 1) := dk_96 (dk_at dksX9_part_1 20 rfl rfl)
theorem dX9_part_43 : decode cX9_part 43 = .ok (.invokevirtual 150, 3) := dk_182 0 150 (dk_at dksX9_part_1 21 rfl rfl)
theorem dX9_part_46 : decode cX9_part 46 = .ok (.astore_n 2, 1) := dk_77 (dk_at dksX9_part_2 0 rfl rfl)
theorem dX9_part_47 : decode cX9_part 47 = .ok (.aload_n 0, 1) := dk_42 (dk_at dksX9_part_2 1 rfl rfl)
theorem dX9_part_48 : decode cX9_part 48 = .ok (.ldc_w 270, 3) := dk_19 1 14 (dk_at dksX9_part_2 2 rfl rfl)
theorem dX9_part_51 : decode cX9_part 51 = .ok (.invokevirtual 193, 3) := dk_182 0 193 (dk_at dksX9_part_2 5 rfl rfl)
theorem dX9_part_54 : decode cX9_part 54 = .ok (.aload_n 2, 1) := dk_44 (dk_at dksX9_part_2 8 rfl rfl)
theorem dX9_part_55 : decode cX9_part 55 = .ok (.areturn, 1) := dk_176 (dk_at dksX9_part_2 9 rfl rfl)
theorem dX9_part_56 : decode cX9_part 56 = .ok (.aload_n 0, 1) := dk_42 (dk_at dksX9_part_2 10 rfl rfl)
theorem dX9_part_57 : decode cX9_part 57 = .ok (.aload_n 0, 1) := dk_42 (dk_at dksX9_part_2 11 rfl rfl)
theorem dX9_part_58 : decode cX9_part 58 = .ok (.getfield 52, 3) := dk_180 0 52 (dk_at dksX9_part_2 12 rfl rfl)
theorem dX9_part_61 : decode cX9_part 61 = .ok (.getstatic 76, 3) := dk_178 0 76 (dk_at dksX9_part_2 15 rfl rfl)
theorem dX9_part_64 : decode cX9_part 64 = .ok (.if_acmp .ne 7, 3) := dk_166 0 7 (dk_at dksX9_part_2 18 rfl rfl)
theorem dX9_part_67 : decode cX9_part 67 = .ok (.iconst 1, 1) := dk_4 (dk_at dksX9_part_2 21 rfl rfl)
theorem dX9_part_68 : decode cX9_part 68 = .ok (.goto 4, 3) := dk_167 0 4 (dk_at dksX9_part_3 0 rfl rfl)
theorem dX9_part_71 : decode cX9_part 71 = .ok (.iconst 0, 1) := dk_3 (dk_at dksX9_part_3 3 rfl rfl)
theorem dX9_part_72 : decode cX9_part 72 = .ok (.iconst 1, 1) := dk_4 (dk_at dksX9_part_3 4 rfl rfl)
theorem dX9_part_73 : decode cX9_part 73 = .ok (.invokevirtual 116, 3) := dk_182 0 116 (dk_at dksX9_part_3 5 rfl rfl)
theorem dX9_part_76 : decode cX9_part 76 = .ok (.aload_n 0, 1) := dk_42 (dk_at dksX9_part_3 8 rfl rfl)
theorem dX9_part_77 : decode cX9_part 77 = .ok (.getfield 11, 3) := dk_180 0 11 (dk_at dksX9_part_3 9 rfl rfl)
theorem dX9_part_80 : decode cX9_part 80 = .ok (.invokestatic 272, 3) := dk_184 1 16 (dk_at dksX9_part_3 12 rfl rfl)
theorem dX9_part_83 : decode cX9_part 83 = .ok (.astore_n 2, 1) := dk_77 (dk_at dksX9_part_3 15 rfl rfl)
theorem dX9_part_84 : decode cX9_part 84 = .ok (.aload_n 0, 1) := dk_42 (dk_at dksX9_part_3 16 rfl rfl)
theorem dX9_part_85 : decode cX9_part 85 = .ok (.aload_n 2, 1) := dk_44 (dk_at dksX9_part_3 17 rfl rfl)
theorem dX9_part_86 : decode cX9_part 86 = .ok (.ifnull 7, 3) := dk_198 0 7 (dk_at dksX9_part_3 18 rfl rfl)
theorem dX9_part_89 : decode cX9_part 89 = .ok (.iconst 1, 1) := dk_4 (dk_at dksX9_part_3 21 rfl rfl)
theorem dX9_part_90 : decode cX9_part 90 = .ok (.goto 4, 3) := dk_167 0 4 (dk_at dksX9_part_4 0 rfl rfl)
theorem dX9_part_93 : decode cX9_part 93 = .ok (.iconst 0, 1) := dk_3 (dk_at dksX9_part_4 3 rfl rfl)
theorem dX9_part_94 : decode cX9_part 94 = .ok (.iconst 3, 1) := dk_6 (dk_at dksX9_part_4 4 rfl rfl)
theorem dX9_part_95 : decode cX9_part 95 = .ok (.invokevirtual 116, 3) := dk_182 0 116 (dk_at dksX9_part_4 5 rfl rfl)
theorem dX9_part_98 : decode cX9_part 98 = .ok (.aload_n 0, 1) := dk_42 (dk_at dksX9_part_4 8 rfl rfl)
theorem dX9_part_99 : decode cX9_part 99 = .ok (.invokevirtual 29, 3) := dk_182 0 29 (dk_at dksX9_part_4 9 rfl rfl)
theorem dX9_part_102 : decode cX9_part 102 = .ok (.new 275, 3) := dk_187 1 19 (dk_at dksX9_part_4 12 rfl rfl)
theorem dX9_part_105 : decode cX9_part 105 = .ok (.dup, 1) := dk_89 (dk_at dksX9_part_4 15 rfl rfl)
theorem dX9_part_106 : decode cX9_part 106 = .ok (.aload_n 2, 1) := dk_44 (dk_at dksX9_part_4 16 rfl rfl)
theorem dX9_part_107 : decode cX9_part 107 = .ok (.invokespecial 277, 3) := dk_183 1 21 (dk_at dksX9_part_4 17 rfl rfl)
theorem dX9_part_110 : decode cX9_part 110 = .ok (.areturn, 1) := dk_176 (dk_at dksX9_part_4 20 rfl rfl)
abbrev cX9_need : ByteArray := prog_12_method_9_code
def yX9_need : MethodName := ⟨RX9, "need", "(Ljava/lang/String;)V"⟩
def dkwX9_need_0 : List UInt8 := [42, 42, 43, 182, 0, 112, 4, 182, 0, 116, 42, 182, 0, 29, 177]
abbrev dktX9_need_0 : List UInt8 := dkwX9_need_0 ++ []
theorem dksX9_need_0 : cX9_need.data.toList.drop 0 = dktX9_need_0 := by decide +kernel
theorem dX9_need_0 : decode cX9_need 0 = .ok (.aload_n 0, 1) := dk_42 (dk_at dksX9_need_0 0 rfl rfl)
theorem dX9_need_1 : decode cX9_need 1 = .ok (.aload_n 0, 1) := dk_42 (dk_at dksX9_need_0 1 rfl rfl)
theorem dX9_need_2 : decode cX9_need 2 = .ok (.aload_n 1, 1) := dk_43 (dk_at dksX9_need_0 2 rfl rfl)
theorem dX9_need_3 : decode cX9_need 3 = .ok (.invokevirtual 112, 3) := dk_182 0 112 (dk_at dksX9_need_0 3 rfl rfl)
theorem dX9_need_6 : decode cX9_need 6 = .ok (.iconst 1, 1) := dk_4 (dk_at dksX9_need_0 6 rfl rfl)
theorem dX9_need_7 : decode cX9_need 7 = .ok (.invokevirtual 116, 3) := dk_182 0 116 (dk_at dksX9_need_0 7 rfl rfl)
theorem dX9_need_10 : decode cX9_need 10 = .ok (.aload_n 0, 1) := dk_42 (dk_at dksX9_need_0 10 rfl rfl)
theorem dX9_need_11 : decode cX9_need 11 = .ok (.invokevirtual 29, 3) := dk_182 0 29 (dk_at dksX9_need_0 11 rfl rfl)
theorem dX9_need_14 : decode cX9_need 14 = .ok (.return_, 1) := dk_177 (dk_at dksX9_need_0 14 rfl rfl)
abbrev cX9_valueOf : ByteArray := prog_12_method_23_code
def yX9_valueOf : MethodName := ⟨RX9, "valueOf", "(Ljava/lang/String;)LSpoonRow$Value;"⟩
def dkwX9_valueOf_4 : List UInt8 := [178, 1, 59, 167, 0, 4, 1, 176]
abbrev dktX9_valueOf_4 : List UInt8 := dkwX9_valueOf_4 ++ []
def dkwX9_valueOf_3 : List UInt8 := [42, 19, 1, 52, 182, 0, 103, 153, 0, 7, 178, 1, 54, 176, 42, 19, 1, 57, 182, 0, 103, 153, 0, 9]
abbrev dktX9_valueOf_3 : List UInt8 := dkwX9_valueOf_3 ++ dktX9_valueOf_4
def dkwX9_valueOf_2 : List UInt8 := [182, 0, 103, 153, 0, 7, 178, 1, 44, 176, 42, 19, 1, 47, 182, 0, 103, 153, 0, 7, 178, 1, 49, 176]
abbrev dktX9_valueOf_2 : List UInt8 := dkwX9_valueOf_2 ++ dktX9_valueOf_3
def dkwX9_valueOf_1 : List UInt8 := [178, 1, 34, 176, 42, 19, 1, 37, 182, 0, 103, 153, 0, 7, 178, 1, 39, 176, 42, 19, 1, 42]
abbrev dktX9_valueOf_1 : List UInt8 := dkwX9_valueOf_1 ++ dktX9_valueOf_2
def dkwX9_valueOf_0 : List UInt8 := [42, 19, 1, 24, 182, 0, 103, 153, 0, 7, 178, 1, 26, 176, 42, 19, 1, 32, 182, 0, 103, 153, 0, 7]
abbrev dktX9_valueOf_0 : List UInt8 := dkwX9_valueOf_0 ++ dktX9_valueOf_1
theorem dksX9_valueOf_0 : cX9_valueOf.data.toList.drop 0 = dktX9_valueOf_0 := by decide +kernel
theorem dksX9_valueOf_1 : cX9_valueOf.data.toList.drop 24 = dktX9_valueOf_1 := dk_seg dksX9_valueOf_0 24 rfl rfl
theorem dksX9_valueOf_2 : cX9_valueOf.data.toList.drop 46 = dktX9_valueOf_2 := dk_seg dksX9_valueOf_1 22 rfl rfl
theorem dksX9_valueOf_3 : cX9_valueOf.data.toList.drop 70 = dktX9_valueOf_3 := dk_seg dksX9_valueOf_2 24 rfl rfl
theorem dksX9_valueOf_4 : cX9_valueOf.data.toList.drop 94 = dktX9_valueOf_4 := dk_seg dksX9_valueOf_3 24 rfl rfl
theorem dX9_valueOf_0 : decode cX9_valueOf 0 = .ok (.aload_n 0, 1) := dk_42 (dk_at dksX9_valueOf_0 0 rfl rfl)
theorem dX9_valueOf_1 : decode cX9_valueOf 1 = .ok (.ldc_w 280, 3) := dk_19 1 24 (dk_at dksX9_valueOf_0 1 rfl rfl)
theorem dX9_valueOf_4 : decode cX9_valueOf 4 = .ok (.invokevirtual 103, 3) := dk_182 0 103 (dk_at dksX9_valueOf_0 4 rfl rfl)
theorem dX9_valueOf_7 : decode cX9_valueOf 7 = .ok (.ifCond .eq 7, 3) := dk_153 0 7 (dk_at dksX9_valueOf_0 7 rfl rfl)
theorem dX9_valueOf_10 : decode cX9_valueOf 10 = .ok (.getstatic 282, 3) := dk_178 1 26 (dk_at dksX9_valueOf_0 10 rfl rfl)
theorem dX9_valueOf_13 : decode cX9_valueOf 13 = .ok (.areturn, 1) := dk_176 (dk_at dksX9_valueOf_0 13 rfl rfl)
theorem dX9_valueOf_14 : decode cX9_valueOf 14 = .ok (.aload_n 0, 1) := dk_42 (dk_at dksX9_valueOf_0 14 rfl rfl)
theorem dX9_valueOf_15 : decode cX9_valueOf 15 = .ok (.ldc_w 288, 3) := dk_19 1 32 (dk_at dksX9_valueOf_0 15 rfl rfl)
theorem dX9_valueOf_18 : decode cX9_valueOf 18 = .ok (.invokevirtual 103, 3) := dk_182 0 103 (dk_at dksX9_valueOf_0 18 rfl rfl)
theorem dX9_valueOf_21 : decode cX9_valueOf 21 = .ok (.ifCond .eq 7, 3) := dk_153 0 7 (dk_at dksX9_valueOf_0 21 rfl rfl)
theorem dX9_valueOf_24 : decode cX9_valueOf 24 = .ok (.getstatic 290, 3) := dk_178 1 34 (dk_at dksX9_valueOf_1 0 rfl rfl)
theorem dX9_valueOf_27 : decode cX9_valueOf 27 = .ok (.areturn, 1) := dk_176 (dk_at dksX9_valueOf_1 3 rfl rfl)
theorem dX9_valueOf_28 : decode cX9_valueOf 28 = .ok (.aload_n 0, 1) := dk_42 (dk_at dksX9_valueOf_1 4 rfl rfl)
theorem dX9_valueOf_29 : decode cX9_valueOf 29 = .ok (.ldc_w 293, 3) := dk_19 1 37 (dk_at dksX9_valueOf_1 5 rfl rfl)
theorem dX9_valueOf_32 : decode cX9_valueOf 32 = .ok (.invokevirtual 103, 3) := dk_182 0 103 (dk_at dksX9_valueOf_1 8 rfl rfl)
theorem dX9_valueOf_35 : decode cX9_valueOf 35 = .ok (.ifCond .eq 7, 3) := dk_153 0 7 (dk_at dksX9_valueOf_1 11 rfl rfl)
theorem dX9_valueOf_38 : decode cX9_valueOf 38 = .ok (.getstatic 295, 3) := dk_178 1 39 (dk_at dksX9_valueOf_1 14 rfl rfl)
theorem dX9_valueOf_41 : decode cX9_valueOf 41 = .ok (.areturn, 1) := dk_176 (dk_at dksX9_valueOf_1 17 rfl rfl)
theorem dX9_valueOf_42 : decode cX9_valueOf 42 = .ok (.aload_n 0, 1) := dk_42 (dk_at dksX9_valueOf_1 18 rfl rfl)
theorem dX9_valueOf_43 : decode cX9_valueOf 43 = .ok (.ldc_w 298, 3) := dk_19 1 42 (dk_at dksX9_valueOf_1 19 rfl rfl)
theorem dX9_valueOf_46 : decode cX9_valueOf 46 = .ok (.invokevirtual 103, 3) := dk_182 0 103 (dk_at dksX9_valueOf_2 0 rfl rfl)
theorem dX9_valueOf_49 : decode cX9_valueOf 49 = .ok (.ifCond .eq 7, 3) := dk_153 0 7 (dk_at dksX9_valueOf_2 3 rfl rfl)
theorem dX9_valueOf_52 : decode cX9_valueOf 52 = .ok (.getstatic 300, 3) := dk_178 1 44 (dk_at dksX9_valueOf_2 6 rfl rfl)
theorem dX9_valueOf_55 : decode cX9_valueOf 55 = .ok (.areturn, 1) := dk_176 (dk_at dksX9_valueOf_2 9 rfl rfl)
theorem dX9_valueOf_56 : decode cX9_valueOf 56 = .ok (.aload_n 0, 1) := dk_42 (dk_at dksX9_valueOf_2 10 rfl rfl)
theorem dX9_valueOf_57 : decode cX9_valueOf 57 = .ok (.ldc_w 303, 3) := dk_19 1 47 (dk_at dksX9_valueOf_2 11 rfl rfl)
theorem dX9_valueOf_60 : decode cX9_valueOf 60 = .ok (.invokevirtual 103, 3) := dk_182 0 103 (dk_at dksX9_valueOf_2 14 rfl rfl)
theorem dX9_valueOf_63 : decode cX9_valueOf 63 = .ok (.ifCond .eq 7, 3) := dk_153 0 7 (dk_at dksX9_valueOf_2 17 rfl rfl)
theorem dX9_valueOf_66 : decode cX9_valueOf 66 = .ok (.getstatic 305, 3) := dk_178 1 49 (dk_at dksX9_valueOf_2 20 rfl rfl)
theorem dX9_valueOf_69 : decode cX9_valueOf 69 = .ok (.areturn, 1) := dk_176 (dk_at dksX9_valueOf_2 23 rfl rfl)
theorem dX9_valueOf_70 : decode cX9_valueOf 70 = .ok (.aload_n 0, 1) := dk_42 (dk_at dksX9_valueOf_3 0 rfl rfl)
theorem dX9_valueOf_71 : decode cX9_valueOf 71 = .ok (.ldc_w 308, 3) := dk_19 1 52 (dk_at dksX9_valueOf_3 1 rfl rfl)
theorem dX9_valueOf_74 : decode cX9_valueOf 74 = .ok (.invokevirtual 103, 3) := dk_182 0 103 (dk_at dksX9_valueOf_3 4 rfl rfl)
theorem dX9_valueOf_77 : decode cX9_valueOf 77 = .ok (.ifCond .eq 7, 3) := dk_153 0 7 (dk_at dksX9_valueOf_3 7 rfl rfl)
theorem dX9_valueOf_80 : decode cX9_valueOf 80 = .ok (.getstatic 310, 3) := dk_178 1 54 (dk_at dksX9_valueOf_3 10 rfl rfl)
theorem dX9_valueOf_83 : decode cX9_valueOf 83 = .ok (.areturn, 1) := dk_176 (dk_at dksX9_valueOf_3 13 rfl rfl)
theorem dX9_valueOf_84 : decode cX9_valueOf 84 = .ok (.aload_n 0, 1) := dk_42 (dk_at dksX9_valueOf_3 14 rfl rfl)
theorem dX9_valueOf_85 : decode cX9_valueOf 85 = .ok (.ldc_w 313, 3) := dk_19 1 57 (dk_at dksX9_valueOf_3 15 rfl rfl)
theorem dX9_valueOf_88 : decode cX9_valueOf 88 = .ok (.invokevirtual 103, 3) := dk_182 0 103 (dk_at dksX9_valueOf_3 18 rfl rfl)
theorem dX9_valueOf_91 : decode cX9_valueOf 91 = .ok (.ifCond .eq 9, 3) := dk_153 0 9 (dk_at dksX9_valueOf_3 21 rfl rfl)
theorem dX9_valueOf_94 : decode cX9_valueOf 94 = .ok (.getstatic 315, 3) := dk_178 1 59 (dk_at dksX9_valueOf_4 0 rfl rfl)
theorem dX9_valueOf_97 : decode cX9_valueOf 97 = .ok (.goto 4, 3) := dk_167 0 4 (dk_at dksX9_valueOf_4 3 rfl rfl)
theorem dX9_valueOf_100 : decode cX9_valueOf 100 = .ok (.aconst_null, 1) := dk_1 (dk_at dksX9_valueOf_4 6 rfl rfl)
theorem dX9_valueOf_101 : decode cX9_valueOf 101 = .ok (.areturn, 1) := dk_176 (dk_at dksX9_valueOf_4 7 rfl rfl)
abbrev cX9_numberHere : ByteArray := prog_12_method_12_code
def yX9_numberHere : MethodName := ⟨RX9, "numberHere", "(II)I"⟩
def dkwX9_numberHere_2 : List UInt8 := [167, 0, 4, 3, 5, 182, 0, 116, 42, 180, 0, 82, 172]
abbrev dktX9_numberHere_2 : List UInt8 := dkwX9_numberHere_2 ++ []
def dkwX9_numberHere_1 : List UInt8 := [180, 0, 42, 154, 0, 23, 42, 180, 0, 82, 27, 161, 0, 15, 42, 180, 0, 82, 28, 163, 0, 7, 4]
abbrev dktX9_numberHere_1 : List UInt8 := dkwX9_numberHere_1 ++ dktX9_numberHere_2
def dkwX9_numberHere_0 : List UInt8 := [42, 42, 180, 0, 52, 178, 0, 85, 166, 0, 7, 4, 167, 0, 4, 3, 4, 182, 0, 116, 42, 42]
abbrev dktX9_numberHere_0 : List UInt8 := dkwX9_numberHere_0 ++ dktX9_numberHere_1
theorem dksX9_numberHere_0 : cX9_numberHere.data.toList.drop 0 = dktX9_numberHere_0 := by decide +kernel
theorem dksX9_numberHere_1 : cX9_numberHere.data.toList.drop 22 = dktX9_numberHere_1 := dk_seg dksX9_numberHere_0 22 rfl rfl
theorem dksX9_numberHere_2 : cX9_numberHere.data.toList.drop 45 = dktX9_numberHere_2 := dk_seg dksX9_numberHere_1 23 rfl rfl
theorem dX9_numberHere_0 : decode cX9_numberHere 0 = .ok (.aload_n 0, 1) := dk_42 (dk_at dksX9_numberHere_0 0 rfl rfl)
theorem dX9_numberHere_1 : decode cX9_numberHere 1 = .ok (.aload_n 0, 1) := dk_42 (dk_at dksX9_numberHere_0 1 rfl rfl)
theorem dX9_numberHere_2 : decode cX9_numberHere 2 = .ok (.getfield 52, 3) := dk_180 0 52 (dk_at dksX9_numberHere_0 2 rfl rfl)
theorem dX9_numberHere_5 : decode cX9_numberHere 5 = .ok (.getstatic 85, 3) := dk_178 0 85 (dk_at dksX9_numberHere_0 5 rfl rfl)
theorem dX9_numberHere_8 : decode cX9_numberHere 8 = .ok (.if_acmp .ne 7, 3) := dk_166 0 7 (dk_at dksX9_numberHere_0 8 rfl rfl)
theorem dX9_numberHere_11 : decode cX9_numberHere 11 = .ok (.iconst 1, 1) := dk_4 (dk_at dksX9_numberHere_0 11 rfl rfl)
theorem dX9_numberHere_12 : decode cX9_numberHere 12 = .ok (.goto 4, 3) := dk_167 0 4 (dk_at dksX9_numberHere_0 12 rfl rfl)
theorem dX9_numberHere_15 : decode cX9_numberHere 15 = .ok (.iconst 0, 1) := dk_3 (dk_at dksX9_numberHere_0 15 rfl rfl)
theorem dX9_numberHere_16 : decode cX9_numberHere 16 = .ok (.iconst 1, 1) := dk_4 (dk_at dksX9_numberHere_0 16 rfl rfl)
theorem dX9_numberHere_17 : decode cX9_numberHere 17 = .ok (.invokevirtual 116, 3) := dk_182 0 116 (dk_at dksX9_numberHere_0 17 rfl rfl)
theorem dX9_numberHere_20 : decode cX9_numberHere 20 = .ok (.aload_n 0, 1) := dk_42 (dk_at dksX9_numberHere_0 20 rfl rfl)
theorem dX9_numberHere_21 : decode cX9_numberHere 21 = .ok (.aload_n 0, 1) := dk_42 (dk_at dksX9_numberHere_0 21 rfl rfl)
theorem dX9_numberHere_22 : decode cX9_numberHere 22 = .ok (.getfield 42, 3) := dk_180 0 42 (dk_at dksX9_numberHere_1 0 rfl rfl)
theorem dX9_numberHere_25 : decode cX9_numberHere 25 = .ok (.ifCond .ne 23, 3) := dk_154 0 23 (dk_at dksX9_numberHere_1 3 rfl rfl)
theorem dX9_numberHere_28 : decode cX9_numberHere 28 = .ok (.aload_n 0, 1) := dk_42 (dk_at dksX9_numberHere_1 6 rfl rfl)
theorem dX9_numberHere_29 : decode cX9_numberHere 29 = .ok (.getfield 82, 3) := dk_180 0 82 (dk_at dksX9_numberHere_1 7 rfl rfl)
theorem dX9_numberHere_32 : decode cX9_numberHere 32 = .ok (.iload_n 1, 1) := dk_27 (dk_at dksX9_numberHere_1 10 rfl rfl)
theorem dX9_numberHere_33 : decode cX9_numberHere 33 = .ok (.if_icmp .lt 15, 3) := dk_161 0 15 (dk_at dksX9_numberHere_1 11 rfl rfl)
theorem dX9_numberHere_36 : decode cX9_numberHere 36 = .ok (.aload_n 0, 1) := dk_42 (dk_at dksX9_numberHere_1 14 rfl rfl)
theorem dX9_numberHere_37 : decode cX9_numberHere 37 = .ok (.getfield 82, 3) := dk_180 0 82 (dk_at dksX9_numberHere_1 15 rfl rfl)
theorem dX9_numberHere_40 : decode cX9_numberHere 40 = .ok (.iload_n 2, 1) := dk_28 (dk_at dksX9_numberHere_1 18 rfl rfl)
theorem dX9_numberHere_41 : decode cX9_numberHere 41 = .ok (.if_icmp .gt 7, 3) := dk_163 0 7 (dk_at dksX9_numberHere_1 19 rfl rfl)
theorem dX9_numberHere_44 : decode cX9_numberHere 44 = .ok (.iconst 1, 1) := dk_4 (dk_at dksX9_numberHere_1 22 rfl rfl)
theorem dX9_numberHere_45 : decode cX9_numberHere 45 = .ok (.goto 4, 3) := dk_167 0 4 (dk_at dksX9_numberHere_2 0 rfl rfl)
theorem dX9_numberHere_48 : decode cX9_numberHere 48 = .ok (.iconst 0, 1) := dk_3 (dk_at dksX9_numberHere_2 3 rfl rfl)
theorem dX9_numberHere_49 : decode cX9_numberHere 49 = .ok (.iconst 2, 1) := dk_5 (dk_at dksX9_numberHere_2 4 rfl rfl)
theorem dX9_numberHere_50 : decode cX9_numberHere 50 = .ok (.invokevirtual 116, 3) := dk_182 0 116 (dk_at dksX9_numberHere_2 5 rfl rfl)
theorem dX9_numberHere_53 : decode cX9_numberHere 53 = .ok (.aload_n 0, 1) := dk_42 (dk_at dksX9_numberHere_2 8 rfl rfl)
theorem dX9_numberHere_54 : decode cX9_numberHere 54 = .ok (.getfield 82, 3) := dk_180 0 82 (dk_at dksX9_numberHere_2 9 rfl rfl)
theorem dX9_numberHere_57 : decode cX9_numberHere 57 = .ok (.ireturn, 1) := dk_172 (dk_at dksX9_numberHere_2 12 rfl rfl)
abbrev cX9_never : ByteArray := prog_12_method_15_code
def yX9_never : MethodName := ⟨RX9, "never", "(LSpoonRow$Bed;)V"⟩
def dkwX9_never_3 : List UInt8 := [43, 180, 0, 200, 29, 92, 46, 4, 28, 120, 128, 79, 43, 89, 180, 0, 167, 4, 96, 181, 0, 167, 177]
abbrev dktX9_never_3 : List UInt8 := dkwX9_never_3 ++ []
def dkwX9_never_2 : List UInt8 := [167, 0, 4, 3, 7, 182, 0, 116, 42, 182, 0, 29, 43, 180, 0, 200, 28, 92, 46, 4, 29, 120, 128, 79]
abbrev dktX9_never_2 : List UInt8 := dkwX9_never_2 ++ dktX9_never_3
def dkwX9_never_1 : List UInt8 := [182, 0, 197, 62, 42, 29, 28, 159, 0, 20, 43, 180, 0, 200, 28, 46, 29, 122, 4, 126, 154, 0, 7, 4]
abbrev dktX9_never_1 : List UInt8 := dkwX9_never_1 ++ dktX9_never_2
def dkwX9_never_0 : List UInt8 := [42, 43, 180, 0, 181, 182, 0, 185, 182, 0, 197, 61, 42, 182, 0, 29, 42, 43, 180, 0, 181, 182, 0, 185]
abbrev dktX9_never_0 : List UInt8 := dkwX9_never_0 ++ dktX9_never_1
theorem dksX9_never_0 : cX9_never.data.toList.drop 0 = dktX9_never_0 := by decide +kernel
theorem dksX9_never_1 : cX9_never.data.toList.drop 24 = dktX9_never_1 := dk_seg dksX9_never_0 24 rfl rfl
theorem dksX9_never_2 : cX9_never.data.toList.drop 48 = dktX9_never_2 := dk_seg dksX9_never_1 24 rfl rfl
theorem dksX9_never_3 : cX9_never.data.toList.drop 72 = dktX9_never_3 := dk_seg dksX9_never_2 24 rfl rfl
theorem dX9_never_0 : decode cX9_never 0 = .ok (.aload_n 0, 1) := dk_42 (dk_at dksX9_never_0 0 rfl rfl)
theorem dX9_never_1 : decode cX9_never 1 = .ok (.aload_n 1, 1) := dk_43 (dk_at dksX9_never_0 1 rfl rfl)
theorem dX9_never_2 : decode cX9_never 2 = .ok (.getfield 181, 3) := dk_180 0 181 (dk_at dksX9_never_0 2 rfl rfl)
theorem dX9_never_5 : decode cX9_never 5 = .ok (.invokevirtual 185, 3) := dk_182 0 185 (dk_at dksX9_never_0 5 rfl rfl)
theorem dX9_never_8 : decode cX9_never 8 = .ok (.invokevirtual 197, 3) := dk_182 0 197 (dk_at dksX9_never_0 8 rfl rfl)
theorem dX9_never_11 : decode cX9_never 11 = .ok (.istore_n 2, 1) := dk_61 (dk_at dksX9_never_0 11 rfl rfl)
theorem dX9_never_12 : decode cX9_never 12 = .ok (.aload_n 0, 1) := dk_42 (dk_at dksX9_never_0 12 rfl rfl)
theorem dX9_never_13 : decode cX9_never 13 = .ok (.invokevirtual 29, 3) := dk_182 0 29 (dk_at dksX9_never_0 13 rfl rfl)
theorem dX9_never_16 : decode cX9_never 16 = .ok (.aload_n 0, 1) := dk_42 (dk_at dksX9_never_0 16 rfl rfl)
theorem dX9_never_17 : decode cX9_never 17 = .ok (.aload_n 1, 1) := dk_43 (dk_at dksX9_never_0 17 rfl rfl)
theorem dX9_never_18 : decode cX9_never 18 = .ok (.getfield 181, 3) := dk_180 0 181 (dk_at dksX9_never_0 18 rfl rfl)
theorem dX9_never_21 : decode cX9_never 21 = .ok (.invokevirtual 185, 3) := dk_182 0 185 (dk_at dksX9_never_0 21 rfl rfl)
theorem dX9_never_24 : decode cX9_never 24 = .ok (.invokevirtual 197, 3) := dk_182 0 197 (dk_at dksX9_never_1 0 rfl rfl)
theorem dX9_never_27 : decode cX9_never 27 = .ok (.istore_n 3, 1) := dk_62 (dk_at dksX9_never_1 3 rfl rfl)
theorem dX9_never_28 : decode cX9_never 28 = .ok (.aload_n 0, 1) := dk_42 (dk_at dksX9_never_1 4 rfl rfl)
theorem dX9_never_29 : decode cX9_never 29 = .ok (.iload_n 3, 1) := dk_29 (dk_at dksX9_never_1 5 rfl rfl)
theorem dX9_never_30 : decode cX9_never 30 = .ok (.iload_n 2, 1) := dk_28 (dk_at dksX9_never_1 6 rfl rfl)
theorem dX9_never_31 : decode cX9_never 31 = .ok (.if_icmp .eq 20, 3) := dk_159 0 20 (dk_at dksX9_never_1 7 rfl rfl)
theorem dX9_never_34 : decode cX9_never 34 = .ok (.aload_n 1, 1) := dk_43 (dk_at dksX9_never_1 10 rfl rfl)
theorem dX9_never_35 : decode cX9_never 35 = .ok (.getfield 200, 3) := dk_180 0 200 (dk_at dksX9_never_1 11 rfl rfl)
theorem dX9_never_38 : decode cX9_never 38 = .ok (.iload_n 2, 1) := dk_28 (dk_at dksX9_never_1 14 rfl rfl)
theorem dX9_never_39 : decode cX9_never 39 = .ok (.iaload, 1) := dk_46 (dk_at dksX9_never_1 15 rfl rfl)
theorem dX9_never_40 : decode cX9_never 40 = .ok (.iload_n 3, 1) := dk_29 (dk_at dksX9_never_1 16 rfl rfl)
theorem dX9_never_41 : decode cX9_never 41 = .ok (.ishr, 1) := dk_122 (dk_at dksX9_never_1 17 rfl rfl)
theorem dX9_never_42 : decode cX9_never 42 = .ok (.iconst 1, 1) := dk_4 (dk_at dksX9_never_1 18 rfl rfl)
theorem dX9_never_43 : decode cX9_never 43 = .ok (.iand, 1) := dk_126 (dk_at dksX9_never_1 19 rfl rfl)
theorem dX9_never_44 : decode cX9_never 44 = .ok (.ifCond .ne 7, 3) := dk_154 0 7 (dk_at dksX9_never_1 20 rfl rfl)
theorem dX9_never_47 : decode cX9_never 47 = .ok (.iconst 1, 1) := dk_4 (dk_at dksX9_never_1 23 rfl rfl)
theorem dX9_never_48 : decode cX9_never 48 = .ok (.goto 4, 3) := dk_167 0 4 (dk_at dksX9_never_2 0 rfl rfl)
theorem dX9_never_51 : decode cX9_never 51 = .ok (.iconst 0, 1) := dk_3 (dk_at dksX9_never_2 3 rfl rfl)
theorem dX9_never_52 : decode cX9_never 52 = .ok (.iconst 4, 1) := dk_7 (dk_at dksX9_never_2 4 rfl rfl)
theorem dX9_never_53 : decode cX9_never 53 = .ok (.invokevirtual 116, 3) := dk_182 0 116 (dk_at dksX9_never_2 5 rfl rfl)
theorem dX9_never_56 : decode cX9_never 56 = .ok (.aload_n 0, 1) := dk_42 (dk_at dksX9_never_2 8 rfl rfl)
theorem dX9_never_57 : decode cX9_never 57 = .ok (.invokevirtual 29, 3) := dk_182 0 29 (dk_at dksX9_never_2 9 rfl rfl)
theorem dX9_never_60 : decode cX9_never 60 = .ok (.aload_n 1, 1) := dk_43 (dk_at dksX9_never_2 12 rfl rfl)
theorem dX9_never_61 : decode cX9_never 61 = .ok (.getfield 200, 3) := dk_180 0 200 (dk_at dksX9_never_2 13 rfl rfl)
theorem dX9_never_64 : decode cX9_never 64 = .ok (.iload_n 2, 1) := dk_28 (dk_at dksX9_never_2 16 rfl rfl)
theorem dX9_never_65 : decode cX9_never 65 = .ok (.dup2, 1) := dk_92 (dk_at dksX9_never_2 17 rfl rfl)
theorem dX9_never_66 : decode cX9_never 66 = .ok (.iaload, 1) := dk_46 (dk_at dksX9_never_2 18 rfl rfl)
theorem dX9_never_67 : decode cX9_never 67 = .ok (.iconst 1, 1) := dk_4 (dk_at dksX9_never_2 19 rfl rfl)
theorem dX9_never_68 : decode cX9_never 68 = .ok (.iload_n 3, 1) := dk_29 (dk_at dksX9_never_2 20 rfl rfl)
theorem dX9_never_69 : decode cX9_never 69 = .ok (.ishl, 1) := dk_120 (dk_at dksX9_never_2 21 rfl rfl)
theorem dX9_never_70 : decode cX9_never 70 = .ok (.ior, 1) := dk_128 (dk_at dksX9_never_2 22 rfl rfl)
theorem dX9_never_71 : decode cX9_never 71 = .ok (.iastore, 1) := dk_79 (dk_at dksX9_never_2 23 rfl rfl)
theorem dX9_never_72 : decode cX9_never 72 = .ok (.aload_n 1, 1) := dk_43 (dk_at dksX9_never_3 0 rfl rfl)
theorem dX9_never_73 : decode cX9_never 73 = .ok (.getfield 200, 3) := dk_180 0 200 (dk_at dksX9_never_3 1 rfl rfl)
theorem dX9_never_76 : decode cX9_never 76 = .ok (.iload_n 3, 1) := dk_29 (dk_at dksX9_never_3 4 rfl rfl)
theorem dX9_never_77 : decode cX9_never 77 = .ok (.dup2, 1) := dk_92 (dk_at dksX9_never_3 5 rfl rfl)
theorem dX9_never_78 : decode cX9_never 78 = .ok (.iaload, 1) := dk_46 (dk_at dksX9_never_3 6 rfl rfl)
theorem dX9_never_79 : decode cX9_never 79 = .ok (.iconst 1, 1) := dk_4 (dk_at dksX9_never_3 7 rfl rfl)
theorem dX9_never_80 : decode cX9_never 80 = .ok (.iload_n 2, 1) := dk_28 (dk_at dksX9_never_3 8 rfl rfl)
theorem dX9_never_81 : decode cX9_never 81 = .ok (.ishl, 1) := dk_120 (dk_at dksX9_never_3 9 rfl rfl)
theorem dX9_never_82 : decode cX9_never 82 = .ok (.ior, 1) := dk_128 (dk_at dksX9_never_3 10 rfl rfl)
theorem dX9_never_83 : decode cX9_never 83 = .ok (.iastore, 1) := dk_79 (dk_at dksX9_never_3 11 rfl rfl)
theorem dX9_never_84 : decode cX9_never 84 = .ok (.aload_n 1, 1) := dk_43 (dk_at dksX9_never_3 12 rfl rfl)
theorem dX9_never_85 : decode cX9_never 85 = .ok (.dup, 1) := dk_89 (dk_at dksX9_never_3 13 rfl rfl)
theorem dX9_never_86 : decode cX9_never 86 = .ok (.getfield 167, 3) := dk_180 0 167 (dk_at dksX9_never_3 14 rfl rfl)
theorem dX9_never_89 : decode cX9_never 89 = .ok (.iconst 1, 1) := dk_4 (dk_at dksX9_never_3 17 rfl rfl)
theorem dX9_never_90 : decode cX9_never 90 = .ok (.iadd, 1) := dk_96 (dk_at dksX9_never_3 18 rfl rfl)
theorem dX9_never_91 : decode cX9_never 91 = .ok (.putfield 167, 3) := dk_181 0 167 (dk_at dksX9_never_3 19 rfl rfl)
theorem dX9_never_94 : decode cX9_never 94 = .ok (.return_, 1) := dk_177 (dk_at dksX9_never_3 22 rfl rfl)
abbrev cX9_amongHere : ByteArray := prog_12_method_13_code
def yX9_amongHere : MethodName := ⟨RX9, "amongHere", "(I)I"⟩
def dkwX9_amongHere_2 : List UInt8 := [4, 167, 0, 4, 3, 6, 182, 0, 116, 42, 180, 0, 82, 172]
abbrev dktX9_amongHere_2 : List UInt8 := dkwX9_amongHere_2 ++ []
def dkwX9_amongHere_1 : List UInt8 := [180, 0, 42, 154, 0, 7, 4, 167, 0, 4, 3, 5, 182, 0, 116, 42, 42, 180, 0, 82, 27, 162, 0, 7]
abbrev dktX9_amongHere_1 : List UInt8 := dkwX9_amongHere_1 ++ dktX9_amongHere_2
def dkwX9_amongHere_0 : List UInt8 := [42, 42, 180, 0, 52, 178, 0, 85, 166, 0, 7, 4, 167, 0, 4, 3, 4, 182, 0, 116, 42, 42]
abbrev dktX9_amongHere_0 : List UInt8 := dkwX9_amongHere_0 ++ dktX9_amongHere_1
theorem dksX9_amongHere_0 : cX9_amongHere.data.toList.drop 0 = dktX9_amongHere_0 := by decide +kernel
theorem dksX9_amongHere_1 : cX9_amongHere.data.toList.drop 22 = dktX9_amongHere_1 := dk_seg dksX9_amongHere_0 22 rfl rfl
theorem dksX9_amongHere_2 : cX9_amongHere.data.toList.drop 46 = dktX9_amongHere_2 := dk_seg dksX9_amongHere_1 24 rfl rfl
theorem dX9_amongHere_0 : decode cX9_amongHere 0 = .ok (.aload_n 0, 1) := dk_42 (dk_at dksX9_amongHere_0 0 rfl rfl)
theorem dX9_amongHere_1 : decode cX9_amongHere 1 = .ok (.aload_n 0, 1) := dk_42 (dk_at dksX9_amongHere_0 1 rfl rfl)
theorem dX9_amongHere_2 : decode cX9_amongHere 2 = .ok (.getfield 52, 3) := dk_180 0 52 (dk_at dksX9_amongHere_0 2 rfl rfl)
theorem dX9_amongHere_5 : decode cX9_amongHere 5 = .ok (.getstatic 85, 3) := dk_178 0 85 (dk_at dksX9_amongHere_0 5 rfl rfl)
theorem dX9_amongHere_8 : decode cX9_amongHere 8 = .ok (.if_acmp .ne 7, 3) := dk_166 0 7 (dk_at dksX9_amongHere_0 8 rfl rfl)
theorem dX9_amongHere_11 : decode cX9_amongHere 11 = .ok (.iconst 1, 1) := dk_4 (dk_at dksX9_amongHere_0 11 rfl rfl)
theorem dX9_amongHere_12 : decode cX9_amongHere 12 = .ok (.goto 4, 3) := dk_167 0 4 (dk_at dksX9_amongHere_0 12 rfl rfl)
theorem dX9_amongHere_15 : decode cX9_amongHere 15 = .ok (.iconst 0, 1) := dk_3 (dk_at dksX9_amongHere_0 15 rfl rfl)
theorem dX9_amongHere_16 : decode cX9_amongHere 16 = .ok (.iconst 1, 1) := dk_4 (dk_at dksX9_amongHere_0 16 rfl rfl)
theorem dX9_amongHere_17 : decode cX9_amongHere 17 = .ok (.invokevirtual 116, 3) := dk_182 0 116 (dk_at dksX9_amongHere_0 17 rfl rfl)
theorem dX9_amongHere_20 : decode cX9_amongHere 20 = .ok (.aload_n 0, 1) := dk_42 (dk_at dksX9_amongHere_0 20 rfl rfl)
theorem dX9_amongHere_21 : decode cX9_amongHere 21 = .ok (.aload_n 0, 1) := dk_42 (dk_at dksX9_amongHere_0 21 rfl rfl)
theorem dX9_amongHere_22 : decode cX9_amongHere 22 = .ok (.getfield 42, 3) := dk_180 0 42 (dk_at dksX9_amongHere_1 0 rfl rfl)
theorem dX9_amongHere_25 : decode cX9_amongHere 25 = .ok (.ifCond .ne 7, 3) := dk_154 0 7 (dk_at dksX9_amongHere_1 3 rfl rfl)
theorem dX9_amongHere_28 : decode cX9_amongHere 28 = .ok (.iconst 1, 1) := dk_4 (dk_at dksX9_amongHere_1 6 rfl rfl)
theorem dX9_amongHere_29 : decode cX9_amongHere 29 = .ok (.goto 4, 3) := dk_167 0 4 (dk_at dksX9_amongHere_1 7 rfl rfl)
theorem dX9_amongHere_32 : decode cX9_amongHere 32 = .ok (.iconst 0, 1) := dk_3 (dk_at dksX9_amongHere_1 10 rfl rfl)
theorem dX9_amongHere_33 : decode cX9_amongHere 33 = .ok (.iconst 2, 1) := dk_5 (dk_at dksX9_amongHere_1 11 rfl rfl)
theorem dX9_amongHere_34 : decode cX9_amongHere 34 = .ok (.invokevirtual 116, 3) := dk_182 0 116 (dk_at dksX9_amongHere_1 12 rfl rfl)
theorem dX9_amongHere_37 : decode cX9_amongHere 37 = .ok (.aload_n 0, 1) := dk_42 (dk_at dksX9_amongHere_1 15 rfl rfl)
theorem dX9_amongHere_38 : decode cX9_amongHere 38 = .ok (.aload_n 0, 1) := dk_42 (dk_at dksX9_amongHere_1 16 rfl rfl)
theorem dX9_amongHere_39 : decode cX9_amongHere 39 = .ok (.getfield 82, 3) := dk_180 0 82 (dk_at dksX9_amongHere_1 17 rfl rfl)
theorem dX9_amongHere_42 : decode cX9_amongHere 42 = .ok (.iload_n 1, 1) := dk_27 (dk_at dksX9_amongHere_1 20 rfl rfl)
theorem dX9_amongHere_43 : decode cX9_amongHere 43 = .ok (.if_icmp .ge 7, 3) := dk_162 0 7 (dk_at dksX9_amongHere_1 21 rfl rfl)
theorem dX9_amongHere_46 : decode cX9_amongHere 46 = .ok (.iconst 1, 1) := dk_4 (dk_at dksX9_amongHere_2 0 rfl rfl)
theorem dX9_amongHere_47 : decode cX9_amongHere 47 = .ok (.goto 4, 3) := dk_167 0 4 (dk_at dksX9_amongHere_2 1 rfl rfl)
theorem dX9_amongHere_50 : decode cX9_amongHere 50 = .ok (.iconst 0, 1) := dk_3 (dk_at dksX9_amongHere_2 4 rfl rfl)
theorem dX9_amongHere_51 : decode cX9_amongHere 51 = .ok (.iconst 3, 1) := dk_6 (dk_at dksX9_amongHere_2 5 rfl rfl)
theorem dX9_amongHere_52 : decode cX9_amongHere 52 = .ok (.invokevirtual 116, 3) := dk_182 0 116 (dk_at dksX9_amongHere_2 6 rfl rfl)
theorem dX9_amongHere_55 : decode cX9_amongHere 55 = .ok (.aload_n 0, 1) := dk_42 (dk_at dksX9_amongHere_2 9 rfl rfl)
theorem dX9_amongHere_56 : decode cX9_amongHere 56 = .ok (.getfield 82, 3) := dk_180 0 82 (dk_at dksX9_amongHere_2 10 rfl rfl)
theorem dX9_amongHere_59 : decode cX9_amongHere 59 = .ok (.ireturn, 1) := dk_172 (dk_at dksX9_amongHere_2 13 rfl rfl)
abbrev cX9_sleeper : ByteArray := prog_12_method_16_code
def yX9_sleeper : MethodName := ⟨RX9, "sleeper", "(LSpoonRow$Bed;)V"⟩
def dkwX9_sleeper_8 : List UInt8 := [182, 0, 206, 87, 177]
abbrev dktX9_sleeper_8 : List UInt8 := dkwX9_sleeper_8 ++ []
def dkwX9_sleeper_7 : List UInt8 := [183, 0, 216, 167, 0, 21, 187, 0, 217, 89, 29, 21, 4, 21, 5, 21, 6, 21, 7, 21, 8, 183, 0, 219]
abbrev dktX9_sleeper_7 : List UInt8 := dkwX9_sleeper_7 ++ dktX9_sleeper_8
def dkwX9_sleeper_6 : List UInt8 := [44, 18, 177, 182, 0, 103, 153, 0, 24, 187, 0, 214, 89, 29, 21, 4, 21, 5, 21, 6, 21, 7, 21, 8]
abbrev dktX9_sleeper_6 : List UInt8 := dkwX9_sleeper_6 ++ dktX9_sleeper_7
def dkwX9_sleeper_5 : List UInt8 := [21, 4, 21, 5, 21, 6, 21, 7, 21, 8, 183, 0, 211, 182, 0, 206, 87, 167, 0, 59, 43, 180, 0, 181]
abbrev dktX9_sleeper_5 : List UInt8 := dkwX9_sleeper_5 ++ dktX9_sleeper_6
def dkwX9_sleeper_4 : List UInt8 := [182, 0, 129, 54, 8, 44, 18, 175, 182, 0, 103, 153, 0, 32, 43, 180, 0, 181, 187, 0, 209, 89, 29]
abbrev dktX9_sleeper_4 : List UInt8 := dkwX9_sleeper_4 ++ dktX9_sleeper_5
def dkwX9_sleeper_3 : List UInt8 := [4, 16, 9, 182, 0, 129, 54, 6, 42, 3, 17, 2, 88, 182, 0, 129, 54, 7, 42, 3, 16, 10]
abbrev dktX9_sleeper_3 : List UInt8 := dkwX9_sleeper_3 ++ dktX9_sleeper_4
def dkwX9_sleeper_2 : List UInt8 := [182, 0, 129, 62, 42, 4, 17, 0, 240, 182, 0, 129, 54, 4, 42, 3, 16, 9, 182, 0, 129, 54, 5, 42]
abbrev dktX9_sleeper_2 : List UInt8 := dkwX9_sleeper_2 ++ dktX9_sleeper_3
def dkwX9_sleeper_1 : List UInt8 := [187, 0, 203, 89, 42, 4, 16, 9, 182, 0, 129, 183, 0, 205, 182, 0, 206, 87, 177, 42, 4, 17, 0, 240]
abbrev dktX9_sleeper_1 : List UInt8 := dkwX9_sleeper_1 ++ dktX9_sleeper_2
def dkwX9_sleeper_0 : List UInt8 := [42, 180, 0, 11, 77, 42, 182, 0, 29, 44, 18, 179, 182, 0, 103, 153, 0, 26, 43, 180, 0, 181]
abbrev dktX9_sleeper_0 : List UInt8 := dkwX9_sleeper_0 ++ dktX9_sleeper_1
theorem dksX9_sleeper_0 : cX9_sleeper.data.toList.drop 0 = dktX9_sleeper_0 := by decide +kernel
theorem dksX9_sleeper_1 : cX9_sleeper.data.toList.drop 22 = dktX9_sleeper_1 := dk_seg dksX9_sleeper_0 22 rfl rfl
theorem dksX9_sleeper_2 : cX9_sleeper.data.toList.drop 46 = dktX9_sleeper_2 := dk_seg dksX9_sleeper_1 24 rfl rfl
theorem dksX9_sleeper_3 : cX9_sleeper.data.toList.drop 70 = dktX9_sleeper_3 := dk_seg dksX9_sleeper_2 24 rfl rfl
theorem dksX9_sleeper_4 : cX9_sleeper.data.toList.drop 92 = dktX9_sleeper_4 := dk_seg dksX9_sleeper_3 22 rfl rfl
theorem dksX9_sleeper_5 : cX9_sleeper.data.toList.drop 115 = dktX9_sleeper_5 := dk_seg dksX9_sleeper_4 23 rfl rfl
theorem dksX9_sleeper_6 : cX9_sleeper.data.toList.drop 139 = dktX9_sleeper_6 := dk_seg dksX9_sleeper_5 24 rfl rfl
theorem dksX9_sleeper_7 : cX9_sleeper.data.toList.drop 163 = dktX9_sleeper_7 := dk_seg dksX9_sleeper_6 24 rfl rfl
theorem dksX9_sleeper_8 : cX9_sleeper.data.toList.drop 187 = dktX9_sleeper_8 := dk_seg dksX9_sleeper_7 24 rfl rfl
theorem dX9_sleeper_0 : decode cX9_sleeper 0 = .ok (.aload_n 0, 1) := dk_42 (dk_at dksX9_sleeper_0 0 rfl rfl)
theorem dX9_sleeper_1 : decode cX9_sleeper 1 = .ok (.getfield 11, 3) := dk_180 0 11 (dk_at dksX9_sleeper_0 1 rfl rfl)
theorem dX9_sleeper_4 : decode cX9_sleeper 4 = .ok (.astore_n 2, 1) := dk_77 (dk_at dksX9_sleeper_0 4 rfl rfl)
theorem dX9_sleeper_5 : decode cX9_sleeper 5 = .ok (.aload_n 0, 1) := dk_42 (dk_at dksX9_sleeper_0 5 rfl rfl)
theorem dX9_sleeper_6 : decode cX9_sleeper 6 = .ok (.invokevirtual 29, 3) := dk_182 0 29 (dk_at dksX9_sleeper_0 6 rfl rfl)
theorem dX9_sleeper_9 : decode cX9_sleeper 9 = .ok (.aload_n 2, 1) := dk_44 (dk_at dksX9_sleeper_0 9 rfl rfl)
theorem dX9_sleeper_10 : decode cX9_sleeper 10 = .ok (.ldc 179, 2) := dk_18 179 (dk_at dksX9_sleeper_0 10 rfl rfl)
theorem dX9_sleeper_12 : decode cX9_sleeper 12 = .ok (.invokevirtual 103, 3) := dk_182 0 103 (dk_at dksX9_sleeper_0 12 rfl rfl)
theorem dX9_sleeper_15 : decode cX9_sleeper 15 = .ok (.ifCond .eq 26, 3) := dk_153 0 26 (dk_at dksX9_sleeper_0 15 rfl rfl)
theorem dX9_sleeper_18 : decode cX9_sleeper 18 = .ok (.aload_n 1, 1) := dk_43 (dk_at dksX9_sleeper_0 18 rfl rfl)
theorem dX9_sleeper_19 : decode cX9_sleeper 19 = .ok (.getfield 181, 3) := dk_180 0 181 (dk_at dksX9_sleeper_0 19 rfl rfl)
theorem dX9_sleeper_22 : decode cX9_sleeper 22 = .ok (.new 203, 3) := dk_187 0 203 (dk_at dksX9_sleeper_1 0 rfl rfl)
theorem dX9_sleeper_25 : decode cX9_sleeper 25 = .ok (.dup, 1) := dk_89 (dk_at dksX9_sleeper_1 3 rfl rfl)
theorem dX9_sleeper_26 : decode cX9_sleeper 26 = .ok (.aload_n 0, 1) := dk_42 (dk_at dksX9_sleeper_1 4 rfl rfl)
theorem dX9_sleeper_27 : decode cX9_sleeper 27 = .ok (.iconst 1, 1) := dk_4 (dk_at dksX9_sleeper_1 5 rfl rfl)
theorem dX9_sleeper_28 : decode cX9_sleeper 28 = .ok (.bipush 9, 2) := dk_16 9 (dk_at dksX9_sleeper_1 6 rfl rfl)
theorem dX9_sleeper_30 : decode cX9_sleeper 30 = .ok (.invokevirtual 129, 3) := dk_182 0 129 (dk_at dksX9_sleeper_1 8 rfl rfl)
theorem dX9_sleeper_33 : decode cX9_sleeper 33 = .ok (.invokespecial 205, 3) := dk_183 0 205 (dk_at dksX9_sleeper_1 11 rfl rfl)
theorem dX9_sleeper_36 : decode cX9_sleeper 36 = .ok (.invokevirtual 206, 3) := dk_182 0 206 (dk_at dksX9_sleeper_1 14 rfl rfl)
theorem dX9_sleeper_39 : decode cX9_sleeper 39 = .ok (.pop, 1) := dk_87 (dk_at dksX9_sleeper_1 17 rfl rfl)
theorem dX9_sleeper_40 : decode cX9_sleeper 40 = .ok (.return_, 1) := dk_177 (dk_at dksX9_sleeper_1 18 rfl rfl)
theorem dX9_sleeper_41 : decode cX9_sleeper 41 = .ok (.aload_n 0, 1) := dk_42 (dk_at dksX9_sleeper_1 19 rfl rfl)
theorem dX9_sleeper_42 : decode cX9_sleeper 42 = .ok (.iconst 1, 1) := dk_4 (dk_at dksX9_sleeper_1 20 rfl rfl)
theorem dX9_sleeper_43 : decode cX9_sleeper 43 = .ok (.sipush 240, 3) := dk_17 0 240 (dk_at dksX9_sleeper_1 21 rfl rfl)
theorem dX9_sleeper_46 : decode cX9_sleeper 46 = .ok (.invokevirtual 129, 3) := dk_182 0 129 (dk_at dksX9_sleeper_2 0 rfl rfl)
theorem dX9_sleeper_49 : decode cX9_sleeper 49 = .ok (.istore_n 3, 1) := dk_62 (dk_at dksX9_sleeper_2 3 rfl rfl)
theorem dX9_sleeper_50 : decode cX9_sleeper 50 = .ok (.aload_n 0, 1) := dk_42 (dk_at dksX9_sleeper_2 4 rfl rfl)
theorem dX9_sleeper_51 : decode cX9_sleeper 51 = .ok (.iconst 1, 1) := dk_4 (dk_at dksX9_sleeper_2 5 rfl rfl)
theorem dX9_sleeper_52 : decode cX9_sleeper 52 = .ok (.sipush 240, 3) := dk_17 0 240 (dk_at dksX9_sleeper_2 6 rfl rfl)
theorem dX9_sleeper_55 : decode cX9_sleeper 55 = .ok (.invokevirtual 129, 3) := dk_182 0 129 (dk_at dksX9_sleeper_2 9 rfl rfl)
theorem dX9_sleeper_58 : decode cX9_sleeper 58 = .ok (.istore 4, 2) := dk_54 4 (dk_at dksX9_sleeper_2 12 rfl rfl)
theorem dX9_sleeper_60 : decode cX9_sleeper 60 = .ok (.aload_n 0, 1) := dk_42 (dk_at dksX9_sleeper_2 14 rfl rfl)
theorem dX9_sleeper_61 : decode cX9_sleeper 61 = .ok (.iconst 0, 1) := dk_3 (dk_at dksX9_sleeper_2 15 rfl rfl)
theorem dX9_sleeper_62 : decode cX9_sleeper 62 = .ok (.bipush 9, 2) := dk_16 9 (dk_at dksX9_sleeper_2 16 rfl rfl)
theorem dX9_sleeper_64 : decode cX9_sleeper 64 = .ok (.invokevirtual 129, 3) := dk_182 0 129 (dk_at dksX9_sleeper_2 18 rfl rfl)
theorem dX9_sleeper_67 : decode cX9_sleeper 67 = .ok (.istore 5, 2) := dk_54 5 (dk_at dksX9_sleeper_2 21 rfl rfl)
theorem dX9_sleeper_69 : decode cX9_sleeper 69 = .ok (.aload_n 0, 1) := dk_42 (dk_at dksX9_sleeper_2 23 rfl rfl)
theorem dX9_sleeper_70 : decode cX9_sleeper 70 = .ok (.iconst 1, 1) := dk_4 (dk_at dksX9_sleeper_3 0 rfl rfl)
theorem dX9_sleeper_71 : decode cX9_sleeper 71 = .ok (.bipush 9, 2) := dk_16 9 (dk_at dksX9_sleeper_3 1 rfl rfl)
theorem dX9_sleeper_73 : decode cX9_sleeper 73 = .ok (.invokevirtual 129, 3) := dk_182 0 129 (dk_at dksX9_sleeper_3 3 rfl rfl)
theorem dX9_sleeper_76 : decode cX9_sleeper 76 = .ok (.istore 6, 2) := dk_54 6 (dk_at dksX9_sleeper_3 6 rfl rfl)
theorem dX9_sleeper_78 : decode cX9_sleeper 78 = .ok (.aload_n 0, 1) := dk_42 (dk_at dksX9_sleeper_3 8 rfl rfl)
theorem dX9_sleeper_79 : decode cX9_sleeper 79 = .ok (.iconst 0, 1) := dk_3 (dk_at dksX9_sleeper_3 9 rfl rfl)
theorem dX9_sleeper_80 : decode cX9_sleeper 80 = .ok (.sipush 600, 3) := dk_17 2 88 (dk_at dksX9_sleeper_3 10 rfl rfl)
theorem dX9_sleeper_83 : decode cX9_sleeper 83 = .ok (.invokevirtual 129, 3) := dk_182 0 129 (dk_at dksX9_sleeper_3 13 rfl rfl)
theorem dX9_sleeper_86 : decode cX9_sleeper 86 = .ok (.istore 7, 2) := dk_54 7 (dk_at dksX9_sleeper_3 16 rfl rfl)
theorem dX9_sleeper_88 : decode cX9_sleeper 88 = .ok (.aload_n 0, 1) := dk_42 (dk_at dksX9_sleeper_3 18 rfl rfl)
theorem dX9_sleeper_89 : decode cX9_sleeper 89 = .ok (.iconst 0, 1) := dk_3 (dk_at dksX9_sleeper_3 19 rfl rfl)
theorem dX9_sleeper_90 : decode cX9_sleeper 90 = .ok (.bipush 10, 2) := dk_16 10 (dk_at dksX9_sleeper_3 20 rfl rfl)
theorem dX9_sleeper_92 : decode cX9_sleeper 92 = .ok (.invokevirtual 129, 3) := dk_182 0 129 (dk_at dksX9_sleeper_4 0 rfl rfl)
theorem dX9_sleeper_95 : decode cX9_sleeper 95 = .ok (.istore 8, 2) := dk_54 8 (dk_at dksX9_sleeper_4 3 rfl rfl)
theorem dX9_sleeper_97 : decode cX9_sleeper 97 = .ok (.aload_n 2, 1) := dk_44 (dk_at dksX9_sleeper_4 5 rfl rfl)
theorem dX9_sleeper_98 : decode cX9_sleeper 98 = .ok (.ldc 175, 2) := dk_18 175 (dk_at dksX9_sleeper_4 6 rfl rfl)
theorem dX9_sleeper_100 : decode cX9_sleeper 100 = .ok (.invokevirtual 103, 3) := dk_182 0 103 (dk_at dksX9_sleeper_4 8 rfl rfl)
theorem dX9_sleeper_103 : decode cX9_sleeper 103 = .ok (.ifCond .eq 32, 3) := dk_153 0 32 (dk_at dksX9_sleeper_4 11 rfl rfl)
theorem dX9_sleeper_106 : decode cX9_sleeper 106 = .ok (.aload_n 1, 1) := dk_43 (dk_at dksX9_sleeper_4 14 rfl rfl)
theorem dX9_sleeper_107 : decode cX9_sleeper 107 = .ok (.getfield 181, 3) := dk_180 0 181 (dk_at dksX9_sleeper_4 15 rfl rfl)
theorem dX9_sleeper_110 : decode cX9_sleeper 110 = .ok (.new 209, 3) := dk_187 0 209 (dk_at dksX9_sleeper_4 18 rfl rfl)
theorem dX9_sleeper_113 : decode cX9_sleeper 113 = .ok (.dup, 1) := dk_89 (dk_at dksX9_sleeper_4 21 rfl rfl)
theorem dX9_sleeper_114 : decode cX9_sleeper 114 = .ok (.iload_n 3, 1) := dk_29 (dk_at dksX9_sleeper_4 22 rfl rfl)
theorem dX9_sleeper_115 : decode cX9_sleeper 115 = .ok (.iload 4, 2) := dk_21 4 (dk_at dksX9_sleeper_5 0 rfl rfl)
theorem dX9_sleeper_117 : decode cX9_sleeper 117 = .ok (.iload 5, 2) := dk_21 5 (dk_at dksX9_sleeper_5 2 rfl rfl)
theorem dX9_sleeper_119 : decode cX9_sleeper 119 = .ok (.iload 6, 2) := dk_21 6 (dk_at dksX9_sleeper_5 4 rfl rfl)
theorem dX9_sleeper_121 : decode cX9_sleeper 121 = .ok (.iload 7, 2) := dk_21 7 (dk_at dksX9_sleeper_5 6 rfl rfl)
theorem dX9_sleeper_123 : decode cX9_sleeper 123 = .ok (.iload 8, 2) := dk_21 8 (dk_at dksX9_sleeper_5 8 rfl rfl)
theorem dX9_sleeper_125 : decode cX9_sleeper 125 = .ok (.invokespecial 211, 3) := dk_183 0 211 (dk_at dksX9_sleeper_5 10 rfl rfl)
theorem dX9_sleeper_128 : decode cX9_sleeper 128 = .ok (.invokevirtual 206, 3) := dk_182 0 206 (dk_at dksX9_sleeper_5 13 rfl rfl)
theorem dX9_sleeper_131 : decode cX9_sleeper 131 = .ok (.pop, 1) := dk_87 (dk_at dksX9_sleeper_5 16 rfl rfl)
theorem dX9_sleeper_132 : decode cX9_sleeper 132 = .ok (.goto 59, 3) := dk_167 0 59 (dk_at dksX9_sleeper_5 17 rfl rfl)
theorem dX9_sleeper_135 : decode cX9_sleeper 135 = .ok (.aload_n 1, 1) := dk_43 (dk_at dksX9_sleeper_5 20 rfl rfl)
theorem dX9_sleeper_136 : decode cX9_sleeper 136 = .ok (.getfield 181, 3) := dk_180 0 181 (dk_at dksX9_sleeper_5 21 rfl rfl)
theorem dX9_sleeper_139 : decode cX9_sleeper 139 = .ok (.aload_n 2, 1) := dk_44 (dk_at dksX9_sleeper_6 0 rfl rfl)
theorem dX9_sleeper_140 : decode cX9_sleeper 140 = .ok (.ldc 177, 2) := dk_18 177 (dk_at dksX9_sleeper_6 1 rfl rfl)
theorem dX9_sleeper_142 : decode cX9_sleeper 142 = .ok (.invokevirtual 103, 3) := dk_182 0 103 (dk_at dksX9_sleeper_6 3 rfl rfl)
theorem dX9_sleeper_145 : decode cX9_sleeper 145 = .ok (.ifCond .eq 24, 3) := dk_153 0 24 (dk_at dksX9_sleeper_6 6 rfl rfl)
theorem dX9_sleeper_148 : decode cX9_sleeper 148 = .ok (.new 214, 3) := dk_187 0 214 (dk_at dksX9_sleeper_6 9 rfl rfl)
theorem dX9_sleeper_151 : decode cX9_sleeper 151 = .ok (.dup, 1) := dk_89 (dk_at dksX9_sleeper_6 12 rfl rfl)
theorem dX9_sleeper_152 : decode cX9_sleeper 152 = .ok (.iload_n 3, 1) := dk_29 (dk_at dksX9_sleeper_6 13 rfl rfl)
theorem dX9_sleeper_153 : decode cX9_sleeper 153 = .ok (.iload 4, 2) := dk_21 4 (dk_at dksX9_sleeper_6 14 rfl rfl)
theorem dX9_sleeper_155 : decode cX9_sleeper 155 = .ok (.iload 5, 2) := dk_21 5 (dk_at dksX9_sleeper_6 16 rfl rfl)
theorem dX9_sleeper_157 : decode cX9_sleeper 157 = .ok (.iload 6, 2) := dk_21 6 (dk_at dksX9_sleeper_6 18 rfl rfl)
theorem dX9_sleeper_159 : decode cX9_sleeper 159 = .ok (.iload 7, 2) := dk_21 7 (dk_at dksX9_sleeper_6 20 rfl rfl)
theorem dX9_sleeper_161 : decode cX9_sleeper 161 = .ok (.iload 8, 2) := dk_21 8 (dk_at dksX9_sleeper_6 22 rfl rfl)
theorem dX9_sleeper_163 : decode cX9_sleeper 163 = .ok (.invokespecial 216, 3) := dk_183 0 216 (dk_at dksX9_sleeper_7 0 rfl rfl)
theorem dX9_sleeper_166 : decode cX9_sleeper 166 = .ok (.goto 21, 3) := dk_167 0 21 (dk_at dksX9_sleeper_7 3 rfl rfl)
theorem dX9_sleeper_169 : decode cX9_sleeper 169 = .ok (.new 217, 3) := dk_187 0 217 (dk_at dksX9_sleeper_7 6 rfl rfl)
theorem dX9_sleeper_172 : decode cX9_sleeper 172 = .ok (.dup, 1) := dk_89 (dk_at dksX9_sleeper_7 9 rfl rfl)
theorem dX9_sleeper_173 : decode cX9_sleeper 173 = .ok (.iload_n 3, 1) := dk_29 (dk_at dksX9_sleeper_7 10 rfl rfl)
theorem dX9_sleeper_174 : decode cX9_sleeper 174 = .ok (.iload 4, 2) := dk_21 4 (dk_at dksX9_sleeper_7 11 rfl rfl)
theorem dX9_sleeper_176 : decode cX9_sleeper 176 = .ok (.iload 5, 2) := dk_21 5 (dk_at dksX9_sleeper_7 13 rfl rfl)
theorem dX9_sleeper_178 : decode cX9_sleeper 178 = .ok (.iload 6, 2) := dk_21 6 (dk_at dksX9_sleeper_7 15 rfl rfl)
theorem dX9_sleeper_180 : decode cX9_sleeper 180 = .ok (.iload 7, 2) := dk_21 7 (dk_at dksX9_sleeper_7 17 rfl rfl)
theorem dX9_sleeper_182 : decode cX9_sleeper 182 = .ok (.iload 8, 2) := dk_21 8 (dk_at dksX9_sleeper_7 19 rfl rfl)
theorem dX9_sleeper_184 : decode cX9_sleeper 184 = .ok (.invokespecial 219, 3) := dk_183 0 219 (dk_at dksX9_sleeper_7 21 rfl rfl)
theorem dX9_sleeper_187 : decode cX9_sleeper 187 = .ok (.invokevirtual 206, 3) := dk_182 0 206 (dk_at dksX9_sleeper_8 0 rfl rfl)
theorem dX9_sleeper_190 : decode cX9_sleeper 190 = .ok (.pop, 1) := dk_87 (dk_at dksX9_sleeper_8 3 rfl rfl)
theorem dX9_sleeper_191 : decode cX9_sleeper 191 = .ok (.return_, 1) := dk_177 (dk_at dksX9_sleeper_8 4 rfl rfl)
/-! java/lang/StringUTF16: codes (from claim/names) -/
abbrev cJ10_newBytesFor : ByteArray := prog_39_method_2_code
def yJ10_newBytesFor : MethodName := ⟨RJ10, "newBytesFor", "(I)[B"⟩
def dkwJ10_newBytesFor_0 : List UInt8 := [26, 184, 0, 11, 188, 8, 176]
abbrev dktJ10_newBytesFor_0 : List UInt8 := dkwJ10_newBytesFor_0 ++ []
theorem dksJ10_newBytesFor_0 : cJ10_newBytesFor.data.toList.drop 0 = dktJ10_newBytesFor_0 := by decide +kernel
theorem dJ10_newBytesFor_0 : decode cJ10_newBytesFor 0 = .ok (.iload_n 0, 1) := dk_26 (dk_at dksJ10_newBytesFor_0 0 rfl rfl)
theorem dJ10_newBytesFor_1 : decode cJ10_newBytesFor 1 = .ok (.invokestatic 11, 3) := dk_184 0 11 (dk_at dksJ10_newBytesFor_0 1 rfl rfl)
theorem dJ10_newBytesFor_4 : decode cJ10_newBytesFor 4 = .ok (.newarray .byte, 2) := dk_188_8 (dk_at dksJ10_newBytesFor_0 4 rfl rfl)
theorem dJ10_newBytesFor_6 : decode cJ10_newBytesFor 6 = .ok (.areturn, 1) := dk_176 (dk_at dksJ10_newBytesFor_0 6 rfl rfl)
abbrev cJ10_newBytesLength : ByteArray := prog_39_method_3_code
def yJ10_newBytesLength : MethodName := ⟨RJ10, "newBytesLength", "(I)I"⟩
def dkwJ10_newBytesLength_2 : List UInt8 := [182, 0, 32, 182, 0, 37, 183, 0, 41, 191, 26, 4, 120, 172]
abbrev dktJ10_newBytesLength_2 : List UInt8 := dkwJ10_newBytesLength_2 ++ []
def dkwJ10_newBytesLength_1 : List UInt8 := [187, 0, 23, 89, 183, 0, 25, 18, 26, 182, 0, 28, 26, 182, 0, 32, 18, 35, 182, 0, 28, 18, 20]
abbrev dktJ10_newBytesLength_1 : List UInt8 := dkwJ10_newBytesLength_1 ++ dktJ10_newBytesLength_2
def dkwJ10_newBytesLength_0 : List UInt8 := [26, 156, 0, 11, 187, 0, 17, 89, 183, 0, 19, 191, 26, 18, 20, 161, 0, 40, 187, 0, 21, 89]
abbrev dktJ10_newBytesLength_0 : List UInt8 := dkwJ10_newBytesLength_0 ++ dktJ10_newBytesLength_1
theorem dksJ10_newBytesLength_0 : cJ10_newBytesLength.data.toList.drop 0 = dktJ10_newBytesLength_0 := by decide +kernel
theorem dksJ10_newBytesLength_1 : cJ10_newBytesLength.data.toList.drop 22 = dktJ10_newBytesLength_1 := dk_seg dksJ10_newBytesLength_0 22 rfl rfl
theorem dksJ10_newBytesLength_2 : cJ10_newBytesLength.data.toList.drop 45 = dktJ10_newBytesLength_2 := dk_seg dksJ10_newBytesLength_1 23 rfl rfl
theorem dJ10_newBytesLength_0 : decode cJ10_newBytesLength 0 = .ok (.iload_n 0, 1) := dk_26 (dk_at dksJ10_newBytesLength_0 0 rfl rfl)
theorem dJ10_newBytesLength_1 : decode cJ10_newBytesLength 1 = .ok (.ifCond .ge 11, 3) := dk_156 0 11 (dk_at dksJ10_newBytesLength_0 1 rfl rfl)
theorem dJ10_newBytesLength_4 : decode cJ10_newBytesLength 4 = .ok (.new 17, 3) := dk_187 0 17 (dk_at dksJ10_newBytesLength_0 4 rfl rfl)
theorem dJ10_newBytesLength_7 : decode cJ10_newBytesLength 7 = .ok (.dup, 1) := dk_89 (dk_at dksJ10_newBytesLength_0 7 rfl rfl)
theorem dJ10_newBytesLength_8 : decode cJ10_newBytesLength 8 = .ok (.invokespecial 19, 3) := dk_183 0 19 (dk_at dksJ10_newBytesLength_0 8 rfl rfl)
theorem dJ10_newBytesLength_11 : decode cJ10_newBytesLength 11 = .ok (.athrow, 1) := dk_191 (dk_at dksJ10_newBytesLength_0 11 rfl rfl)
theorem dJ10_newBytesLength_12 : decode cJ10_newBytesLength 12 = .ok (.iload_n 0, 1) := dk_26 (dk_at dksJ10_newBytesLength_0 12 rfl rfl)
theorem dJ10_newBytesLength_13 : decode cJ10_newBytesLength 13 = .ok (.ldc 20, 2) := dk_18 20 (dk_at dksJ10_newBytesLength_0 13 rfl rfl)
theorem dJ10_newBytesLength_15 : decode cJ10_newBytesLength 15 = .ok (.if_icmp .lt 40, 3) := dk_161 0 40 (dk_at dksJ10_newBytesLength_0 15 rfl rfl)
theorem dJ10_newBytesLength_18 : decode cJ10_newBytesLength 18 = .ok (.new 21, 3) := dk_187 0 21 (dk_at dksJ10_newBytesLength_0 18 rfl rfl)
theorem dJ10_newBytesLength_21 : decode cJ10_newBytesLength 21 = .ok (.dup, 1) := dk_89 (dk_at dksJ10_newBytesLength_0 21 rfl rfl)
theorem dJ10_newBytesLength_22 : decode cJ10_newBytesLength 22 = .ok (.new 23, 3) := dk_187 0 23 (dk_at dksJ10_newBytesLength_1 0 rfl rfl)
theorem dJ10_newBytesLength_25 : decode cJ10_newBytesLength 25 = .ok (.dup, 1) := dk_89 (dk_at dksJ10_newBytesLength_1 3 rfl rfl)
theorem dJ10_newBytesLength_26 : decode cJ10_newBytesLength 26 = .ok (.invokespecial 25, 3) := dk_183 0 25 (dk_at dksJ10_newBytesLength_1 4 rfl rfl)
theorem dJ10_newBytesLength_29 : decode cJ10_newBytesLength 29 = .ok (.ldc 26, 2) := dk_18 26 (dk_at dksJ10_newBytesLength_1 7 rfl rfl)
theorem dJ10_newBytesLength_31 : decode cJ10_newBytesLength 31 = .ok (.invokevirtual 28, 3) := dk_182 0 28 (dk_at dksJ10_newBytesLength_1 9 rfl rfl)
theorem dJ10_newBytesLength_34 : decode cJ10_newBytesLength 34 = .ok (.iload_n 0, 1) := dk_26 (dk_at dksJ10_newBytesLength_1 12 rfl rfl)
theorem dJ10_newBytesLength_35 : decode cJ10_newBytesLength 35 = .ok (.invokevirtual 32, 3) := dk_182 0 32 (dk_at dksJ10_newBytesLength_1 13 rfl rfl)
theorem dJ10_newBytesLength_38 : decode cJ10_newBytesLength 38 = .ok (.ldc 35, 2) := dk_18 35 (dk_at dksJ10_newBytesLength_1 16 rfl rfl)
theorem dJ10_newBytesLength_40 : decode cJ10_newBytesLength 40 = .ok (.invokevirtual 28, 3) := dk_182 0 28 (dk_at dksJ10_newBytesLength_1 18 rfl rfl)
theorem dJ10_newBytesLength_43 : decode cJ10_newBytesLength 43 = .ok (.ldc 20, 2) := dk_18 20 (dk_at dksJ10_newBytesLength_1 21 rfl rfl)
theorem dJ10_newBytesLength_45 : decode cJ10_newBytesLength 45 = .ok (.invokevirtual 32, 3) := dk_182 0 32 (dk_at dksJ10_newBytesLength_2 0 rfl rfl)
theorem dJ10_newBytesLength_48 : decode cJ10_newBytesLength 48 = .ok (.invokevirtual 37, 3) := dk_182 0 37 (dk_at dksJ10_newBytesLength_2 3 rfl rfl)
theorem dJ10_newBytesLength_51 : decode cJ10_newBytesLength 51 = .ok (.invokespecial 41, 3) := dk_183 0 41 (dk_at dksJ10_newBytesLength_2 6 rfl rfl)
theorem dJ10_newBytesLength_54 : decode cJ10_newBytesLength 54 = .ok (.athrow, 1) := dk_191 (dk_at dksJ10_newBytesLength_2 9 rfl rfl)
theorem dJ10_newBytesLength_55 : decode cJ10_newBytesLength 55 = .ok (.iload_n 0, 1) := dk_26 (dk_at dksJ10_newBytesLength_2 10 rfl rfl)
theorem dJ10_newBytesLength_56 : decode cJ10_newBytesLength 56 = .ok (.iconst 1, 1) := dk_4 (dk_at dksJ10_newBytesLength_2 11 rfl rfl)
theorem dJ10_newBytesLength_57 : decode cJ10_newBytesLength 57 = .ok (.ishl, 1) := dk_120 (dk_at dksJ10_newBytesLength_2 12 rfl rfl)
theorem dJ10_newBytesLength_58 : decode cJ10_newBytesLength 58 = .ok (.ireturn, 1) := dk_172 (dk_at dksJ10_newBytesLength_2 13 rfl rfl)
abbrev cJ10_putCharsAt : ByteArray := prog_39_method_81_code
def yJ10_putCharsAt : MethodName := ⟨RJ10, "putCharsAt", "([BICCCC)I"⟩
def dkwJ10_putCharsAt_3 : List UInt8 := [21, 6, 172]
abbrev dktJ10_putCharsAt_3 : List UInt8 := dkwJ10_putCharsAt_3 ++ []
def dkwJ10_putCharsAt_2 : List UInt8 := [184, 0, 111, 178, 0, 44, 154, 0, 17, 27, 21, 6, 159, 0, 11, 187, 0, 52, 89, 183, 0, 66, 191]
abbrev dktJ10_putCharsAt_2 : List UInt8 := dkwJ10_putCharsAt_2 ++ dktJ10_putCharsAt_3
def dkwJ10_putCharsAt_1 : List UInt8 := [132, 1, 1, 29, 184, 0, 111, 42, 27, 132, 1, 1, 21, 4, 184, 0, 111, 42, 27, 132, 1, 1, 21, 5]
abbrev dktJ10_putCharsAt_1 : List UInt8 := dkwJ10_putCharsAt_1 ++ dktJ10_putCharsAt_2
def dkwJ10_putCharsAt_0 : List UInt8 := [27, 7, 96, 54, 6, 27, 21, 6, 42, 184, 0, 96, 42, 27, 132, 1, 1, 28, 184, 0, 111, 42, 27]
abbrev dktJ10_putCharsAt_0 : List UInt8 := dkwJ10_putCharsAt_0 ++ dktJ10_putCharsAt_1
theorem dksJ10_putCharsAt_0 : cJ10_putCharsAt.data.toList.drop 0 = dktJ10_putCharsAt_0 := by decide +kernel
theorem dksJ10_putCharsAt_1 : cJ10_putCharsAt.data.toList.drop 23 = dktJ10_putCharsAt_1 := dk_seg dksJ10_putCharsAt_0 23 rfl rfl
theorem dksJ10_putCharsAt_2 : cJ10_putCharsAt.data.toList.drop 47 = dktJ10_putCharsAt_2 := dk_seg dksJ10_putCharsAt_1 24 rfl rfl
theorem dksJ10_putCharsAt_3 : cJ10_putCharsAt.data.toList.drop 70 = dktJ10_putCharsAt_3 := dk_seg dksJ10_putCharsAt_2 23 rfl rfl
theorem dJ10_putCharsAt_0 : decode cJ10_putCharsAt 0 = .ok (.iload_n 1, 1) := dk_27 (dk_at dksJ10_putCharsAt_0 0 rfl rfl)
theorem dJ10_putCharsAt_1 : decode cJ10_putCharsAt 1 = .ok (.iconst 4, 1) := dk_7 (dk_at dksJ10_putCharsAt_0 1 rfl rfl)
theorem dJ10_putCharsAt_2 : decode cJ10_putCharsAt 2 = .ok (.iadd, 1) := dk_96 (dk_at dksJ10_putCharsAt_0 2 rfl rfl)
theorem dJ10_putCharsAt_3 : decode cJ10_putCharsAt 3 = .ok (.istore 6, 2) := dk_54 6 (dk_at dksJ10_putCharsAt_0 3 rfl rfl)
theorem dJ10_putCharsAt_5 : decode cJ10_putCharsAt 5 = .ok (.iload_n 1, 1) := dk_27 (dk_at dksJ10_putCharsAt_0 5 rfl rfl)
theorem dJ10_putCharsAt_6 : decode cJ10_putCharsAt 6 = .ok (.iload 6, 2) := dk_21 6 (dk_at dksJ10_putCharsAt_0 6 rfl rfl)
theorem dJ10_putCharsAt_8 : decode cJ10_putCharsAt 8 = .ok (.aload_n 0, 1) := dk_42 (dk_at dksJ10_putCharsAt_0 8 rfl rfl)
theorem dJ10_putCharsAt_9 : decode cJ10_putCharsAt 9 = .ok (.invokestatic 96, 3) := dk_184 0 96 (dk_at dksJ10_putCharsAt_0 9 rfl rfl)
theorem dJ10_putCharsAt_12 : decode cJ10_putCharsAt 12 = .ok (.aload_n 0, 1) := dk_42 (dk_at dksJ10_putCharsAt_0 12 rfl rfl)
theorem dJ10_putCharsAt_13 : decode cJ10_putCharsAt 13 = .ok (.iload_n 1, 1) := dk_27 (dk_at dksJ10_putCharsAt_0 13 rfl rfl)
theorem dJ10_putCharsAt_14 : decode cJ10_putCharsAt 14 = .ok (.iinc 1 1, 3) := dk_132 1 1 (dk_at dksJ10_putCharsAt_0 14 rfl rfl)
theorem dJ10_putCharsAt_17 : decode cJ10_putCharsAt 17 = .ok (.iload_n 2, 1) := dk_28 (dk_at dksJ10_putCharsAt_0 17 rfl rfl)
theorem dJ10_putCharsAt_18 : decode cJ10_putCharsAt 18 = .ok (.invokestatic 111, 3) := dk_184 0 111 (dk_at dksJ10_putCharsAt_0 18 rfl rfl)
theorem dJ10_putCharsAt_21 : decode cJ10_putCharsAt 21 = .ok (.aload_n 0, 1) := dk_42 (dk_at dksJ10_putCharsAt_0 21 rfl rfl)
theorem dJ10_putCharsAt_22 : decode cJ10_putCharsAt 22 = .ok (.iload_n 1, 1) := dk_27 (dk_at dksJ10_putCharsAt_0 22 rfl rfl)
theorem dJ10_putCharsAt_23 : decode cJ10_putCharsAt 23 = .ok (.iinc 1 1, 3) := dk_132 1 1 (dk_at dksJ10_putCharsAt_1 0 rfl rfl)
theorem dJ10_putCharsAt_26 : decode cJ10_putCharsAt 26 = .ok (.iload_n 3, 1) := dk_29 (dk_at dksJ10_putCharsAt_1 3 rfl rfl)
theorem dJ10_putCharsAt_27 : decode cJ10_putCharsAt 27 = .ok (.invokestatic 111, 3) := dk_184 0 111 (dk_at dksJ10_putCharsAt_1 4 rfl rfl)
theorem dJ10_putCharsAt_30 : decode cJ10_putCharsAt 30 = .ok (.aload_n 0, 1) := dk_42 (dk_at dksJ10_putCharsAt_1 7 rfl rfl)
theorem dJ10_putCharsAt_31 : decode cJ10_putCharsAt 31 = .ok (.iload_n 1, 1) := dk_27 (dk_at dksJ10_putCharsAt_1 8 rfl rfl)
theorem dJ10_putCharsAt_32 : decode cJ10_putCharsAt 32 = .ok (.iinc 1 1, 3) := dk_132 1 1 (dk_at dksJ10_putCharsAt_1 9 rfl rfl)
theorem dJ10_putCharsAt_35 : decode cJ10_putCharsAt 35 = .ok (.iload 4, 2) := dk_21 4 (dk_at dksJ10_putCharsAt_1 12 rfl rfl)
theorem dJ10_putCharsAt_37 : decode cJ10_putCharsAt 37 = .ok (.invokestatic 111, 3) := dk_184 0 111 (dk_at dksJ10_putCharsAt_1 14 rfl rfl)
theorem dJ10_putCharsAt_40 : decode cJ10_putCharsAt 40 = .ok (.aload_n 0, 1) := dk_42 (dk_at dksJ10_putCharsAt_1 17 rfl rfl)
theorem dJ10_putCharsAt_41 : decode cJ10_putCharsAt 41 = .ok (.iload_n 1, 1) := dk_27 (dk_at dksJ10_putCharsAt_1 18 rfl rfl)
theorem dJ10_putCharsAt_42 : decode cJ10_putCharsAt 42 = .ok (.iinc 1 1, 3) := dk_132 1 1 (dk_at dksJ10_putCharsAt_1 19 rfl rfl)
theorem dJ10_putCharsAt_45 : decode cJ10_putCharsAt 45 = .ok (.iload 5, 2) := dk_21 5 (dk_at dksJ10_putCharsAt_1 22 rfl rfl)
theorem dJ10_putCharsAt_47 : decode cJ10_putCharsAt 47 = .ok (.invokestatic 111, 3) := dk_184 0 111 (dk_at dksJ10_putCharsAt_2 0 rfl rfl)
theorem dJ10_putCharsAt_50 : decode cJ10_putCharsAt 50 = .ok (.getstatic 44, 3) := dk_178 0 44 (dk_at dksJ10_putCharsAt_2 3 rfl rfl)
theorem dJ10_putCharsAt_53 : decode cJ10_putCharsAt 53 = .ok (.ifCond .ne 17, 3) := dk_154 0 17 (dk_at dksJ10_putCharsAt_2 6 rfl rfl)
theorem dJ10_putCharsAt_56 : decode cJ10_putCharsAt 56 = .ok (.iload_n 1, 1) := dk_27 (dk_at dksJ10_putCharsAt_2 9 rfl rfl)
theorem dJ10_putCharsAt_57 : decode cJ10_putCharsAt 57 = .ok (.iload 6, 2) := dk_21 6 (dk_at dksJ10_putCharsAt_2 10 rfl rfl)
theorem dJ10_putCharsAt_59 : decode cJ10_putCharsAt 59 = .ok (.if_icmp .eq 11, 3) := dk_159 0 11 (dk_at dksJ10_putCharsAt_2 12 rfl rfl)
theorem dJ10_putCharsAt_62 : decode cJ10_putCharsAt 62 = .ok (.new 52, 3) := dk_187 0 52 (dk_at dksJ10_putCharsAt_2 15 rfl rfl)
theorem dJ10_putCharsAt_65 : decode cJ10_putCharsAt 65 = .ok (.dup, 1) := dk_89 (dk_at dksJ10_putCharsAt_2 18 rfl rfl)
theorem dJ10_putCharsAt_66 : decode cJ10_putCharsAt 66 = .ok (.invokespecial 66, 3) := dk_183 0 66 (dk_at dksJ10_putCharsAt_2 19 rfl rfl)
theorem dJ10_putCharsAt_69 : decode cJ10_putCharsAt 69 = .ok (.athrow, 1) := dk_191 (dk_at dksJ10_putCharsAt_2 22 rfl rfl)
theorem dJ10_putCharsAt_70 : decode cJ10_putCharsAt 70 = .ok (.iload 6, 2) := dk_21 6 (dk_at dksJ10_putCharsAt_3 0 rfl rfl)
theorem dJ10_putCharsAt_72 : decode cJ10_putCharsAt 72 = .ok (.ireturn, 1) := dk_172 (dk_at dksJ10_putCharsAt_3 2 rfl rfl)
abbrev cJ10_checkBoundsBeginEnd : ByteArray := prog_39_method_93_code
def yJ10_checkBoundsBeginEnd : MethodName := ⟨RJ10, "checkBoundsBeginEnd", "(II[B)V"⟩
def dkwJ10_checkBoundsBeginEnd_0 : List UInt8 := [26, 27, 44, 184, 0, 48, 184, 0, 241, 177]
abbrev dktJ10_checkBoundsBeginEnd_0 : List UInt8 := dkwJ10_checkBoundsBeginEnd_0 ++ []
theorem dksJ10_checkBoundsBeginEnd_0 : cJ10_checkBoundsBeginEnd.data.toList.drop 0 = dktJ10_checkBoundsBeginEnd_0 := by decide +kernel
theorem dJ10_checkBoundsBeginEnd_0 : decode cJ10_checkBoundsBeginEnd 0 = .ok (.iload_n 0, 1) := dk_26 (dk_at dksJ10_checkBoundsBeginEnd_0 0 rfl rfl)
theorem dJ10_checkBoundsBeginEnd_1 : decode cJ10_checkBoundsBeginEnd 1 = .ok (.iload_n 1, 1) := dk_27 (dk_at dksJ10_checkBoundsBeginEnd_0 1 rfl rfl)
theorem dJ10_checkBoundsBeginEnd_2 : decode cJ10_checkBoundsBeginEnd 2 = .ok (.aload_n 2, 1) := dk_44 (dk_at dksJ10_checkBoundsBeginEnd_0 2 rfl rfl)
theorem dJ10_checkBoundsBeginEnd_3 : decode cJ10_checkBoundsBeginEnd 3 = .ok (.invokestatic 48, 3) := dk_184 0 48 (dk_at dksJ10_checkBoundsBeginEnd_0 3 rfl rfl)
theorem dJ10_checkBoundsBeginEnd_6 : decode cJ10_checkBoundsBeginEnd 6 = .ok (.invokestatic 241, 3) := dk_184 0 241 (dk_at dksJ10_checkBoundsBeginEnd_0 6 rfl rfl)
theorem dJ10_checkBoundsBeginEnd_9 : decode cJ10_checkBoundsBeginEnd 9 = .ok (.return_, 1) := dk_177 (dk_at dksJ10_checkBoundsBeginEnd_0 9 rfl rfl)
abbrev cJ10_length : ByteArray := prog_39_method_6_code
def yJ10_length : MethodName := ⟨RJ10, "length", "([B)I"⟩
def dkwJ10_length_0 : List UInt8 := [42, 190, 4, 122, 172]
abbrev dktJ10_length_0 : List UInt8 := dkwJ10_length_0 ++ []
theorem dksJ10_length_0 : cJ10_length.data.toList.drop 0 = dktJ10_length_0 := by decide +kernel
theorem dJ10_length_0 : decode cJ10_length 0 = .ok (.aload_n 0, 1) := dk_42 (dk_at dksJ10_length_0 0 rfl rfl)
theorem dJ10_length_1 : decode cJ10_length 1 = .ok (.arraylength, 1) := dk_190 (dk_at dksJ10_length_0 1 rfl rfl)
theorem dJ10_length_2 : decode cJ10_length 2 = .ok (.iconst 1, 1) := dk_4 (dk_at dksJ10_length_0 2 rfl rfl)
theorem dJ10_length_3 : decode cJ10_length 3 = .ok (.ishr, 1) := dk_122 (dk_at dksJ10_length_0 3 rfl rfl)
theorem dJ10_length_4 : decode cJ10_length 4 = .ok (.ireturn, 1) := dk_172 (dk_at dksJ10_length_0 4 rfl rfl)
abbrev cJ10_putChar : ByteArray := prog_39_method_4_code
def yJ10_putChar : MethodName := ⟨RJ10, "putChar", "([BII)V"⟩
def dkwJ10_putChar_2 : List UInt8 := [178, 0, 63, 122, 145, 84, 177]
abbrev dktJ10_putChar_2 : List UInt8 := dkwJ10_putChar_2 ++ []
def dkwJ10_putChar_1 : List UInt8 := [183, 0, 56, 191, 27, 4, 120, 60, 42, 27, 132, 1, 1, 28, 178, 0, 59, 122, 145, 84, 42, 27, 28]
abbrev dktJ10_putChar_1 : List UInt8 := dkwJ10_putChar_1 ++ dktJ10_putChar_2
def dkwJ10_putChar_0 : List UInt8 := [178, 0, 44, 154, 0, 25, 27, 155, 0, 11, 27, 42, 184, 0, 48, 161, 0, 13, 187, 0, 52, 89, 18, 54]
abbrev dktJ10_putChar_0 : List UInt8 := dkwJ10_putChar_0 ++ dktJ10_putChar_1
theorem dksJ10_putChar_0 : cJ10_putChar.data.toList.drop 0 = dktJ10_putChar_0 := by decide +kernel
theorem dksJ10_putChar_1 : cJ10_putChar.data.toList.drop 24 = dktJ10_putChar_1 := dk_seg dksJ10_putChar_0 24 rfl rfl
theorem dksJ10_putChar_2 : cJ10_putChar.data.toList.drop 47 = dktJ10_putChar_2 := dk_seg dksJ10_putChar_1 23 rfl rfl
theorem dJ10_putChar_0 : decode cJ10_putChar 0 = .ok (.getstatic 44, 3) := dk_178 0 44 (dk_at dksJ10_putChar_0 0 rfl rfl)
theorem dJ10_putChar_3 : decode cJ10_putChar 3 = .ok (.ifCond .ne 25, 3) := dk_154 0 25 (dk_at dksJ10_putChar_0 3 rfl rfl)
theorem dJ10_putChar_6 : decode cJ10_putChar 6 = .ok (.iload_n 1, 1) := dk_27 (dk_at dksJ10_putChar_0 6 rfl rfl)
theorem dJ10_putChar_7 : decode cJ10_putChar 7 = .ok (.ifCond .lt 11, 3) := dk_155 0 11 (dk_at dksJ10_putChar_0 7 rfl rfl)
theorem dJ10_putChar_10 : decode cJ10_putChar 10 = .ok (.iload_n 1, 1) := dk_27 (dk_at dksJ10_putChar_0 10 rfl rfl)
theorem dJ10_putChar_11 : decode cJ10_putChar 11 = .ok (.aload_n 0, 1) := dk_42 (dk_at dksJ10_putChar_0 11 rfl rfl)
theorem dJ10_putChar_12 : decode cJ10_putChar 12 = .ok (.invokestatic 48, 3) := dk_184 0 48 (dk_at dksJ10_putChar_0 12 rfl rfl)
theorem dJ10_putChar_15 : decode cJ10_putChar 15 = .ok (.if_icmp .lt 13, 3) := dk_161 0 13 (dk_at dksJ10_putChar_0 15 rfl rfl)
theorem dJ10_putChar_18 : decode cJ10_putChar 18 = .ok (.new 52, 3) := dk_187 0 52 (dk_at dksJ10_putChar_0 18 rfl rfl)
theorem dJ10_putChar_21 : decode cJ10_putChar 21 = .ok (.dup, 1) := dk_89 (dk_at dksJ10_putChar_0 21 rfl rfl)
theorem dJ10_putChar_22 : decode cJ10_putChar 22 = .ok (.ldc 54, 2) := dk_18 54 (dk_at dksJ10_putChar_0 22 rfl rfl)
theorem dJ10_putChar_24 : decode cJ10_putChar 24 = .ok (.invokespecial 56, 3) := dk_183 0 56 (dk_at dksJ10_putChar_1 0 rfl rfl)
theorem dJ10_putChar_27 : decode cJ10_putChar 27 = .ok (.athrow, 1) := dk_191 (dk_at dksJ10_putChar_1 3 rfl rfl)
theorem dJ10_putChar_28 : decode cJ10_putChar 28 = .ok (.iload_n 1, 1) := dk_27 (dk_at dksJ10_putChar_1 4 rfl rfl)
theorem dJ10_putChar_29 : decode cJ10_putChar 29 = .ok (.iconst 1, 1) := dk_4 (dk_at dksJ10_putChar_1 5 rfl rfl)
theorem dJ10_putChar_30 : decode cJ10_putChar 30 = .ok (.ishl, 1) := dk_120 (dk_at dksJ10_putChar_1 6 rfl rfl)
theorem dJ10_putChar_31 : decode cJ10_putChar 31 = .ok (.istore_n 1, 1) := dk_60 (dk_at dksJ10_putChar_1 7 rfl rfl)
theorem dJ10_putChar_32 : decode cJ10_putChar 32 = .ok (.aload_n 0, 1) := dk_42 (dk_at dksJ10_putChar_1 8 rfl rfl)
theorem dJ10_putChar_33 : decode cJ10_putChar 33 = .ok (.iload_n 1, 1) := dk_27 (dk_at dksJ10_putChar_1 9 rfl rfl)
theorem dJ10_putChar_34 : decode cJ10_putChar 34 = .ok (.iinc 1 1, 3) := dk_132 1 1 (dk_at dksJ10_putChar_1 10 rfl rfl)
theorem dJ10_putChar_37 : decode cJ10_putChar 37 = .ok (.iload_n 2, 1) := dk_28 (dk_at dksJ10_putChar_1 13 rfl rfl)
theorem dJ10_putChar_38 : decode cJ10_putChar 38 = .ok (.getstatic 59, 3) := dk_178 0 59 (dk_at dksJ10_putChar_1 14 rfl rfl)
theorem dJ10_putChar_41 : decode cJ10_putChar 41 = .ok (.ishr, 1) := dk_122 (dk_at dksJ10_putChar_1 17 rfl rfl)
theorem dJ10_putChar_42 : decode cJ10_putChar 42 = .ok (.i2b, 1) := dk_145 (dk_at dksJ10_putChar_1 18 rfl rfl)
theorem dJ10_putChar_43 : decode cJ10_putChar 43 = .ok (.bastore, 1) := dk_84 (dk_at dksJ10_putChar_1 19 rfl rfl)
theorem dJ10_putChar_44 : decode cJ10_putChar 44 = .ok (.aload_n 0, 1) := dk_42 (dk_at dksJ10_putChar_1 20 rfl rfl)
theorem dJ10_putChar_45 : decode cJ10_putChar 45 = .ok (.iload_n 1, 1) := dk_27 (dk_at dksJ10_putChar_1 21 rfl rfl)
theorem dJ10_putChar_46 : decode cJ10_putChar 46 = .ok (.iload_n 2, 1) := dk_28 (dk_at dksJ10_putChar_1 22 rfl rfl)
theorem dJ10_putChar_47 : decode cJ10_putChar 47 = .ok (.getstatic 63, 3) := dk_178 0 63 (dk_at dksJ10_putChar_2 0 rfl rfl)
theorem dJ10_putChar_50 : decode cJ10_putChar 50 = .ok (.ishr, 1) := dk_122 (dk_at dksJ10_putChar_2 3 rfl rfl)
theorem dJ10_putChar_51 : decode cJ10_putChar 51 = .ok (.i2b, 1) := dk_145 (dk_at dksJ10_putChar_2 4 rfl rfl)
theorem dJ10_putChar_52 : decode cJ10_putChar 52 = .ok (.bastore, 1) := dk_84 (dk_at dksJ10_putChar_2 5 rfl rfl)
theorem dJ10_putChar_53 : decode cJ10_putChar 53 = .ok (.return_, 1) := dk_177 (dk_at dksJ10_putChar_2 6 rfl rfl)
abbrev cJ10_inflate : ByteArray := prog_39_method_86_code
def yJ10_inflate : MethodName := ⟨RJ10, "inflate", "([BI[BII)V"⟩
def dkwJ10_inflate_1 : List UInt8 := [132, 1, 1, 51, 17, 0, 255, 126, 184, 0, 111, 132, 5, 1, 167, 255, 228, 177]
abbrev dktJ10_inflate_1 : List UInt8 := dkwJ10_inflate_1 ++ []
def dkwJ10_inflate_0 : List UInt8 := [29, 21, 4, 44, 184, 0, 173, 3, 54, 5, 21, 5, 21, 4, 162, 0, 27, 44, 29, 132, 3, 1, 42, 27]
abbrev dktJ10_inflate_0 : List UInt8 := dkwJ10_inflate_0 ++ dktJ10_inflate_1
theorem dksJ10_inflate_0 : cJ10_inflate.data.toList.drop 0 = dktJ10_inflate_0 := by decide +kernel
theorem dksJ10_inflate_1 : cJ10_inflate.data.toList.drop 24 = dktJ10_inflate_1 := dk_seg dksJ10_inflate_0 24 rfl rfl
theorem dJ10_inflate_0 : decode cJ10_inflate 0 = .ok (.iload_n 3, 1) := dk_29 (dk_at dksJ10_inflate_0 0 rfl rfl)
theorem dJ10_inflate_1 : decode cJ10_inflate 1 = .ok (.iload 4, 2) := dk_21 4 (dk_at dksJ10_inflate_0 1 rfl rfl)
theorem dJ10_inflate_3 : decode cJ10_inflate 3 = .ok (.aload_n 2, 1) := dk_44 (dk_at dksJ10_inflate_0 3 rfl rfl)
theorem dJ10_inflate_4 : decode cJ10_inflate 4 = .ok (.invokestatic 173, 3) := dk_184 0 173 (dk_at dksJ10_inflate_0 4 rfl rfl)
theorem dJ10_inflate_7 : decode cJ10_inflate 7 = .ok (.iconst 0, 1) := dk_3 (dk_at dksJ10_inflate_0 7 rfl rfl)
theorem dJ10_inflate_8 : decode cJ10_inflate 8 = .ok (.istore 5, 2) := dk_54 5 (dk_at dksJ10_inflate_0 8 rfl rfl)
theorem dJ10_inflate_10 : decode cJ10_inflate 10 = .ok (.iload 5, 2) := dk_21 5 (dk_at dksJ10_inflate_0 10 rfl rfl)
theorem dJ10_inflate_12 : decode cJ10_inflate 12 = .ok (.iload 4, 2) := dk_21 4 (dk_at dksJ10_inflate_0 12 rfl rfl)
theorem dJ10_inflate_14 : decode cJ10_inflate 14 = .ok (.if_icmp .ge 27, 3) := dk_162 0 27 (dk_at dksJ10_inflate_0 14 rfl rfl)
theorem dJ10_inflate_17 : decode cJ10_inflate 17 = .ok (.aload_n 2, 1) := dk_44 (dk_at dksJ10_inflate_0 17 rfl rfl)
theorem dJ10_inflate_18 : decode cJ10_inflate 18 = .ok (.iload_n 3, 1) := dk_29 (dk_at dksJ10_inflate_0 18 rfl rfl)
theorem dJ10_inflate_19 : decode cJ10_inflate 19 = .ok (.iinc 3 1, 3) := dk_132 3 1 (dk_at dksJ10_inflate_0 19 rfl rfl)
theorem dJ10_inflate_22 : decode cJ10_inflate 22 = .ok (.aload_n 0, 1) := dk_42 (dk_at dksJ10_inflate_0 22 rfl rfl)
theorem dJ10_inflate_23 : decode cJ10_inflate 23 = .ok (.iload_n 1, 1) := dk_27 (dk_at dksJ10_inflate_0 23 rfl rfl)
theorem dJ10_inflate_24 : decode cJ10_inflate 24 = .ok (.iinc 1 1, 3) := dk_132 1 1 (dk_at dksJ10_inflate_1 0 rfl rfl)
theorem dJ10_inflate_27 : decode cJ10_inflate 27 = .ok (.baload, 1) := dk_51 (dk_at dksJ10_inflate_1 3 rfl rfl)
theorem dJ10_inflate_28 : decode cJ10_inflate 28 = .ok (.sipush 255, 3) := dk_17 0 255 (dk_at dksJ10_inflate_1 4 rfl rfl)
theorem dJ10_inflate_31 : decode cJ10_inflate 31 = .ok (.iand, 1) := dk_126 (dk_at dksJ10_inflate_1 7 rfl rfl)
theorem dJ10_inflate_32 : decode cJ10_inflate 32 = .ok (.invokestatic 111, 3) := dk_184 0 111 (dk_at dksJ10_inflate_1 8 rfl rfl)
theorem dJ10_inflate_35 : decode cJ10_inflate 35 = .ok (.iinc 5 1, 3) := dk_132 5 1 (dk_at dksJ10_inflate_1 11 rfl rfl)
theorem dJ10_inflate_38 : decode cJ10_inflate 38 = .ok (.goto (-28), 3) := dk_167 255 228 (dk_at dksJ10_inflate_1 14 rfl rfl)
theorem dJ10_inflate_41 : decode cJ10_inflate 41 = .ok (.return_, 1) := dk_177 (dk_at dksJ10_inflate_1 17 rfl rfl)
abbrev cJ10_checkBoundsOffCount : ByteArray := prog_39_method_94_code
def yJ10_checkBoundsOffCount : MethodName := ⟨RJ10, "checkBoundsOffCount", "(II[B)V"⟩
def dkwJ10_checkBoundsOffCount_0 : List UInt8 := [26, 27, 44, 184, 0, 48, 184, 1, 163, 87, 177]
abbrev dktJ10_checkBoundsOffCount_0 : List UInt8 := dkwJ10_checkBoundsOffCount_0 ++ []
theorem dksJ10_checkBoundsOffCount_0 : cJ10_checkBoundsOffCount.data.toList.drop 0 = dktJ10_checkBoundsOffCount_0 := by decide +kernel
theorem dJ10_checkBoundsOffCount_0 : decode cJ10_checkBoundsOffCount 0 = .ok (.iload_n 0, 1) := dk_26 (dk_at dksJ10_checkBoundsOffCount_0 0 rfl rfl)
theorem dJ10_checkBoundsOffCount_1 : decode cJ10_checkBoundsOffCount 1 = .ok (.iload_n 1, 1) := dk_27 (dk_at dksJ10_checkBoundsOffCount_0 1 rfl rfl)
theorem dJ10_checkBoundsOffCount_2 : decode cJ10_checkBoundsOffCount 2 = .ok (.aload_n 2, 1) := dk_44 (dk_at dksJ10_checkBoundsOffCount_0 2 rfl rfl)
theorem dJ10_checkBoundsOffCount_3 : decode cJ10_checkBoundsOffCount 3 = .ok (.invokestatic 48, 3) := dk_184 0 48 (dk_at dksJ10_checkBoundsOffCount_0 3 rfl rfl)
theorem dJ10_checkBoundsOffCount_6 : decode cJ10_checkBoundsOffCount 6 = .ok (.invokestatic 419, 3) := dk_184 1 163 (dk_at dksJ10_checkBoundsOffCount_0 6 rfl rfl)
theorem dJ10_checkBoundsOffCount_9 : decode cJ10_checkBoundsOffCount 9 = .ok (.pop, 1) := dk_87 (dk_at dksJ10_checkBoundsOffCount_0 9 rfl rfl)
theorem dJ10_checkBoundsOffCount_10 : decode cJ10_checkBoundsOffCount 10 = .ok (.return_, 1) := dk_177 (dk_at dksJ10_checkBoundsOffCount_0 10 rfl rfl)
abbrev cJ10_getChars : ByteArray := prog_39_method_77_code
def yJ10_getChars : MethodName := ⟨RJ10, "getChars", "(III[B)I"⟩
def dkwJ10_getChars_1 : List UInt8 := [159, 0, 11, 187, 0, 52, 89, 183, 0, 66, 191, 21, 4, 172]
abbrev dktJ10_getChars_1 : List UInt8 := dkwJ10_getChars_1 ++ []
def dkwJ10_getChars_0 : List UInt8 := [27, 28, 45, 184, 0, 96, 26, 28, 45, 184, 1, 137, 54, 4, 178, 0, 44, 154, 0, 17, 27, 21, 4]
abbrev dktJ10_getChars_0 : List UInt8 := dkwJ10_getChars_0 ++ dktJ10_getChars_1
theorem dksJ10_getChars_0 : cJ10_getChars.data.toList.drop 0 = dktJ10_getChars_0 := by decide +kernel
theorem dksJ10_getChars_1 : cJ10_getChars.data.toList.drop 23 = dktJ10_getChars_1 := dk_seg dksJ10_getChars_0 23 rfl rfl
theorem dJ10_getChars_0 : decode cJ10_getChars 0 = .ok (.iload_n 1, 1) := dk_27 (dk_at dksJ10_getChars_0 0 rfl rfl)
theorem dJ10_getChars_1 : decode cJ10_getChars 1 = .ok (.iload_n 2, 1) := dk_28 (dk_at dksJ10_getChars_0 1 rfl rfl)
theorem dJ10_getChars_2 : decode cJ10_getChars 2 = .ok (.aload_n 3, 1) := dk_45 (dk_at dksJ10_getChars_0 2 rfl rfl)
theorem dJ10_getChars_3 : decode cJ10_getChars 3 = .ok (.invokestatic 96, 3) := dk_184 0 96 (dk_at dksJ10_getChars_0 3 rfl rfl)
theorem dJ10_getChars_6 : decode cJ10_getChars 6 = .ok (.iload_n 0, 1) := dk_26 (dk_at dksJ10_getChars_0 6 rfl rfl)
theorem dJ10_getChars_7 : decode cJ10_getChars 7 = .ok (.iload_n 2, 1) := dk_28 (dk_at dksJ10_getChars_0 7 rfl rfl)
theorem dJ10_getChars_8 : decode cJ10_getChars 8 = .ok (.aload_n 3, 1) := dk_45 (dk_at dksJ10_getChars_0 8 rfl rfl)
theorem dJ10_getChars_9 : decode cJ10_getChars 9 = .ok (.invokestatic 393, 3) := dk_184 1 137 (dk_at dksJ10_getChars_0 9 rfl rfl)
theorem dJ10_getChars_12 : decode cJ10_getChars 12 = .ok (.istore 4, 2) := dk_54 4 (dk_at dksJ10_getChars_0 12 rfl rfl)
theorem dJ10_getChars_14 : decode cJ10_getChars 14 = .ok (.getstatic 44, 3) := dk_178 0 44 (dk_at dksJ10_getChars_0 14 rfl rfl)
theorem dJ10_getChars_17 : decode cJ10_getChars 17 = .ok (.ifCond .ne 17, 3) := dk_154 0 17 (dk_at dksJ10_getChars_0 17 rfl rfl)
theorem dJ10_getChars_20 : decode cJ10_getChars 20 = .ok (.iload_n 1, 1) := dk_27 (dk_at dksJ10_getChars_0 20 rfl rfl)
theorem dJ10_getChars_21 : decode cJ10_getChars 21 = .ok (.iload 4, 2) := dk_21 4 (dk_at dksJ10_getChars_0 21 rfl rfl)
theorem dJ10_getChars_23 : decode cJ10_getChars 23 = .ok (.if_icmp .eq 11, 3) := dk_159 0 11 (dk_at dksJ10_getChars_1 0 rfl rfl)
theorem dJ10_getChars_26 : decode cJ10_getChars 26 = .ok (.new 52, 3) := dk_187 0 52 (dk_at dksJ10_getChars_1 3 rfl rfl)
theorem dJ10_getChars_29 : decode cJ10_getChars 29 = .ok (.dup, 1) := dk_89 (dk_at dksJ10_getChars_1 6 rfl rfl)
theorem dJ10_getChars_30 : decode cJ10_getChars 30 = .ok (.invokespecial 66, 3) := dk_183 0 66 (dk_at dksJ10_getChars_1 7 rfl rfl)
theorem dJ10_getChars_33 : decode cJ10_getChars 33 = .ok (.athrow, 1) := dk_191 (dk_at dksJ10_getChars_1 10 rfl rfl)
theorem dJ10_getChars_34 : decode cJ10_getChars 34 = .ok (.iload 4, 2) := dk_21 4 (dk_at dksJ10_getChars_1 11 rfl rfl)
theorem dJ10_getChars_36 : decode cJ10_getChars 36 = .ok (.ireturn, 1) := dk_172 (dk_at dksJ10_getChars_1 13 rfl rfl)
abbrev cJ10_getChars_2 : ByteArray := prog_39_method_89_code
def yJ10_getChars_2 : MethodName := ⟨RJ10, "getChars", "(II[B)I"⟩
def dkwJ10_getChars_2_5 : List UInt8 := [132, 5, 255, 21, 5, 16, 45, 184, 0, 111, 21, 5, 172]
abbrev dktJ10_getChars_2_5 : List UInt8 := dkwJ10_getChars_2_5 ++ []
def dkwJ10_getChars_2_4 : List UInt8 := [162, 0, 18, 44, 132, 5, 255, 21, 5, 178, 1, 151, 26, 116, 51, 184, 0, 111, 21, 6, 153, 0, 14, 44]
abbrev dktJ10_getChars_2_4 : List UInt8 := dkwJ10_getChars_2_4 ++ dktJ10_getChars_2_5
def dkwJ10_getChars_2_3 : List UInt8 := [184, 0, 111, 167, 255, 205, 44, 132, 5, 255, 21, 5, 178, 1, 147, 26, 116, 51, 184, 0, 111, 26, 16, 247]
abbrev dktJ10_getChars_2_3 : List UInt8 := dkwJ10_getChars_2_3 ++ dktJ10_getChars_2_4
def dkwJ10_getChars_2_2 : List UInt8 := [21, 5, 178, 1, 147, 21, 4, 51, 184, 0, 111, 44, 132, 5, 255, 21, 5, 178, 1, 151, 21, 4, 51]
abbrev dktJ10_getChars_2_2 : List UInt8 := dkwJ10_getChars_2_2 ++ dktJ10_getChars_2_3
def dkwJ10_getChars_2_1 : List UInt8 := [16, 156, 163, 0, 51, 26, 16, 100, 108, 62, 29, 16, 100, 104, 26, 100, 54, 4, 29, 59, 44, 132, 5, 255]
abbrev dktJ10_getChars_2_1 : List UInt8 := dkwJ10_getChars_2_1 ++ dktJ10_getChars_2_2
def dkwJ10_getChars_2_0 : List UInt8 := [27, 54, 5, 26, 156, 0, 7, 4, 167, 0, 4, 3, 54, 6, 21, 6, 154, 0, 6, 26, 116, 59, 26]
abbrev dktJ10_getChars_2_0 : List UInt8 := dkwJ10_getChars_2_0 ++ dktJ10_getChars_2_1
theorem dksJ10_getChars_2_0 : cJ10_getChars_2.data.toList.drop 0 = dktJ10_getChars_2_0 := by decide +kernel
theorem dksJ10_getChars_2_1 : cJ10_getChars_2.data.toList.drop 23 = dktJ10_getChars_2_1 := dk_seg dksJ10_getChars_2_0 23 rfl rfl
theorem dksJ10_getChars_2_2 : cJ10_getChars_2.data.toList.drop 47 = dktJ10_getChars_2_2 := dk_seg dksJ10_getChars_2_1 24 rfl rfl
theorem dksJ10_getChars_2_3 : cJ10_getChars_2.data.toList.drop 70 = dktJ10_getChars_2_3 := dk_seg dksJ10_getChars_2_2 23 rfl rfl
theorem dksJ10_getChars_2_4 : cJ10_getChars_2.data.toList.drop 94 = dktJ10_getChars_2_4 := dk_seg dksJ10_getChars_2_3 24 rfl rfl
theorem dksJ10_getChars_2_5 : cJ10_getChars_2.data.toList.drop 118 = dktJ10_getChars_2_5 := dk_seg dksJ10_getChars_2_4 24 rfl rfl
theorem dJ10_getChars_2_0 : decode cJ10_getChars_2 0 = .ok (.iload_n 1, 1) := dk_27 (dk_at dksJ10_getChars_2_0 0 rfl rfl)
theorem dJ10_getChars_2_1 : decode cJ10_getChars_2 1 = .ok (.istore 5, 2) := dk_54 5 (dk_at dksJ10_getChars_2_0 1 rfl rfl)
theorem dJ10_getChars_2_3 : decode cJ10_getChars_2 3 = .ok (.iload_n 0, 1) := dk_26 (dk_at dksJ10_getChars_2_0 3 rfl rfl)
theorem dJ10_getChars_2_4 : decode cJ10_getChars_2 4 = .ok (.ifCond .ge 7, 3) := dk_156 0 7 (dk_at dksJ10_getChars_2_0 4 rfl rfl)
theorem dJ10_getChars_2_7 : decode cJ10_getChars_2 7 = .ok (.iconst 1, 1) := dk_4 (dk_at dksJ10_getChars_2_0 7 rfl rfl)
theorem dJ10_getChars_2_8 : decode cJ10_getChars_2 8 = .ok (.goto 4, 3) := dk_167 0 4 (dk_at dksJ10_getChars_2_0 8 rfl rfl)
theorem dJ10_getChars_2_11 : decode cJ10_getChars_2 11 = .ok (.iconst 0, 1) := dk_3 (dk_at dksJ10_getChars_2_0 11 rfl rfl)
theorem dJ10_getChars_2_12 : decode cJ10_getChars_2 12 = .ok (.istore 6, 2) := dk_54 6 (dk_at dksJ10_getChars_2_0 12 rfl rfl)
theorem dJ10_getChars_2_14 : decode cJ10_getChars_2 14 = .ok (.iload 6, 2) := dk_21 6 (dk_at dksJ10_getChars_2_0 14 rfl rfl)
theorem dJ10_getChars_2_16 : decode cJ10_getChars_2 16 = .ok (.ifCond .ne 6, 3) := dk_154 0 6 (dk_at dksJ10_getChars_2_0 16 rfl rfl)
theorem dJ10_getChars_2_19 : decode cJ10_getChars_2 19 = .ok (.iload_n 0, 1) := dk_26 (dk_at dksJ10_getChars_2_0 19 rfl rfl)
theorem dJ10_getChars_2_20 : decode cJ10_getChars_2 20 = .ok (.ineg, 1) := dk_116 (dk_at dksJ10_getChars_2_0 20 rfl rfl)
theorem dJ10_getChars_2_21 : decode cJ10_getChars_2 21 = .ok (.istore_n 0, 1) := dk_59 (dk_at dksJ10_getChars_2_0 21 rfl rfl)
theorem dJ10_getChars_2_22 : decode cJ10_getChars_2 22 = .ok (.iload_n 0, 1) := dk_26 (dk_at dksJ10_getChars_2_0 22 rfl rfl)
theorem dJ10_getChars_2_23 : decode cJ10_getChars_2 23 = .ok (.bipush (-100), 2) := dk_16 156 (dk_at dksJ10_getChars_2_1 0 rfl rfl)
theorem dJ10_getChars_2_25 : decode cJ10_getChars_2 25 = .ok (.if_icmp .gt 51, 3) := dk_163 0 51 (dk_at dksJ10_getChars_2_1 2 rfl rfl)
theorem dJ10_getChars_2_28 : decode cJ10_getChars_2 28 = .ok (.iload_n 0, 1) := dk_26 (dk_at dksJ10_getChars_2_1 5 rfl rfl)
theorem dJ10_getChars_2_29 : decode cJ10_getChars_2 29 = .ok (.bipush 100, 2) := dk_16 100 (dk_at dksJ10_getChars_2_1 6 rfl rfl)
theorem dJ10_getChars_2_31 : decode cJ10_getChars_2 31 = .ok (.idiv, 1) := dk_108 (dk_at dksJ10_getChars_2_1 8 rfl rfl)
theorem dJ10_getChars_2_32 : decode cJ10_getChars_2 32 = .ok (.istore_n 3, 1) := dk_62 (dk_at dksJ10_getChars_2_1 9 rfl rfl)
theorem dJ10_getChars_2_33 : decode cJ10_getChars_2 33 = .ok (.iload_n 3, 1) := dk_29 (dk_at dksJ10_getChars_2_1 10 rfl rfl)
theorem dJ10_getChars_2_34 : decode cJ10_getChars_2 34 = .ok (.bipush 100, 2) := dk_16 100 (dk_at dksJ10_getChars_2_1 11 rfl rfl)
theorem dJ10_getChars_2_36 : decode cJ10_getChars_2 36 = .ok (.imul, 1) := dk_104 (dk_at dksJ10_getChars_2_1 13 rfl rfl)
theorem dJ10_getChars_2_37 : decode cJ10_getChars_2 37 = .ok (.iload_n 0, 1) := dk_26 (dk_at dksJ10_getChars_2_1 14 rfl rfl)
theorem dJ10_getChars_2_38 : decode cJ10_getChars_2 38 = .ok (.isub, 1) := dk_100 (dk_at dksJ10_getChars_2_1 15 rfl rfl)
theorem dJ10_getChars_2_39 : decode cJ10_getChars_2 39 = .ok (.istore 4, 2) := dk_54 4 (dk_at dksJ10_getChars_2_1 16 rfl rfl)
theorem dJ10_getChars_2_41 : decode cJ10_getChars_2 41 = .ok (.iload_n 3, 1) := dk_29 (dk_at dksJ10_getChars_2_1 18 rfl rfl)
theorem dJ10_getChars_2_42 : decode cJ10_getChars_2 42 = .ok (.istore_n 0, 1) := dk_59 (dk_at dksJ10_getChars_2_1 19 rfl rfl)
theorem dJ10_getChars_2_43 : decode cJ10_getChars_2 43 = .ok (.aload_n 2, 1) := dk_44 (dk_at dksJ10_getChars_2_1 20 rfl rfl)
theorem dJ10_getChars_2_44 : decode cJ10_getChars_2 44 = .ok (.iinc 5 (-1), 3) := dk_132 5 255 (dk_at dksJ10_getChars_2_1 21 rfl rfl)
theorem dJ10_getChars_2_47 : decode cJ10_getChars_2 47 = .ok (.iload 5, 2) := dk_21 5 (dk_at dksJ10_getChars_2_2 0 rfl rfl)
theorem dJ10_getChars_2_49 : decode cJ10_getChars_2 49 = .ok (.getstatic 403, 3) := dk_178 1 147 (dk_at dksJ10_getChars_2_2 2 rfl rfl)
theorem dJ10_getChars_2_52 : decode cJ10_getChars_2 52 = .ok (.iload 4, 2) := dk_21 4 (dk_at dksJ10_getChars_2_2 5 rfl rfl)
theorem dJ10_getChars_2_54 : decode cJ10_getChars_2 54 = .ok (.baload, 1) := dk_51 (dk_at dksJ10_getChars_2_2 7 rfl rfl)
theorem dJ10_getChars_2_55 : decode cJ10_getChars_2 55 = .ok (.invokestatic 111, 3) := dk_184 0 111 (dk_at dksJ10_getChars_2_2 8 rfl rfl)
theorem dJ10_getChars_2_58 : decode cJ10_getChars_2 58 = .ok (.aload_n 2, 1) := dk_44 (dk_at dksJ10_getChars_2_2 11 rfl rfl)
theorem dJ10_getChars_2_59 : decode cJ10_getChars_2 59 = .ok (.iinc 5 (-1), 3) := dk_132 5 255 (dk_at dksJ10_getChars_2_2 12 rfl rfl)
theorem dJ10_getChars_2_62 : decode cJ10_getChars_2 62 = .ok (.iload 5, 2) := dk_21 5 (dk_at dksJ10_getChars_2_2 15 rfl rfl)
theorem dJ10_getChars_2_64 : decode cJ10_getChars_2 64 = .ok (.getstatic 407, 3) := dk_178 1 151 (dk_at dksJ10_getChars_2_2 17 rfl rfl)
theorem dJ10_getChars_2_67 : decode cJ10_getChars_2 67 = .ok (.iload 4, 2) := dk_21 4 (dk_at dksJ10_getChars_2_2 20 rfl rfl)
theorem dJ10_getChars_2_69 : decode cJ10_getChars_2 69 = .ok (.baload, 1) := dk_51 (dk_at dksJ10_getChars_2_2 22 rfl rfl)
theorem dJ10_getChars_2_70 : decode cJ10_getChars_2 70 = .ok (.invokestatic 111, 3) := dk_184 0 111 (dk_at dksJ10_getChars_2_3 0 rfl rfl)
theorem dJ10_getChars_2_73 : decode cJ10_getChars_2 73 = .ok (.goto (-51), 3) := dk_167 255 205 (dk_at dksJ10_getChars_2_3 3 rfl rfl)
theorem dJ10_getChars_2_76 : decode cJ10_getChars_2 76 = .ok (.aload_n 2, 1) := dk_44 (dk_at dksJ10_getChars_2_3 6 rfl rfl)
theorem dJ10_getChars_2_77 : decode cJ10_getChars_2 77 = .ok (.iinc 5 (-1), 3) := dk_132 5 255 (dk_at dksJ10_getChars_2_3 7 rfl rfl)
theorem dJ10_getChars_2_80 : decode cJ10_getChars_2 80 = .ok (.iload 5, 2) := dk_21 5 (dk_at dksJ10_getChars_2_3 10 rfl rfl)
theorem dJ10_getChars_2_82 : decode cJ10_getChars_2 82 = .ok (.getstatic 403, 3) := dk_178 1 147 (dk_at dksJ10_getChars_2_3 12 rfl rfl)
theorem dJ10_getChars_2_85 : decode cJ10_getChars_2 85 = .ok (.iload_n 0, 1) := dk_26 (dk_at dksJ10_getChars_2_3 15 rfl rfl)
theorem dJ10_getChars_2_86 : decode cJ10_getChars_2 86 = .ok (.ineg, 1) := dk_116 (dk_at dksJ10_getChars_2_3 16 rfl rfl)
theorem dJ10_getChars_2_87 : decode cJ10_getChars_2 87 = .ok (.baload, 1) := dk_51 (dk_at dksJ10_getChars_2_3 17 rfl rfl)
theorem dJ10_getChars_2_88 : decode cJ10_getChars_2 88 = .ok (.invokestatic 111, 3) := dk_184 0 111 (dk_at dksJ10_getChars_2_3 18 rfl rfl)
theorem dJ10_getChars_2_91 : decode cJ10_getChars_2 91 = .ok (.iload_n 0, 1) := dk_26 (dk_at dksJ10_getChars_2_3 21 rfl rfl)
theorem dJ10_getChars_2_92 : decode cJ10_getChars_2 92 = .ok (.bipush (-9), 2) := dk_16 247 (dk_at dksJ10_getChars_2_3 22 rfl rfl)
theorem dJ10_getChars_2_94 : decode cJ10_getChars_2 94 = .ok (.if_icmp .ge 18, 3) := dk_162 0 18 (dk_at dksJ10_getChars_2_4 0 rfl rfl)
theorem dJ10_getChars_2_97 : decode cJ10_getChars_2 97 = .ok (.aload_n 2, 1) := dk_44 (dk_at dksJ10_getChars_2_4 3 rfl rfl)
theorem dJ10_getChars_2_98 : decode cJ10_getChars_2 98 = .ok (.iinc 5 (-1), 3) := dk_132 5 255 (dk_at dksJ10_getChars_2_4 4 rfl rfl)
theorem dJ10_getChars_2_101 : decode cJ10_getChars_2 101 = .ok (.iload 5, 2) := dk_21 5 (dk_at dksJ10_getChars_2_4 7 rfl rfl)
theorem dJ10_getChars_2_103 : decode cJ10_getChars_2 103 = .ok (.getstatic 407, 3) := dk_178 1 151 (dk_at dksJ10_getChars_2_4 9 rfl rfl)
theorem dJ10_getChars_2_106 : decode cJ10_getChars_2 106 = .ok (.iload_n 0, 1) := dk_26 (dk_at dksJ10_getChars_2_4 12 rfl rfl)
theorem dJ10_getChars_2_107 : decode cJ10_getChars_2 107 = .ok (.ineg, 1) := dk_116 (dk_at dksJ10_getChars_2_4 13 rfl rfl)
theorem dJ10_getChars_2_108 : decode cJ10_getChars_2 108 = .ok (.baload, 1) := dk_51 (dk_at dksJ10_getChars_2_4 14 rfl rfl)
theorem dJ10_getChars_2_109 : decode cJ10_getChars_2 109 = .ok (.invokestatic 111, 3) := dk_184 0 111 (dk_at dksJ10_getChars_2_4 15 rfl rfl)
theorem dJ10_getChars_2_112 : decode cJ10_getChars_2 112 = .ok (.iload 6, 2) := dk_21 6 (dk_at dksJ10_getChars_2_4 18 rfl rfl)
theorem dJ10_getChars_2_114 : decode cJ10_getChars_2 114 = .ok (.ifCond .eq 14, 3) := dk_153 0 14 (dk_at dksJ10_getChars_2_4 20 rfl rfl)
theorem dJ10_getChars_2_117 : decode cJ10_getChars_2 117 = .ok (.aload_n 2, 1) := dk_44 (dk_at dksJ10_getChars_2_4 23 rfl rfl)
theorem dJ10_getChars_2_118 : decode cJ10_getChars_2 118 = .ok (.iinc 5 (-1), 3) := dk_132 5 255 (dk_at dksJ10_getChars_2_5 0 rfl rfl)
theorem dJ10_getChars_2_121 : decode cJ10_getChars_2 121 = .ok (.iload 5, 2) := dk_21 5 (dk_at dksJ10_getChars_2_5 3 rfl rfl)
theorem dJ10_getChars_2_123 : decode cJ10_getChars_2 123 = .ok (.bipush 45, 2) := dk_16 45 (dk_at dksJ10_getChars_2_5 5 rfl rfl)
theorem dJ10_getChars_2_125 : decode cJ10_getChars_2 125 = .ok (.invokestatic 111, 3) := dk_184 0 111 (dk_at dksJ10_getChars_2_5 7 rfl rfl)
theorem dJ10_getChars_2_128 : decode cJ10_getChars_2 128 = .ok (.iload 5, 2) := dk_21 5 (dk_at dksJ10_getChars_2_5 10 rfl rfl)
theorem dJ10_getChars_2_130 : decode cJ10_getChars_2 130 = .ok (.ireturn, 1) := dk_172 (dk_at dksJ10_getChars_2_5 12 rfl rfl)
abbrev cJ10_compress : ByteArray := prog_39_method_17_code
def yJ10_compress : MethodName := ⟨RJ10, "compress", "([BII)[B"⟩
def dkwJ10_compress_2 : List UInt8 := [25, 5, 3, 45, 3, 28, 184, 0, 123, 28, 159, 0, 6, 25, 5, 176, 45, 176]
abbrev dktJ10_compress_2 : List UInt8 := dkwJ10_compress_2 ++ []
def dkwJ10_compress_1 : List UInt8 := [27, 28, 96, 184, 0, 11, 184, 0, 126, 58, 5, 25, 5, 21, 4, 184, 0, 71, 17, 0, 255, 163, 0, 16]
abbrev dktJ10_compress_1 : List UInt8 := dkwJ10_compress_1 ++ dktJ10_compress_2
def dkwJ10_compress_0 : List UInt8 := [28, 188, 8, 78, 42, 27, 45, 3, 28, 184, 0, 123, 54, 4, 21, 4, 28, 159, 0, 47, 42, 27, 4, 120]
abbrev dktJ10_compress_0 : List UInt8 := dkwJ10_compress_0 ++ dktJ10_compress_1
theorem dksJ10_compress_0 : cJ10_compress.data.toList.drop 0 = dktJ10_compress_0 := by decide +kernel
theorem dksJ10_compress_1 : cJ10_compress.data.toList.drop 24 = dktJ10_compress_1 := dk_seg dksJ10_compress_0 24 rfl rfl
theorem dksJ10_compress_2 : cJ10_compress.data.toList.drop 48 = dktJ10_compress_2 := dk_seg dksJ10_compress_1 24 rfl rfl
theorem dJ10_compress_0 : decode cJ10_compress 0 = .ok (.iload_n 2, 1) := dk_28 (dk_at dksJ10_compress_0 0 rfl rfl)
theorem dJ10_compress_1 : decode cJ10_compress 1 = .ok (.newarray .byte, 2) := dk_188_8 (dk_at dksJ10_compress_0 1 rfl rfl)
theorem dJ10_compress_3 : decode cJ10_compress 3 = .ok (.astore_n 3, 1) := dk_78 (dk_at dksJ10_compress_0 3 rfl rfl)
theorem dJ10_compress_4 : decode cJ10_compress 4 = .ok (.aload_n 0, 1) := dk_42 (dk_at dksJ10_compress_0 4 rfl rfl)
theorem dJ10_compress_5 : decode cJ10_compress 5 = .ok (.iload_n 1, 1) := dk_27 (dk_at dksJ10_compress_0 5 rfl rfl)
theorem dJ10_compress_6 : decode cJ10_compress 6 = .ok (.aload_n 3, 1) := dk_45 (dk_at dksJ10_compress_0 6 rfl rfl)
theorem dJ10_compress_7 : decode cJ10_compress 7 = .ok (.iconst 0, 1) := dk_3 (dk_at dksJ10_compress_0 7 rfl rfl)
theorem dJ10_compress_8 : decode cJ10_compress 8 = .ok (.iload_n 2, 1) := dk_28 (dk_at dksJ10_compress_0 8 rfl rfl)
theorem dJ10_compress_9 : decode cJ10_compress 9 = .ok (.invokestatic 123, 3) := dk_184 0 123 (dk_at dksJ10_compress_0 9 rfl rfl)
theorem dJ10_compress_12 : decode cJ10_compress 12 = .ok (.istore 4, 2) := dk_54 4 (dk_at dksJ10_compress_0 12 rfl rfl)
theorem dJ10_compress_14 : decode cJ10_compress 14 = .ok (.iload 4, 2) := dk_21 4 (dk_at dksJ10_compress_0 14 rfl rfl)
theorem dJ10_compress_16 : decode cJ10_compress 16 = .ok (.iload_n 2, 1) := dk_28 (dk_at dksJ10_compress_0 16 rfl rfl)
theorem dJ10_compress_17 : decode cJ10_compress 17 = .ok (.if_icmp .eq 47, 3) := dk_159 0 47 (dk_at dksJ10_compress_0 17 rfl rfl)
theorem dJ10_compress_20 : decode cJ10_compress 20 = .ok (.aload_n 0, 1) := dk_42 (dk_at dksJ10_compress_0 20 rfl rfl)
theorem dJ10_compress_21 : decode cJ10_compress 21 = .ok (.iload_n 1, 1) := dk_27 (dk_at dksJ10_compress_0 21 rfl rfl)
theorem dJ10_compress_22 : decode cJ10_compress 22 = .ok (.iconst 1, 1) := dk_4 (dk_at dksJ10_compress_0 22 rfl rfl)
theorem dJ10_compress_23 : decode cJ10_compress 23 = .ok (.ishl, 1) := dk_120 (dk_at dksJ10_compress_0 23 rfl rfl)
theorem dJ10_compress_24 : decode cJ10_compress 24 = .ok (.iload_n 1, 1) := dk_27 (dk_at dksJ10_compress_1 0 rfl rfl)
theorem dJ10_compress_25 : decode cJ10_compress 25 = .ok (.iload_n 2, 1) := dk_28 (dk_at dksJ10_compress_1 1 rfl rfl)
theorem dJ10_compress_26 : decode cJ10_compress 26 = .ok (.iadd, 1) := dk_96 (dk_at dksJ10_compress_1 2 rfl rfl)
theorem dJ10_compress_27 : decode cJ10_compress 27 = .ok (.invokestatic 11, 3) := dk_184 0 11 (dk_at dksJ10_compress_1 3 rfl rfl)
theorem dJ10_compress_30 : decode cJ10_compress 30 = .ok (.invokestatic 126, 3) := dk_184 0 126 (dk_at dksJ10_compress_1 6 rfl rfl)
theorem dJ10_compress_33 : decode cJ10_compress 33 = .ok (.astore 5, 2) := dk_58 5 (dk_at dksJ10_compress_1 9 rfl rfl)
theorem dJ10_compress_35 : decode cJ10_compress 35 = .ok (.aload 5, 2) := dk_25 5 (dk_at dksJ10_compress_1 11 rfl rfl)
theorem dJ10_compress_37 : decode cJ10_compress 37 = .ok (.iload 4, 2) := dk_21 4 (dk_at dksJ10_compress_1 13 rfl rfl)
theorem dJ10_compress_39 : decode cJ10_compress 39 = .ok (.invokestatic 71, 3) := dk_184 0 71 (dk_at dksJ10_compress_1 15 rfl rfl)
theorem dJ10_compress_42 : decode cJ10_compress 42 = .ok (.sipush 255, 3) := dk_17 0 255 (dk_at dksJ10_compress_1 18 rfl rfl)
theorem dJ10_compress_45 : decode cJ10_compress 45 = .ok (.if_icmp .gt 16, 3) := dk_163 0 16 (dk_at dksJ10_compress_1 21 rfl rfl)
theorem dJ10_compress_48 : decode cJ10_compress 48 = .ok (.aload 5, 2) := dk_25 5 (dk_at dksJ10_compress_2 0 rfl rfl)
theorem dJ10_compress_50 : decode cJ10_compress 50 = .ok (.iconst 0, 1) := dk_3 (dk_at dksJ10_compress_2 2 rfl rfl)
theorem dJ10_compress_51 : decode cJ10_compress 51 = .ok (.aload_n 3, 1) := dk_45 (dk_at dksJ10_compress_2 3 rfl rfl)
theorem dJ10_compress_52 : decode cJ10_compress 52 = .ok (.iconst 0, 1) := dk_3 (dk_at dksJ10_compress_2 4 rfl rfl)
theorem dJ10_compress_53 : decode cJ10_compress 53 = .ok (.iload_n 2, 1) := dk_28 (dk_at dksJ10_compress_2 5 rfl rfl)
theorem dJ10_compress_54 : decode cJ10_compress 54 = .ok (.invokestatic 123, 3) := dk_184 0 123 (dk_at dksJ10_compress_2 6 rfl rfl)
theorem dJ10_compress_57 : decode cJ10_compress 57 = .ok (.iload_n 2, 1) := dk_28 (dk_at dksJ10_compress_2 9 rfl rfl)
theorem dJ10_compress_58 : decode cJ10_compress 58 = .ok (.if_icmp .eq 6, 3) := dk_159 0 6 (dk_at dksJ10_compress_2 10 rfl rfl)
theorem dJ10_compress_61 : decode cJ10_compress 61 = .ok (.aload 5, 2) := dk_25 5 (dk_at dksJ10_compress_2 13 rfl rfl)
theorem dJ10_compress_63 : decode cJ10_compress 63 = .ok (.areturn, 1) := dk_176 (dk_at dksJ10_compress_2 15 rfl rfl)
theorem dJ10_compress_64 : decode cJ10_compress 64 = .ok (.aload_n 3, 1) := dk_45 (dk_at dksJ10_compress_2 16 rfl rfl)
theorem dJ10_compress_65 : decode cJ10_compress 65 = .ok (.areturn, 1) := dk_176 (dk_at dksJ10_compress_2 17 rfl rfl)
abbrev cJ10_compress_2 : ByteArray := prog_39_method_22_code
def yJ10_compress_2 : MethodName := ⟨RJ10, "compress", "([BI[BII)I"⟩
def dkwJ10_compress_2_2 : List UInt8 := [132, 5, 1, 167, 255, 216, 21, 4, 172]
abbrev dktJ10_compress_2_2 : List UInt8 := dkwJ10_compress_2_2 ++ []
def dkwJ10_compress_2_1 : List UInt8 := [21, 6, 17, 0, 255, 164, 0, 6, 21, 5, 172, 44, 29, 21, 6, 145, 84, 132, 1, 1, 132, 3, 1]
abbrev dktJ10_compress_2_1 : List UInt8 := dkwJ10_compress_2_1 ++ dktJ10_compress_2_2
def dkwJ10_compress_2_0 : List UInt8 := [27, 21, 4, 42, 184, 0, 173, 3, 54, 5, 21, 5, 21, 4, 162, 0, 39, 42, 27, 184, 0, 71, 54, 6]
abbrev dktJ10_compress_2_0 : List UInt8 := dkwJ10_compress_2_0 ++ dktJ10_compress_2_1
theorem dksJ10_compress_2_0 : cJ10_compress_2.data.toList.drop 0 = dktJ10_compress_2_0 := by decide +kernel
theorem dksJ10_compress_2_1 : cJ10_compress_2.data.toList.drop 24 = dktJ10_compress_2_1 := dk_seg dksJ10_compress_2_0 24 rfl rfl
theorem dksJ10_compress_2_2 : cJ10_compress_2.data.toList.drop 47 = dktJ10_compress_2_2 := dk_seg dksJ10_compress_2_1 23 rfl rfl
theorem dJ10_compress_2_0 : decode cJ10_compress_2 0 = .ok (.iload_n 1, 1) := dk_27 (dk_at dksJ10_compress_2_0 0 rfl rfl)
theorem dJ10_compress_2_1 : decode cJ10_compress_2 1 = .ok (.iload 4, 2) := dk_21 4 (dk_at dksJ10_compress_2_0 1 rfl rfl)
theorem dJ10_compress_2_3 : decode cJ10_compress_2 3 = .ok (.aload_n 0, 1) := dk_42 (dk_at dksJ10_compress_2_0 3 rfl rfl)
theorem dJ10_compress_2_4 : decode cJ10_compress_2 4 = .ok (.invokestatic 173, 3) := dk_184 0 173 (dk_at dksJ10_compress_2_0 4 rfl rfl)
theorem dJ10_compress_2_7 : decode cJ10_compress_2 7 = .ok (.iconst 0, 1) := dk_3 (dk_at dksJ10_compress_2_0 7 rfl rfl)
theorem dJ10_compress_2_8 : decode cJ10_compress_2 8 = .ok (.istore 5, 2) := dk_54 5 (dk_at dksJ10_compress_2_0 8 rfl rfl)
theorem dJ10_compress_2_10 : decode cJ10_compress_2 10 = .ok (.iload 5, 2) := dk_21 5 (dk_at dksJ10_compress_2_0 10 rfl rfl)
theorem dJ10_compress_2_12 : decode cJ10_compress_2 12 = .ok (.iload 4, 2) := dk_21 4 (dk_at dksJ10_compress_2_0 12 rfl rfl)
theorem dJ10_compress_2_14 : decode cJ10_compress_2 14 = .ok (.if_icmp .ge 39, 3) := dk_162 0 39 (dk_at dksJ10_compress_2_0 14 rfl rfl)
theorem dJ10_compress_2_17 : decode cJ10_compress_2 17 = .ok (.aload_n 0, 1) := dk_42 (dk_at dksJ10_compress_2_0 17 rfl rfl)
theorem dJ10_compress_2_18 : decode cJ10_compress_2 18 = .ok (.iload_n 1, 1) := dk_27 (dk_at dksJ10_compress_2_0 18 rfl rfl)
theorem dJ10_compress_2_19 : decode cJ10_compress_2 19 = .ok (.invokestatic 71, 3) := dk_184 0 71 (dk_at dksJ10_compress_2_0 19 rfl rfl)
theorem dJ10_compress_2_22 : decode cJ10_compress_2 22 = .ok (.istore 6, 2) := dk_54 6 (dk_at dksJ10_compress_2_0 22 rfl rfl)
theorem dJ10_compress_2_24 : decode cJ10_compress_2 24 = .ok (.iload 6, 2) := dk_21 6 (dk_at dksJ10_compress_2_1 0 rfl rfl)
theorem dJ10_compress_2_26 : decode cJ10_compress_2 26 = .ok (.sipush 255, 3) := dk_17 0 255 (dk_at dksJ10_compress_2_1 2 rfl rfl)
theorem dJ10_compress_2_29 : decode cJ10_compress_2 29 = .ok (.if_icmp .le 6, 3) := dk_164 0 6 (dk_at dksJ10_compress_2_1 5 rfl rfl)
theorem dJ10_compress_2_32 : decode cJ10_compress_2 32 = .ok (.iload 5, 2) := dk_21 5 (dk_at dksJ10_compress_2_1 8 rfl rfl)
theorem dJ10_compress_2_34 : decode cJ10_compress_2 34 = .ok (.ireturn, 1) := dk_172 (dk_at dksJ10_compress_2_1 10 rfl rfl)
theorem dJ10_compress_2_35 : decode cJ10_compress_2 35 = .ok (.aload_n 2, 1) := dk_44 (dk_at dksJ10_compress_2_1 11 rfl rfl)
theorem dJ10_compress_2_36 : decode cJ10_compress_2 36 = .ok (.iload_n 3, 1) := dk_29 (dk_at dksJ10_compress_2_1 12 rfl rfl)
theorem dJ10_compress_2_37 : decode cJ10_compress_2 37 = .ok (.iload 6, 2) := dk_21 6 (dk_at dksJ10_compress_2_1 13 rfl rfl)
theorem dJ10_compress_2_39 : decode cJ10_compress_2 39 = .ok (.i2b, 1) := dk_145 (dk_at dksJ10_compress_2_1 15 rfl rfl)
theorem dJ10_compress_2_40 : decode cJ10_compress_2 40 = .ok (.bastore, 1) := dk_84 (dk_at dksJ10_compress_2_1 16 rfl rfl)
theorem dJ10_compress_2_41 : decode cJ10_compress_2 41 = .ok (.iinc 1 1, 3) := dk_132 1 1 (dk_at dksJ10_compress_2_1 17 rfl rfl)
theorem dJ10_compress_2_44 : decode cJ10_compress_2 44 = .ok (.iinc 3 1, 3) := dk_132 3 1 (dk_at dksJ10_compress_2_1 20 rfl rfl)
theorem dJ10_compress_2_47 : decode cJ10_compress_2 47 = .ok (.iinc 5 1, 3) := dk_132 5 1 (dk_at dksJ10_compress_2_2 0 rfl rfl)
theorem dJ10_compress_2_50 : decode cJ10_compress_2 50 = .ok (.goto (-40), 3) := dk_167 255 216 (dk_at dksJ10_compress_2_2 3 rfl rfl)
theorem dJ10_compress_2_53 : decode cJ10_compress_2 53 = .ok (.iload 4, 2) := dk_21 4 (dk_at dksJ10_compress_2_2 6 rfl rfl)
theorem dJ10_compress_2_55 : decode cJ10_compress_2 55 = .ok (.ireturn, 1) := dk_172 (dk_at dksJ10_compress_2_2 8 rfl rfl)
abbrev cJ10_getChar : ByteArray := prog_39_method_5_code
def yJ10_getChar : MethodName := ⟨RJ10, "getChar", "([BI)C"⟩
def dkwJ10_getChar_2 : List UInt8 := [51, 17, 0, 255, 126, 178, 0, 63, 120, 128, 146, 172]
abbrev dktJ10_getChar_2 : List UInt8 := dkwJ10_getChar_2 ++ []
def dkwJ10_getChar_1 : List UInt8 := [183, 0, 56, 191, 27, 4, 120, 60, 42, 27, 132, 1, 1, 51, 17, 0, 255, 126, 178, 0, 59, 120, 42, 27]
abbrev dktJ10_getChar_1 : List UInt8 := dkwJ10_getChar_1 ++ dktJ10_getChar_2
def dkwJ10_getChar_0 : List UInt8 := [178, 0, 44, 154, 0, 25, 27, 155, 0, 11, 27, 42, 184, 0, 48, 161, 0, 13, 187, 0, 52, 89, 18, 54]
abbrev dktJ10_getChar_0 : List UInt8 := dkwJ10_getChar_0 ++ dktJ10_getChar_1
theorem dksJ10_getChar_0 : cJ10_getChar.data.toList.drop 0 = dktJ10_getChar_0 := by decide +kernel
theorem dksJ10_getChar_1 : cJ10_getChar.data.toList.drop 24 = dktJ10_getChar_1 := dk_seg dksJ10_getChar_0 24 rfl rfl
theorem dksJ10_getChar_2 : cJ10_getChar.data.toList.drop 48 = dktJ10_getChar_2 := dk_seg dksJ10_getChar_1 24 rfl rfl
theorem dJ10_getChar_0 : decode cJ10_getChar 0 = .ok (.getstatic 44, 3) := dk_178 0 44 (dk_at dksJ10_getChar_0 0 rfl rfl)
theorem dJ10_getChar_3 : decode cJ10_getChar 3 = .ok (.ifCond .ne 25, 3) := dk_154 0 25 (dk_at dksJ10_getChar_0 3 rfl rfl)
theorem dJ10_getChar_6 : decode cJ10_getChar 6 = .ok (.iload_n 1, 1) := dk_27 (dk_at dksJ10_getChar_0 6 rfl rfl)
theorem dJ10_getChar_7 : decode cJ10_getChar 7 = .ok (.ifCond .lt 11, 3) := dk_155 0 11 (dk_at dksJ10_getChar_0 7 rfl rfl)
theorem dJ10_getChar_10 : decode cJ10_getChar 10 = .ok (.iload_n 1, 1) := dk_27 (dk_at dksJ10_getChar_0 10 rfl rfl)
theorem dJ10_getChar_11 : decode cJ10_getChar 11 = .ok (.aload_n 0, 1) := dk_42 (dk_at dksJ10_getChar_0 11 rfl rfl)
theorem dJ10_getChar_12 : decode cJ10_getChar 12 = .ok (.invokestatic 48, 3) := dk_184 0 48 (dk_at dksJ10_getChar_0 12 rfl rfl)
theorem dJ10_getChar_15 : decode cJ10_getChar 15 = .ok (.if_icmp .lt 13, 3) := dk_161 0 13 (dk_at dksJ10_getChar_0 15 rfl rfl)
theorem dJ10_getChar_18 : decode cJ10_getChar 18 = .ok (.new 52, 3) := dk_187 0 52 (dk_at dksJ10_getChar_0 18 rfl rfl)
theorem dJ10_getChar_21 : decode cJ10_getChar 21 = .ok (.dup, 1) := dk_89 (dk_at dksJ10_getChar_0 21 rfl rfl)
theorem dJ10_getChar_22 : decode cJ10_getChar 22 = .ok (.ldc 54, 2) := dk_18 54 (dk_at dksJ10_getChar_0 22 rfl rfl)
theorem dJ10_getChar_24 : decode cJ10_getChar 24 = .ok (.invokespecial 56, 3) := dk_183 0 56 (dk_at dksJ10_getChar_1 0 rfl rfl)
theorem dJ10_getChar_27 : decode cJ10_getChar 27 = .ok (.athrow, 1) := dk_191 (dk_at dksJ10_getChar_1 3 rfl rfl)
theorem dJ10_getChar_28 : decode cJ10_getChar 28 = .ok (.iload_n 1, 1) := dk_27 (dk_at dksJ10_getChar_1 4 rfl rfl)
theorem dJ10_getChar_29 : decode cJ10_getChar 29 = .ok (.iconst 1, 1) := dk_4 (dk_at dksJ10_getChar_1 5 rfl rfl)
theorem dJ10_getChar_30 : decode cJ10_getChar 30 = .ok (.ishl, 1) := dk_120 (dk_at dksJ10_getChar_1 6 rfl rfl)
theorem dJ10_getChar_31 : decode cJ10_getChar 31 = .ok (.istore_n 1, 1) := dk_60 (dk_at dksJ10_getChar_1 7 rfl rfl)
theorem dJ10_getChar_32 : decode cJ10_getChar 32 = .ok (.aload_n 0, 1) := dk_42 (dk_at dksJ10_getChar_1 8 rfl rfl)
theorem dJ10_getChar_33 : decode cJ10_getChar 33 = .ok (.iload_n 1, 1) := dk_27 (dk_at dksJ10_getChar_1 9 rfl rfl)
theorem dJ10_getChar_34 : decode cJ10_getChar 34 = .ok (.iinc 1 1, 3) := dk_132 1 1 (dk_at dksJ10_getChar_1 10 rfl rfl)
theorem dJ10_getChar_37 : decode cJ10_getChar 37 = .ok (.baload, 1) := dk_51 (dk_at dksJ10_getChar_1 13 rfl rfl)
theorem dJ10_getChar_38 : decode cJ10_getChar 38 = .ok (.sipush 255, 3) := dk_17 0 255 (dk_at dksJ10_getChar_1 14 rfl rfl)
theorem dJ10_getChar_41 : decode cJ10_getChar 41 = .ok (.iand, 1) := dk_126 (dk_at dksJ10_getChar_1 17 rfl rfl)
theorem dJ10_getChar_42 : decode cJ10_getChar 42 = .ok (.getstatic 59, 3) := dk_178 0 59 (dk_at dksJ10_getChar_1 18 rfl rfl)
theorem dJ10_getChar_45 : decode cJ10_getChar 45 = .ok (.ishl, 1) := dk_120 (dk_at dksJ10_getChar_1 21 rfl rfl)
theorem dJ10_getChar_46 : decode cJ10_getChar 46 = .ok (.aload_n 0, 1) := dk_42 (dk_at dksJ10_getChar_1 22 rfl rfl)
theorem dJ10_getChar_47 : decode cJ10_getChar 47 = .ok (.iload_n 1, 1) := dk_27 (dk_at dksJ10_getChar_1 23 rfl rfl)
theorem dJ10_getChar_48 : decode cJ10_getChar 48 = .ok (.baload, 1) := dk_51 (dk_at dksJ10_getChar_2 0 rfl rfl)
theorem dJ10_getChar_49 : decode cJ10_getChar 49 = .ok (.sipush 255, 3) := dk_17 0 255 (dk_at dksJ10_getChar_2 1 rfl rfl)
theorem dJ10_getChar_52 : decode cJ10_getChar 52 = .ok (.iand, 1) := dk_126 (dk_at dksJ10_getChar_2 4 rfl rfl)
theorem dJ10_getChar_53 : decode cJ10_getChar 53 = .ok (.getstatic 63, 3) := dk_178 0 63 (dk_at dksJ10_getChar_2 5 rfl rfl)
theorem dJ10_getChar_56 : decode cJ10_getChar 56 = .ok (.ishl, 1) := dk_120 (dk_at dksJ10_getChar_2 8 rfl rfl)
theorem dJ10_getChar_57 : decode cJ10_getChar 57 = .ok (.ior, 1) := dk_128 (dk_at dksJ10_getChar_2 9 rfl rfl)
theorem dJ10_getChar_58 : decode cJ10_getChar 58 = .ok (.i2c, 1) := dk_146 (dk_at dksJ10_getChar_2 10 rfl rfl)
theorem dJ10_getChar_59 : decode cJ10_getChar 59 = .ok (.ireturn, 1) := dk_172 (dk_at dksJ10_getChar_2 11 rfl rfl)
abbrev cJ10_coderFromArrayLen : ByteArray := prog_39_method_15_code
def yJ10_coderFromArrayLen : MethodName := ⟨RJ10, "coderFromArrayLen", "([BI)B"⟩
def dkwJ10_coderFromArrayLen_0 : List UInt8 := [27, 42, 190, 100, 16, 31, 124, 145, 172]
abbrev dktJ10_coderFromArrayLen_0 : List UInt8 := dkwJ10_coderFromArrayLen_0 ++ []
theorem dksJ10_coderFromArrayLen_0 : cJ10_coderFromArrayLen.data.toList.drop 0 = dktJ10_coderFromArrayLen_0 := by decide +kernel
theorem dJ10_coderFromArrayLen_0 : decode cJ10_coderFromArrayLen 0 = .ok (.iload_n 1, 1) := dk_27 (dk_at dksJ10_coderFromArrayLen_0 0 rfl rfl)
theorem dJ10_coderFromArrayLen_1 : decode cJ10_coderFromArrayLen 1 = .ok (.aload_n 0, 1) := dk_42 (dk_at dksJ10_coderFromArrayLen_0 1 rfl rfl)
theorem dJ10_coderFromArrayLen_2 : decode cJ10_coderFromArrayLen 2 = .ok (.arraylength, 1) := dk_190 (dk_at dksJ10_coderFromArrayLen_0 2 rfl rfl)
theorem dJ10_coderFromArrayLen_3 : decode cJ10_coderFromArrayLen 3 = .ok (.isub, 1) := dk_100 (dk_at dksJ10_coderFromArrayLen_0 3 rfl rfl)
theorem dJ10_coderFromArrayLen_4 : decode cJ10_coderFromArrayLen 4 = .ok (.bipush 31, 2) := dk_16 31 (dk_at dksJ10_coderFromArrayLen_0 4 rfl rfl)
theorem dJ10_coderFromArrayLen_6 : decode cJ10_coderFromArrayLen 6 = .ok (.iushr, 1) := dk_124 (dk_at dksJ10_coderFromArrayLen_0 6 rfl rfl)
theorem dJ10_coderFromArrayLen_7 : decode cJ10_coderFromArrayLen 7 = .ok (.i2b, 1) := dk_145 (dk_at dksJ10_coderFromArrayLen_0 7 rfl rfl)
theorem dJ10_coderFromArrayLen_8 : decode cJ10_coderFromArrayLen 8 = .ok (.ireturn, 1) := dk_172 (dk_at dksJ10_coderFromArrayLen_0 8 rfl rfl)
abbrev cJ10_putCharSB : ByteArray := prog_39_method_71_code
def yJ10_putCharSB : MethodName := ⟨RJ10, "putCharSB", "([BII)V"⟩
def dkwJ10_putCharSB_0 : List UInt8 := [27, 42, 184, 0, 67, 42, 27, 28, 184, 0, 111, 177]
abbrev dktJ10_putCharSB_0 : List UInt8 := dkwJ10_putCharSB_0 ++ []
theorem dksJ10_putCharSB_0 : cJ10_putCharSB.data.toList.drop 0 = dktJ10_putCharSB_0 := by decide +kernel
theorem dJ10_putCharSB_0 : decode cJ10_putCharSB 0 = .ok (.iload_n 1, 1) := dk_27 (dk_at dksJ10_putCharSB_0 0 rfl rfl)
theorem dJ10_putCharSB_1 : decode cJ10_putCharSB 1 = .ok (.aload_n 0, 1) := dk_42 (dk_at dksJ10_putCharSB_0 1 rfl rfl)
theorem dJ10_putCharSB_2 : decode cJ10_putCharSB 2 = .ok (.invokestatic 67, 3) := dk_184 0 67 (dk_at dksJ10_putCharSB_0 2 rfl rfl)
theorem dJ10_putCharSB_5 : decode cJ10_putCharSB 5 = .ok (.aload_n 0, 1) := dk_42 (dk_at dksJ10_putCharSB_0 5 rfl rfl)
theorem dJ10_putCharSB_6 : decode cJ10_putCharSB 6 = .ok (.iload_n 1, 1) := dk_27 (dk_at dksJ10_putCharSB_0 6 rfl rfl)
theorem dJ10_putCharSB_7 : decode cJ10_putCharSB 7 = .ok (.iload_n 2, 1) := dk_28 (dk_at dksJ10_putCharSB_0 7 rfl rfl)
theorem dJ10_putCharSB_8 : decode cJ10_putCharSB 8 = .ok (.invokestatic 111, 3) := dk_184 0 111 (dk_at dksJ10_putCharSB_0 8 rfl rfl)
theorem dJ10_putCharSB_11 : decode cJ10_putCharSB 11 = .ok (.return_, 1) := dk_177 (dk_at dksJ10_putCharSB_0 11 rfl rfl)
abbrev cJ10_checkIndex : ByteArray := prog_39_method_91_code
def yJ10_checkIndex : MethodName := ⟨RJ10, "checkIndex", "(I[B)V"⟩
def dkwJ10_checkIndex_0 : List UInt8 := [26, 43, 184, 0, 48, 184, 1, 158, 177]
abbrev dktJ10_checkIndex_0 : List UInt8 := dkwJ10_checkIndex_0 ++ []
theorem dksJ10_checkIndex_0 : cJ10_checkIndex.data.toList.drop 0 = dktJ10_checkIndex_0 := by decide +kernel
theorem dJ10_checkIndex_0 : decode cJ10_checkIndex 0 = .ok (.iload_n 0, 1) := dk_26 (dk_at dksJ10_checkIndex_0 0 rfl rfl)
theorem dJ10_checkIndex_1 : decode cJ10_checkIndex 1 = .ok (.aload_n 1, 1) := dk_43 (dk_at dksJ10_checkIndex_0 1 rfl rfl)
theorem dJ10_checkIndex_2 : decode cJ10_checkIndex 2 = .ok (.invokestatic 48, 3) := dk_184 0 48 (dk_at dksJ10_checkIndex_0 2 rfl rfl)
theorem dJ10_checkIndex_5 : decode cJ10_checkIndex 5 = .ok (.invokestatic 414, 3) := dk_184 1 158 (dk_at dksJ10_checkIndex_0 5 rfl rfl)
theorem dJ10_checkIndex_8 : decode cJ10_checkIndex 8 = .ok (.return_, 1) := dk_177 (dk_at dksJ10_checkIndex_0 8 rfl rfl)
abbrev cJ10_toBytes : ByteArray := prog_39_method_24_code
def yJ10_toBytes : MethodName := ⟨RJ10, "toBytes", "(C)[B"⟩
def dkwJ10_toBytes_0 : List UInt8 := [5, 188, 8, 76, 43, 3, 26, 184, 0, 111, 43, 176]
abbrev dktJ10_toBytes_0 : List UInt8 := dkwJ10_toBytes_0 ++ []
theorem dksJ10_toBytes_0 : cJ10_toBytes.data.toList.drop 0 = dktJ10_toBytes_0 := by decide +kernel
theorem dJ10_toBytes_0 : decode cJ10_toBytes 0 = .ok (.iconst 2, 1) := dk_5 (dk_at dksJ10_toBytes_0 0 rfl rfl)
theorem dJ10_toBytes_1 : decode cJ10_toBytes 1 = .ok (.newarray .byte, 2) := dk_188_8 (dk_at dksJ10_toBytes_0 1 rfl rfl)
theorem dJ10_toBytes_3 : decode cJ10_toBytes 3 = .ok (.astore_n 1, 1) := dk_76 (dk_at dksJ10_toBytes_0 3 rfl rfl)
theorem dJ10_toBytes_4 : decode cJ10_toBytes 4 = .ok (.aload_n 1, 1) := dk_43 (dk_at dksJ10_toBytes_0 4 rfl rfl)
theorem dJ10_toBytes_5 : decode cJ10_toBytes 5 = .ok (.iconst 0, 1) := dk_3 (dk_at dksJ10_toBytes_0 5 rfl rfl)
theorem dJ10_toBytes_6 : decode cJ10_toBytes 6 = .ok (.iload_n 0, 1) := dk_26 (dk_at dksJ10_toBytes_0 6 rfl rfl)
theorem dJ10_toBytes_7 : decode cJ10_toBytes 7 = .ok (.invokestatic 111, 3) := dk_184 0 111 (dk_at dksJ10_toBytes_0 7 rfl rfl)
theorem dJ10_toBytes_10 : decode cJ10_toBytes 10 = .ok (.aload_n 1, 1) := dk_43 (dk_at dksJ10_toBytes_0 10 rfl rfl)
theorem dJ10_toBytes_11 : decode cJ10_toBytes 11 = .ok (.areturn, 1) := dk_176 (dk_at dksJ10_toBytes_0 11 rfl rfl)
abbrev cJ10_charAt : ByteArray := prog_39_method_83_code
def yJ10_charAt : MethodName := ⟨RJ10, "charAt", "([BI)C"⟩
def dkwJ10_charAt_0 : List UInt8 := [27, 42, 184, 0, 67, 42, 27, 184, 0, 71, 172]
abbrev dktJ10_charAt_0 : List UInt8 := dkwJ10_charAt_0 ++ []
theorem dksJ10_charAt_0 : cJ10_charAt.data.toList.drop 0 = dktJ10_charAt_0 := by decide +kernel
theorem dJ10_charAt_0 : decode cJ10_charAt 0 = .ok (.iload_n 1, 1) := dk_27 (dk_at dksJ10_charAt_0 0 rfl rfl)
theorem dJ10_charAt_1 : decode cJ10_charAt 1 = .ok (.aload_n 0, 1) := dk_42 (dk_at dksJ10_charAt_0 1 rfl rfl)
theorem dJ10_charAt_2 : decode cJ10_charAt 2 = .ok (.invokestatic 67, 3) := dk_184 0 67 (dk_at dksJ10_charAt_0 2 rfl rfl)
theorem dJ10_charAt_5 : decode cJ10_charAt 5 = .ok (.aload_n 0, 1) := dk_42 (dk_at dksJ10_charAt_0 5 rfl rfl)
theorem dJ10_charAt_6 : decode cJ10_charAt 6 = .ok (.iload_n 1, 1) := dk_27 (dk_at dksJ10_charAt_0 6 rfl rfl)
theorem dJ10_charAt_7 : decode cJ10_charAt 7 = .ok (.invokestatic 71, 3) := dk_184 0 71 (dk_at dksJ10_charAt_0 7 rfl rfl)
theorem dJ10_charAt_10 : decode cJ10_charAt 10 = .ok (.ireturn, 1) := dk_172 (dk_at dksJ10_charAt_0 10 rfl rfl)
