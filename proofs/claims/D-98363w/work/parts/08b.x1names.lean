set_option maxRecDepth 100000
/-! SpoonRow: codes (from claim/names) -/
abbrev cX1_init : ByteArray := prog_1_method_1_code
def yX1_init : MethodName := ⟨RX1, "<init>", "()V"⟩
def dkwX1_init_9 : List UInt8 := [42, 180, 0, 30, 42, 180, 0, 10, 182, 0, 82, 177]
abbrev dktX1_init_9 : List UInt8 := dkwX1_init_9 ++ []
def dkwX1_init_8 : List UInt8 := [42, 16, 7, 188, 10, 181, 0, 73, 42, 16, 7, 188, 10, 181, 0, 76, 42, 16, 7, 188, 10, 181, 0, 79]
abbrev dktX1_init_8 : List UInt8 := dkwX1_init_8 ++ dktX1_init_9
def dkwX1_init_7 : List UInt8 := [42, 180, 0, 50, 183, 0, 55, 181, 0, 62, 42, 17, 2, 88, 188, 8, 181, 0, 65, 42, 2, 181, 0, 69]
abbrev dktX1_init_7 : List UInt8 := dkwX1_init_7 ++ dktX1_init_8
def dkwX1_init_6 : List UInt8 := [187, 0, 53, 89, 42, 180, 0, 10, 42, 180, 0, 34, 42, 180, 0, 50, 42, 180, 0, 50, 42, 180, 0, 50]
abbrev dktX1_init_6 : List UInt8 := dkwX1_init_6 ++ dktX1_init_7
def dkwX1_init_5 : List UInt8 := [180, 0, 37, 42, 180, 0, 41, 42, 180, 0, 44, 42, 180, 0, 47, 183, 0, 55, 181, 0, 58, 42]
abbrev dktX1_init_5 : List UInt8 := dkwX1_init_5 ++ dktX1_init_6
def dkwX1_init_4 : List UInt8 := [181, 0, 47, 42, 3, 188, 10, 181, 0, 50, 42, 187, 0, 53, 89, 42, 180, 0, 10, 42, 180, 0, 30, 42]
abbrev dktX1_init_4 : List UInt8 := dkwX1_init_4 ++ dktX1_init_5
def dkwX1_init_3 : List UInt8 := [17, 4, 176, 188, 10, 181, 0, 41, 42, 17, 4, 176, 188, 10, 181, 0, 44, 42, 17, 4, 176, 188, 10]
abbrev dktX1_init_3 : List UInt8 := dkwX1_init_3 ++ dktX1_init_4
def dkwX1_init_2 : List UInt8 := [181, 0, 30, 42, 187, 0, 31, 89, 183, 0, 33, 181, 0, 34, 42, 17, 4, 176, 188, 10, 181, 0, 37, 42]
abbrev dktX1_init_2 : List UInt8 := dkwX1_init_2 ++ dktX1_init_3
def dkwX1_init_1 : List UInt8 := [181, 0, 19, 42, 187, 0, 16, 89, 183, 0, 18, 181, 0, 23, 42, 42, 180, 0, 19, 180, 0, 26]
abbrev dktX1_init_1 : List UInt8 := dkwX1_init_1 ++ dktX1_init_2
def dkwX1_init_0 : List UInt8 := [42, 183, 0, 1, 42, 187, 0, 7, 89, 183, 0, 9, 181, 0, 10, 42, 187, 0, 16, 89, 183, 0, 18]
abbrev dktX1_init_0 : List UInt8 := dkwX1_init_0 ++ dktX1_init_1
theorem dksX1_init_0 : cX1_init.data.toList.drop 0 = dktX1_init_0 := by decide +kernel
theorem dksX1_init_1 : cX1_init.data.toList.drop 23 = dktX1_init_1 := dk_seg dksX1_init_0 23 rfl rfl
theorem dksX1_init_2 : cX1_init.data.toList.drop 45 = dktX1_init_2 := dk_seg dksX1_init_1 22 rfl rfl
theorem dksX1_init_3 : cX1_init.data.toList.drop 69 = dktX1_init_3 := dk_seg dksX1_init_2 24 rfl rfl
theorem dksX1_init_4 : cX1_init.data.toList.drop 92 = dktX1_init_4 := dk_seg dksX1_init_3 23 rfl rfl
theorem dksX1_init_5 : cX1_init.data.toList.drop 116 = dktX1_init_5 := dk_seg dksX1_init_4 24 rfl rfl
theorem dksX1_init_6 : cX1_init.data.toList.drop 138 = dktX1_init_6 := dk_seg dksX1_init_5 22 rfl rfl
theorem dksX1_init_7 : cX1_init.data.toList.drop 162 = dktX1_init_7 := dk_seg dksX1_init_6 24 rfl rfl
theorem dksX1_init_8 : cX1_init.data.toList.drop 186 = dktX1_init_8 := dk_seg dksX1_init_7 24 rfl rfl
theorem dksX1_init_9 : cX1_init.data.toList.drop 210 = dktX1_init_9 := dk_seg dksX1_init_8 24 rfl rfl
theorem dX1_init_0 : decode cX1_init 0 = .ok (.aload_n 0, 1) := dk_42 (dk_at dksX1_init_0 0 rfl rfl)
theorem dX1_init_1 : decode cX1_init 1 = .ok (.invokespecial 1, 3) := dk_183 0 1 (dk_at dksX1_init_0 1 rfl rfl)
theorem dX1_init_4 : decode cX1_init 4 = .ok (.aload_n 0, 1) := dk_42 (dk_at dksX1_init_0 4 rfl rfl)
theorem dX1_init_5 : decode cX1_init 5 = .ok (.new 7, 3) := dk_187 0 7 (dk_at dksX1_init_0 5 rfl rfl)
theorem dX1_init_8 : decode cX1_init 8 = .ok (.dup, 1) := dk_89 (dk_at dksX1_init_0 8 rfl rfl)
theorem dX1_init_9 : decode cX1_init 9 = .ok (.invokespecial 9, 3) := dk_183 0 9 (dk_at dksX1_init_0 9 rfl rfl)
theorem dX1_init_12 : decode cX1_init 12 = .ok (.putfield 10, 3) := dk_181 0 10 (dk_at dksX1_init_0 12 rfl rfl)
theorem dX1_init_15 : decode cX1_init 15 = .ok (.aload_n 0, 1) := dk_42 (dk_at dksX1_init_0 15 rfl rfl)
theorem dX1_init_16 : decode cX1_init 16 = .ok (.new 16, 3) := dk_187 0 16 (dk_at dksX1_init_0 16 rfl rfl)
theorem dX1_init_19 : decode cX1_init 19 = .ok (.dup, 1) := dk_89 (dk_at dksX1_init_0 19 rfl rfl)
theorem dX1_init_20 : decode cX1_init 20 = .ok (.invokespecial 18, 3) := dk_183 0 18 (dk_at dksX1_init_0 20 rfl rfl)
theorem dX1_init_23 : decode cX1_init 23 = .ok (.putfield 19, 3) := dk_181 0 19 (dk_at dksX1_init_1 0 rfl rfl)
theorem dX1_init_26 : decode cX1_init 26 = .ok (.aload_n 0, 1) := dk_42 (dk_at dksX1_init_1 3 rfl rfl)
theorem dX1_init_27 : decode cX1_init 27 = .ok (.new 16, 3) := dk_187 0 16 (dk_at dksX1_init_1 4 rfl rfl)
theorem dX1_init_30 : decode cX1_init 30 = .ok (.dup, 1) := dk_89 (dk_at dksX1_init_1 7 rfl rfl)
theorem dX1_init_31 : decode cX1_init 31 = .ok (.invokespecial 18, 3) := dk_183 0 18 (dk_at dksX1_init_1 8 rfl rfl)
theorem dX1_init_34 : decode cX1_init 34 = .ok (.putfield 23, 3) := dk_181 0 23 (dk_at dksX1_init_1 11 rfl rfl)
theorem dX1_init_37 : decode cX1_init 37 = .ok (.aload_n 0, 1) := dk_42 (dk_at dksX1_init_1 14 rfl rfl)
theorem dX1_init_38 : decode cX1_init 38 = .ok (.aload_n 0, 1) := dk_42 (dk_at dksX1_init_1 15 rfl rfl)
theorem dX1_init_39 : decode cX1_init 39 = .ok (.getfield 19, 3) := dk_180 0 19 (dk_at dksX1_init_1 16 rfl rfl)
theorem dX1_init_42 : decode cX1_init 42 = .ok (.getfield 26, 3) := dk_180 0 26 (dk_at dksX1_init_1 19 rfl rfl)
theorem dX1_init_45 : decode cX1_init 45 = .ok (.putfield 30, 3) := dk_181 0 30 (dk_at dksX1_init_2 0 rfl rfl)
theorem dX1_init_48 : decode cX1_init 48 = .ok (.aload_n 0, 1) := dk_42 (dk_at dksX1_init_2 3 rfl rfl)
theorem dX1_init_49 : decode cX1_init 49 = .ok (.new 31, 3) := dk_187 0 31 (dk_at dksX1_init_2 4 rfl rfl)
theorem dX1_init_52 : decode cX1_init 52 = .ok (.dup, 1) := dk_89 (dk_at dksX1_init_2 7 rfl rfl)
theorem dX1_init_53 : decode cX1_init 53 = .ok (.invokespecial 33, 3) := dk_183 0 33 (dk_at dksX1_init_2 8 rfl rfl)
theorem dX1_init_56 : decode cX1_init 56 = .ok (.putfield 34, 3) := dk_181 0 34 (dk_at dksX1_init_2 11 rfl rfl)
theorem dX1_init_59 : decode cX1_init 59 = .ok (.aload_n 0, 1) := dk_42 (dk_at dksX1_init_2 14 rfl rfl)
theorem dX1_init_60 : decode cX1_init 60 = .ok (.sipush 1200, 3) := dk_17 4 176 (dk_at dksX1_init_2 15 rfl rfl)
theorem dX1_init_63 : decode cX1_init 63 = .ok (.newarray .int, 2) := dk_188_10 (dk_at dksX1_init_2 18 rfl rfl)
theorem dX1_init_65 : decode cX1_init 65 = .ok (.putfield 37, 3) := dk_181 0 37 (dk_at dksX1_init_2 20 rfl rfl)
theorem dX1_init_68 : decode cX1_init 68 = .ok (.aload_n 0, 1) := dk_42 (dk_at dksX1_init_2 23 rfl rfl)
theorem dX1_init_69 : decode cX1_init 69 = .ok (.sipush 1200, 3) := dk_17 4 176 (dk_at dksX1_init_3 0 rfl rfl)
theorem dX1_init_72 : decode cX1_init 72 = .ok (.newarray .int, 2) := dk_188_10 (dk_at dksX1_init_3 3 rfl rfl)
theorem dX1_init_74 : decode cX1_init 74 = .ok (.putfield 41, 3) := dk_181 0 41 (dk_at dksX1_init_3 5 rfl rfl)
theorem dX1_init_77 : decode cX1_init 77 = .ok (.aload_n 0, 1) := dk_42 (dk_at dksX1_init_3 8 rfl rfl)
theorem dX1_init_78 : decode cX1_init 78 = .ok (.sipush 1200, 3) := dk_17 4 176 (dk_at dksX1_init_3 9 rfl rfl)
theorem dX1_init_81 : decode cX1_init 81 = .ok (.newarray .int, 2) := dk_188_10 (dk_at dksX1_init_3 12 rfl rfl)
theorem dX1_init_83 : decode cX1_init 83 = .ok (.putfield 44, 3) := dk_181 0 44 (dk_at dksX1_init_3 14 rfl rfl)
theorem dX1_init_86 : decode cX1_init 86 = .ok (.aload_n 0, 1) := dk_42 (dk_at dksX1_init_3 17 rfl rfl)
theorem dX1_init_87 : decode cX1_init 87 = .ok (.sipush 1200, 3) := dk_17 4 176 (dk_at dksX1_init_3 18 rfl rfl)
theorem dX1_init_90 : decode cX1_init 90 = .ok (.newarray .int, 2) := dk_188_10 (dk_at dksX1_init_3 21 rfl rfl)
theorem dX1_init_92 : decode cX1_init 92 = .ok (.putfield 47, 3) := dk_181 0 47 (dk_at dksX1_init_4 0 rfl rfl)
theorem dX1_init_95 : decode cX1_init 95 = .ok (.aload_n 0, 1) := dk_42 (dk_at dksX1_init_4 3 rfl rfl)
theorem dX1_init_96 : decode cX1_init 96 = .ok (.iconst 0, 1) := dk_3 (dk_at dksX1_init_4 4 rfl rfl)
theorem dX1_init_97 : decode cX1_init 97 = .ok (.newarray .int, 2) := dk_188_10 (dk_at dksX1_init_4 5 rfl rfl)
theorem dX1_init_99 : decode cX1_init 99 = .ok (.putfield 50, 3) := dk_181 0 50 (dk_at dksX1_init_4 7 rfl rfl)
theorem dX1_init_102 : decode cX1_init 102 = .ok (.aload_n 0, 1) := dk_42 (dk_at dksX1_init_4 10 rfl rfl)
theorem dX1_init_103 : decode cX1_init 103 = .ok (.new 53, 3) := dk_187 0 53 (dk_at dksX1_init_4 11 rfl rfl)
theorem dX1_init_106 : decode cX1_init 106 = .ok (.dup, 1) := dk_89 (dk_at dksX1_init_4 14 rfl rfl)
theorem dX1_init_107 : decode cX1_init 107 = .ok (.aload_n 0, 1) := dk_42 (dk_at dksX1_init_4 15 rfl rfl)
theorem dX1_init_108 : decode cX1_init 108 = .ok (.getfield 10, 3) := dk_180 0 10 (dk_at dksX1_init_4 16 rfl rfl)
theorem dX1_init_111 : decode cX1_init 111 = .ok (.aload_n 0, 1) := dk_42 (dk_at dksX1_init_4 19 rfl rfl)
theorem dX1_init_112 : decode cX1_init 112 = .ok (.getfield 30, 3) := dk_180 0 30 (dk_at dksX1_init_4 20 rfl rfl)
theorem dX1_init_115 : decode cX1_init 115 = .ok (.aload_n 0, 1) := dk_42 (dk_at dksX1_init_4 23 rfl rfl)
theorem dX1_init_116 : decode cX1_init 116 = .ok (.getfield 37, 3) := dk_180 0 37 (dk_at dksX1_init_5 0 rfl rfl)
theorem dX1_init_119 : decode cX1_init 119 = .ok (.aload_n 0, 1) := dk_42 (dk_at dksX1_init_5 3 rfl rfl)
theorem dX1_init_120 : decode cX1_init 120 = .ok (.getfield 41, 3) := dk_180 0 41 (dk_at dksX1_init_5 4 rfl rfl)
theorem dX1_init_123 : decode cX1_init 123 = .ok (.aload_n 0, 1) := dk_42 (dk_at dksX1_init_5 7 rfl rfl)
theorem dX1_init_124 : decode cX1_init 124 = .ok (.getfield 44, 3) := dk_180 0 44 (dk_at dksX1_init_5 8 rfl rfl)
theorem dX1_init_127 : decode cX1_init 127 = .ok (.aload_n 0, 1) := dk_42 (dk_at dksX1_init_5 11 rfl rfl)
theorem dX1_init_128 : decode cX1_init 128 = .ok (.getfield 47, 3) := dk_180 0 47 (dk_at dksX1_init_5 12 rfl rfl)
theorem dX1_init_131 : decode cX1_init 131 = .ok (.invokespecial 55, 3) := dk_183 0 55 (dk_at dksX1_init_5 15 rfl rfl)
theorem dX1_init_134 : decode cX1_init 134 = .ok (.putfield 58, 3) := dk_181 0 58 (dk_at dksX1_init_5 18 rfl rfl)
theorem dX1_init_137 : decode cX1_init 137 = .ok (.aload_n 0, 1) := dk_42 (dk_at dksX1_init_5 21 rfl rfl)
theorem dX1_init_138 : decode cX1_init 138 = .ok (.new 53, 3) := dk_187 0 53 (dk_at dksX1_init_6 0 rfl rfl)
theorem dX1_init_141 : decode cX1_init 141 = .ok (.dup, 1) := dk_89 (dk_at dksX1_init_6 3 rfl rfl)
theorem dX1_init_142 : decode cX1_init 142 = .ok (.aload_n 0, 1) := dk_42 (dk_at dksX1_init_6 4 rfl rfl)
theorem dX1_init_143 : decode cX1_init 143 = .ok (.getfield 10, 3) := dk_180 0 10 (dk_at dksX1_init_6 5 rfl rfl)
theorem dX1_init_146 : decode cX1_init 146 = .ok (.aload_n 0, 1) := dk_42 (dk_at dksX1_init_6 8 rfl rfl)
theorem dX1_init_147 : decode cX1_init 147 = .ok (.getfield 34, 3) := dk_180 0 34 (dk_at dksX1_init_6 9 rfl rfl)
theorem dX1_init_150 : decode cX1_init 150 = .ok (.aload_n 0, 1) := dk_42 (dk_at dksX1_init_6 12 rfl rfl)
theorem dX1_init_151 : decode cX1_init 151 = .ok (.getfield 50, 3) := dk_180 0 50 (dk_at dksX1_init_6 13 rfl rfl)
theorem dX1_init_154 : decode cX1_init 154 = .ok (.aload_n 0, 1) := dk_42 (dk_at dksX1_init_6 16 rfl rfl)
theorem dX1_init_155 : decode cX1_init 155 = .ok (.getfield 50, 3) := dk_180 0 50 (dk_at dksX1_init_6 17 rfl rfl)
theorem dX1_init_158 : decode cX1_init 158 = .ok (.aload_n 0, 1) := dk_42 (dk_at dksX1_init_6 20 rfl rfl)
theorem dX1_init_159 : decode cX1_init 159 = .ok (.getfield 50, 3) := dk_180 0 50 (dk_at dksX1_init_6 21 rfl rfl)
theorem dX1_init_162 : decode cX1_init 162 = .ok (.aload_n 0, 1) := dk_42 (dk_at dksX1_init_7 0 rfl rfl)
theorem dX1_init_163 : decode cX1_init 163 = .ok (.getfield 50, 3) := dk_180 0 50 (dk_at dksX1_init_7 1 rfl rfl)
theorem dX1_init_166 : decode cX1_init 166 = .ok (.invokespecial 55, 3) := dk_183 0 55 (dk_at dksX1_init_7 4 rfl rfl)
theorem dX1_init_169 : decode cX1_init 169 = .ok (.putfield 62, 3) := dk_181 0 62 (dk_at dksX1_init_7 7 rfl rfl)
theorem dX1_init_172 : decode cX1_init 172 = .ok (.aload_n 0, 1) := dk_42 (dk_at dksX1_init_7 10 rfl rfl)
theorem dX1_init_173 : decode cX1_init 173 = .ok (.sipush 600, 3) := dk_17 2 88 (dk_at dksX1_init_7 11 rfl rfl)
theorem dX1_init_176 : decode cX1_init 176 = .ok (.newarray .byte, 2) := dk_188_8 (dk_at dksX1_init_7 14 rfl rfl)
theorem dX1_init_178 : decode cX1_init 178 = .ok (.putfield 65, 3) := dk_181 0 65 (dk_at dksX1_init_7 16 rfl rfl)
theorem dX1_init_181 : decode cX1_init 181 = .ok (.aload_n 0, 1) := dk_42 (dk_at dksX1_init_7 19 rfl rfl)
theorem dX1_init_182 : decode cX1_init 182 = .ok (.iconst (-1), 1) := dk_2 (dk_at dksX1_init_7 20 rfl rfl)
theorem dX1_init_183 : decode cX1_init 183 = .ok (.putfield 69, 3) := dk_181 0 69 (dk_at dksX1_init_7 21 rfl rfl)
theorem dX1_init_186 : decode cX1_init 186 = .ok (.aload_n 0, 1) := dk_42 (dk_at dksX1_init_8 0 rfl rfl)
theorem dX1_init_187 : decode cX1_init 187 = .ok (.bipush 7, 2) := dk_16 7 (dk_at dksX1_init_8 1 rfl rfl)
theorem dX1_init_189 : decode cX1_init 189 = .ok (.newarray .int, 2) := dk_188_10 (dk_at dksX1_init_8 3 rfl rfl)
theorem dX1_init_191 : decode cX1_init 191 = .ok (.putfield 73, 3) := dk_181 0 73 (dk_at dksX1_init_8 5 rfl rfl)
theorem dX1_init_194 : decode cX1_init 194 = .ok (.aload_n 0, 1) := dk_42 (dk_at dksX1_init_8 8 rfl rfl)
theorem dX1_init_195 : decode cX1_init 195 = .ok (.bipush 7, 2) := dk_16 7 (dk_at dksX1_init_8 9 rfl rfl)
theorem dX1_init_197 : decode cX1_init 197 = .ok (.newarray .int, 2) := dk_188_10 (dk_at dksX1_init_8 11 rfl rfl)
theorem dX1_init_199 : decode cX1_init 199 = .ok (.putfield 76, 3) := dk_181 0 76 (dk_at dksX1_init_8 13 rfl rfl)
theorem dX1_init_202 : decode cX1_init 202 = .ok (.aload_n 0, 1) := dk_42 (dk_at dksX1_init_8 16 rfl rfl)
theorem dX1_init_203 : decode cX1_init 203 = .ok (.bipush 7, 2) := dk_16 7 (dk_at dksX1_init_8 17 rfl rfl)
theorem dX1_init_205 : decode cX1_init 205 = .ok (.newarray .int, 2) := dk_188_10 (dk_at dksX1_init_8 19 rfl rfl)
theorem dX1_init_207 : decode cX1_init 207 = .ok (.putfield 79, 3) := dk_181 0 79 (dk_at dksX1_init_8 21 rfl rfl)
theorem dX1_init_210 : decode cX1_init 210 = .ok (.aload_n 0, 1) := dk_42 (dk_at dksX1_init_9 0 rfl rfl)
theorem dX1_init_211 : decode cX1_init 211 = .ok (.getfield 30, 3) := dk_180 0 30 (dk_at dksX1_init_9 1 rfl rfl)
theorem dX1_init_214 : decode cX1_init 214 = .ok (.aload_n 0, 1) := dk_42 (dk_at dksX1_init_9 4 rfl rfl)
theorem dX1_init_215 : decode cX1_init 215 = .ok (.getfield 10, 3) := dk_180 0 10 (dk_at dksX1_init_9 5 rfl rfl)
theorem dX1_init_218 : decode cX1_init 218 = .ok (.invokevirtual 82, 3) := dk_182 0 82 (dk_at dksX1_init_9 8 rfl rfl)
theorem dX1_init_221 : decode cX1_init 221 = .ok (.return_, 1) := dk_177 (dk_at dksX1_init_9 11 rfl rfl)
abbrev cX1_feed : ByteArray := prog_1_method_7_code
def yX1_feed : MethodName := ⟨RX1, "feed", "(IIIII)I"⟩
def dkwX1_feed_2 : List UInt8 := [172]
abbrev dktX1_feed_2 : List UInt8 := dkwX1_feed_2 ++ []
def dkwX1_feed_1 : List UInt8 := [182, 0, 117, 42, 29, 182, 0, 117, 42, 21, 4, 182, 0, 117, 42, 21, 5, 182, 0, 117, 42, 180, 0, 114]
abbrev dktX1_feed_1 : List UInt8 := dkwX1_feed_1 ++ dktX1_feed_2
def dkwX1_feed_0 : List UInt8 := [42, 180, 0, 114, 16, 20, 96, 17, 2, 88, 164, 0, 5, 2, 172, 42, 27, 182, 0, 117, 42, 28]
abbrev dktX1_feed_0 : List UInt8 := dkwX1_feed_0 ++ dktX1_feed_1
theorem dksX1_feed_0 : cX1_feed.data.toList.drop 0 = dktX1_feed_0 := by decide +kernel
theorem dksX1_feed_1 : cX1_feed.data.toList.drop 22 = dktX1_feed_1 := dk_seg dksX1_feed_0 22 rfl rfl
theorem dksX1_feed_2 : cX1_feed.data.toList.drop 46 = dktX1_feed_2 := dk_seg dksX1_feed_1 24 rfl rfl
theorem dX1_feed_0 : decode cX1_feed 0 = .ok (.aload_n 0, 1) := dk_42 (dk_at dksX1_feed_0 0 rfl rfl)
theorem dX1_feed_1 : decode cX1_feed 1 = .ok (.getfield 114, 3) := dk_180 0 114 (dk_at dksX1_feed_0 1 rfl rfl)
theorem dX1_feed_4 : decode cX1_feed 4 = .ok (.bipush 20, 2) := dk_16 20 (dk_at dksX1_feed_0 4 rfl rfl)
theorem dX1_feed_6 : decode cX1_feed 6 = .ok (.iadd, 1) := dk_96 (dk_at dksX1_feed_0 6 rfl rfl)
theorem dX1_feed_7 : decode cX1_feed 7 = .ok (.sipush 600, 3) := dk_17 2 88 (dk_at dksX1_feed_0 7 rfl rfl)
theorem dX1_feed_10 : decode cX1_feed 10 = .ok (.if_icmp .le 5, 3) := dk_164 0 5 (dk_at dksX1_feed_0 10 rfl rfl)
theorem dX1_feed_13 : decode cX1_feed 13 = .ok (.iconst (-1), 1) := dk_2 (dk_at dksX1_feed_0 13 rfl rfl)
theorem dX1_feed_14 : decode cX1_feed 14 = .ok (.ireturn, 1) := dk_172 (dk_at dksX1_feed_0 14 rfl rfl)
theorem dX1_feed_15 : decode cX1_feed 15 = .ok (.aload_n 0, 1) := dk_42 (dk_at dksX1_feed_0 15 rfl rfl)
theorem dX1_feed_16 : decode cX1_feed 16 = .ok (.iload_n 1, 1) := dk_27 (dk_at dksX1_feed_0 16 rfl rfl)
theorem dX1_feed_17 : decode cX1_feed 17 = .ok (.invokevirtual 117, 3) := dk_182 0 117 (dk_at dksX1_feed_0 17 rfl rfl)
theorem dX1_feed_20 : decode cX1_feed 20 = .ok (.aload_n 0, 1) := dk_42 (dk_at dksX1_feed_0 20 rfl rfl)
theorem dX1_feed_21 : decode cX1_feed 21 = .ok (.iload_n 2, 1) := dk_28 (dk_at dksX1_feed_0 21 rfl rfl)
theorem dX1_feed_22 : decode cX1_feed 22 = .ok (.invokevirtual 117, 3) := dk_182 0 117 (dk_at dksX1_feed_1 0 rfl rfl)
theorem dX1_feed_25 : decode cX1_feed 25 = .ok (.aload_n 0, 1) := dk_42 (dk_at dksX1_feed_1 3 rfl rfl)
theorem dX1_feed_26 : decode cX1_feed 26 = .ok (.iload_n 3, 1) := dk_29 (dk_at dksX1_feed_1 4 rfl rfl)
theorem dX1_feed_27 : decode cX1_feed 27 = .ok (.invokevirtual 117, 3) := dk_182 0 117 (dk_at dksX1_feed_1 5 rfl rfl)
theorem dX1_feed_30 : decode cX1_feed 30 = .ok (.aload_n 0, 1) := dk_42 (dk_at dksX1_feed_1 8 rfl rfl)
theorem dX1_feed_31 : decode cX1_feed 31 = .ok (.iload 4, 2) := dk_21 4 (dk_at dksX1_feed_1 9 rfl rfl)
theorem dX1_feed_33 : decode cX1_feed 33 = .ok (.invokevirtual 117, 3) := dk_182 0 117 (dk_at dksX1_feed_1 11 rfl rfl)
theorem dX1_feed_36 : decode cX1_feed 36 = .ok (.aload_n 0, 1) := dk_42 (dk_at dksX1_feed_1 14 rfl rfl)
theorem dX1_feed_37 : decode cX1_feed 37 = .ok (.iload 5, 2) := dk_21 5 (dk_at dksX1_feed_1 15 rfl rfl)
theorem dX1_feed_39 : decode cX1_feed 39 = .ok (.invokevirtual 117, 3) := dk_182 0 117 (dk_at dksX1_feed_1 17 rfl rfl)
theorem dX1_feed_42 : decode cX1_feed 42 = .ok (.aload_n 0, 1) := dk_42 (dk_at dksX1_feed_1 20 rfl rfl)
theorem dX1_feed_43 : decode cX1_feed 43 = .ok (.getfield 114, 3) := dk_180 0 114 (dk_at dksX1_feed_1 21 rfl rfl)
theorem dX1_feed_46 : decode cX1_feed 46 = .ok (.ireturn, 1) := dk_172 (dk_at dksX1_feed_2 0 rfl rfl)
abbrev cX1_lay : ByteArray := prog_1_method_8_code
def yX1_lay : MethodName := ⟨RX1, "lay", "(I)V"⟩
def dkwX1_lay_1 : List UInt8 := [180, 0, 114, 4, 96, 181, 0, 114, 132, 2, 248, 167, 255, 226, 177]
abbrev dktX1_lay_1 : List UInt8 := dkwX1_lay_1 ++ []
def dkwX1_lay_0 : List UInt8 := [16, 24, 61, 28, 155, 0, 32, 42, 180, 0, 65, 42, 180, 0, 114, 27, 28, 122, 145, 84, 42, 89]
abbrev dktX1_lay_0 : List UInt8 := dkwX1_lay_0 ++ dktX1_lay_1
theorem dksX1_lay_0 : cX1_lay.data.toList.drop 0 = dktX1_lay_0 := by decide +kernel
theorem dksX1_lay_1 : cX1_lay.data.toList.drop 22 = dktX1_lay_1 := dk_seg dksX1_lay_0 22 rfl rfl
theorem dX1_lay_0 : decode cX1_lay 0 = .ok (.bipush 24, 2) := dk_16 24 (dk_at dksX1_lay_0 0 rfl rfl)
theorem dX1_lay_2 : decode cX1_lay 2 = .ok (.istore_n 2, 1) := dk_61 (dk_at dksX1_lay_0 2 rfl rfl)
theorem dX1_lay_3 : decode cX1_lay 3 = .ok (.iload_n 2, 1) := dk_28 (dk_at dksX1_lay_0 3 rfl rfl)
theorem dX1_lay_4 : decode cX1_lay 4 = .ok (.ifCond .lt 32, 3) := dk_155 0 32 (dk_at dksX1_lay_0 4 rfl rfl)
theorem dX1_lay_7 : decode cX1_lay 7 = .ok (.aload_n 0, 1) := dk_42 (dk_at dksX1_lay_0 7 rfl rfl)
theorem dX1_lay_8 : decode cX1_lay 8 = .ok (.getfield 65, 3) := dk_180 0 65 (dk_at dksX1_lay_0 8 rfl rfl)
theorem dX1_lay_11 : decode cX1_lay 11 = .ok (.aload_n 0, 1) := dk_42 (dk_at dksX1_lay_0 11 rfl rfl)
theorem dX1_lay_12 : decode cX1_lay 12 = .ok (.getfield 114, 3) := dk_180 0 114 (dk_at dksX1_lay_0 12 rfl rfl)
theorem dX1_lay_15 : decode cX1_lay 15 = .ok (.iload_n 1, 1) := dk_27 (dk_at dksX1_lay_0 15 rfl rfl)
theorem dX1_lay_16 : decode cX1_lay 16 = .ok (.iload_n 2, 1) := dk_28 (dk_at dksX1_lay_0 16 rfl rfl)
theorem dX1_lay_17 : decode cX1_lay 17 = .ok (.ishr, 1) := dk_122 (dk_at dksX1_lay_0 17 rfl rfl)
theorem dX1_lay_18 : decode cX1_lay 18 = .ok (.i2b, 1) := dk_145 (dk_at dksX1_lay_0 18 rfl rfl)
theorem dX1_lay_19 : decode cX1_lay 19 = .ok (.bastore, 1) := dk_84 (dk_at dksX1_lay_0 19 rfl rfl)
theorem dX1_lay_20 : decode cX1_lay 20 = .ok (.aload_n 0, 1) := dk_42 (dk_at dksX1_lay_0 20 rfl rfl)
theorem dX1_lay_21 : decode cX1_lay 21 = .ok (.dup, 1) := dk_89 (dk_at dksX1_lay_0 21 rfl rfl)
theorem dX1_lay_22 : decode cX1_lay 22 = .ok (.getfield 114, 3) := dk_180 0 114 (dk_at dksX1_lay_1 0 rfl rfl)
theorem dX1_lay_25 : decode cX1_lay 25 = .ok (.iconst 1, 1) := dk_4 (dk_at dksX1_lay_1 3 rfl rfl)
theorem dX1_lay_26 : decode cX1_lay 26 = .ok (.iadd, 1) := dk_96 (dk_at dksX1_lay_1 4 rfl rfl)
theorem dX1_lay_27 : decode cX1_lay 27 = .ok (.putfield 114, 3) := dk_181 0 114 (dk_at dksX1_lay_1 5 rfl rfl)
theorem dX1_lay_30 : decode cX1_lay 30 = .ok (.iinc 2 (-8), 3) := dk_132 2 248 (dk_at dksX1_lay_1 8 rfl rfl)
theorem dX1_lay_33 : decode cX1_lay 33 = .ok (.goto (-30), 3) := dk_167 255 226 (dk_at dksX1_lay_1 11 rfl rfl)
theorem dX1_lay_36 : decode cX1_lay 36 = .ok (.return_, 1) := dk_177 (dk_at dksX1_lay_1 14 rfl rfl)
abbrev cX1_fault : ByteArray := prog_1_method_10_code
def yX1_fault : MethodName := ⟨RX1, "fault", "()I"⟩
theorem dX1_fault_0 : decode cX1_fault 0 = .ok (.aload_n 0, 1) := by decide +kernel
theorem dX1_fault_1 : decode cX1_fault 1 = .ok (.getfield 69, 3) := by decide +kernel
theorem dX1_fault_4 : decode cX1_fault 4 = .ok (.ireturn, 1) := by decide +kernel
abbrev cX1_swap : ByteArray := prog_1_method_15_code
def yX1_swap : MethodName := ⟨RX1, "swap", "(II)Z"⟩
def dkwX1_swap_1 : List UInt8 := [182, 0, 224, 87, 3, 172, 42, 180, 0, 19, 182, 0, 227, 42, 180, 0, 30, 27, 28, 182, 0, 230, 4, 172]
abbrev dktX1_swap_1 : List UInt8 := dkwX1_swap_1 ++ []
def dkwX1_swap_0 : List UInt8 := [42, 27, 182, 0, 220, 153, 0, 16, 42, 28, 182, 0, 220, 153, 0, 8, 27, 28, 160, 0, 11, 42, 4]
abbrev dktX1_swap_0 : List UInt8 := dkwX1_swap_0 ++ dktX1_swap_1
theorem dksX1_swap_0 : cX1_swap.data.toList.drop 0 = dktX1_swap_0 := by decide +kernel
theorem dksX1_swap_1 : cX1_swap.data.toList.drop 23 = dktX1_swap_1 := dk_seg dksX1_swap_0 23 rfl rfl
theorem dX1_swap_0 : decode cX1_swap 0 = .ok (.aload_n 0, 1) := dk_42 (dk_at dksX1_swap_0 0 rfl rfl)
theorem dX1_swap_1 : decode cX1_swap 1 = .ok (.iload_n 1, 1) := dk_27 (dk_at dksX1_swap_0 1 rfl rfl)
theorem dX1_swap_2 : decode cX1_swap 2 = .ok (.invokevirtual 220, 3) := dk_182 0 220 (dk_at dksX1_swap_0 2 rfl rfl)
theorem dX1_swap_5 : decode cX1_swap 5 = .ok (.ifCond .eq 16, 3) := dk_153 0 16 (dk_at dksX1_swap_0 5 rfl rfl)
theorem dX1_swap_8 : decode cX1_swap 8 = .ok (.aload_n 0, 1) := dk_42 (dk_at dksX1_swap_0 8 rfl rfl)
theorem dX1_swap_9 : decode cX1_swap 9 = .ok (.iload_n 2, 1) := dk_28 (dk_at dksX1_swap_0 9 rfl rfl)
theorem dX1_swap_10 : decode cX1_swap 10 = .ok (.invokevirtual 220, 3) := dk_182 0 220 (dk_at dksX1_swap_0 10 rfl rfl)
theorem dX1_swap_13 : decode cX1_swap 13 = .ok (.ifCond .eq 8, 3) := dk_153 0 8 (dk_at dksX1_swap_0 13 rfl rfl)
theorem dX1_swap_16 : decode cX1_swap 16 = .ok (.iload_n 1, 1) := dk_27 (dk_at dksX1_swap_0 16 rfl rfl)
theorem dX1_swap_17 : decode cX1_swap 17 = .ok (.iload_n 2, 1) := dk_28 (dk_at dksX1_swap_0 17 rfl rfl)
theorem dX1_swap_18 : decode cX1_swap 18 = .ok (.if_icmp .ne 11, 3) := dk_160 0 11 (dk_at dksX1_swap_0 18 rfl rfl)
theorem dX1_swap_21 : decode cX1_swap 21 = .ok (.aload_n 0, 1) := dk_42 (dk_at dksX1_swap_0 21 rfl rfl)
theorem dX1_swap_22 : decode cX1_swap 22 = .ok (.iconst 1, 1) := dk_4 (dk_at dksX1_swap_0 22 rfl rfl)
theorem dX1_swap_23 : decode cX1_swap 23 = .ok (.invokevirtual 224, 3) := dk_182 0 224 (dk_at dksX1_swap_1 0 rfl rfl)
theorem dX1_swap_26 : decode cX1_swap 26 = .ok (.pop, 1) := dk_87 (dk_at dksX1_swap_1 3 rfl rfl)
theorem dX1_swap_27 : decode cX1_swap 27 = .ok (.iconst 0, 1) := dk_3 (dk_at dksX1_swap_1 4 rfl rfl)
theorem dX1_swap_28 : decode cX1_swap 28 = .ok (.ireturn, 1) := dk_172 (dk_at dksX1_swap_1 5 rfl rfl)
theorem dX1_swap_29 : decode cX1_swap 29 = .ok (.aload_n 0, 1) := dk_42 (dk_at dksX1_swap_1 6 rfl rfl)
theorem dX1_swap_30 : decode cX1_swap 30 = .ok (.getfield 19, 3) := dk_180 0 19 (dk_at dksX1_swap_1 7 rfl rfl)
theorem dX1_swap_33 : decode cX1_swap 33 = .ok (.invokevirtual 227, 3) := dk_182 0 227 (dk_at dksX1_swap_1 10 rfl rfl)
theorem dX1_swap_36 : decode cX1_swap 36 = .ok (.aload_n 0, 1) := dk_42 (dk_at dksX1_swap_1 13 rfl rfl)
theorem dX1_swap_37 : decode cX1_swap 37 = .ok (.getfield 30, 3) := dk_180 0 30 (dk_at dksX1_swap_1 14 rfl rfl)
theorem dX1_swap_40 : decode cX1_swap 40 = .ok (.iload_n 1, 1) := dk_27 (dk_at dksX1_swap_1 17 rfl rfl)
theorem dX1_swap_41 : decode cX1_swap 41 = .ok (.iload_n 2, 1) := dk_28 (dk_at dksX1_swap_1 18 rfl rfl)
theorem dX1_swap_42 : decode cX1_swap 42 = .ok (.invokevirtual 230, 3) := dk_182 0 230 (dk_at dksX1_swap_1 19 rfl rfl)
theorem dX1_swap_45 : decode cX1_swap 45 = .ok (.iconst 1, 1) := dk_4 (dk_at dksX1_swap_1 22 rfl rfl)
theorem dX1_swap_46 : decode cX1_swap 46 = .ok (.ireturn, 1) := dk_172 (dk_at dksX1_swap_1 23 rfl rfl)
abbrev cX1_isPlace : ByteArray := prog_1_method_14_code
def yX1_isPlace : MethodName := ⟨RX1, "isPlace", "(I)Z"⟩
def dkwX1_isPlace_0 : List UInt8 := [27, 155, 0, 15, 27, 42, 182, 0, 102, 162, 0, 7, 4, 167, 0, 4, 3, 172]
abbrev dktX1_isPlace_0 : List UInt8 := dkwX1_isPlace_0 ++ []
theorem dksX1_isPlace_0 : cX1_isPlace.data.toList.drop 0 = dktX1_isPlace_0 := by decide +kernel
theorem dX1_isPlace_0 : decode cX1_isPlace 0 = .ok (.iload_n 1, 1) := dk_27 (dk_at dksX1_isPlace_0 0 rfl rfl)
theorem dX1_isPlace_1 : decode cX1_isPlace 1 = .ok (.ifCond .lt 15, 3) := dk_155 0 15 (dk_at dksX1_isPlace_0 1 rfl rfl)
theorem dX1_isPlace_4 : decode cX1_isPlace 4 = .ok (.iload_n 1, 1) := dk_27 (dk_at dksX1_isPlace_0 4 rfl rfl)
theorem dX1_isPlace_5 : decode cX1_isPlace 5 = .ok (.aload_n 0, 1) := dk_42 (dk_at dksX1_isPlace_0 5 rfl rfl)
theorem dX1_isPlace_6 : decode cX1_isPlace 6 = .ok (.invokevirtual 102, 3) := dk_182 0 102 (dk_at dksX1_isPlace_0 6 rfl rfl)
theorem dX1_isPlace_9 : decode cX1_isPlace 9 = .ok (.if_icmp .ge 7, 3) := dk_162 0 7 (dk_at dksX1_isPlace_0 9 rfl rfl)
theorem dX1_isPlace_12 : decode cX1_isPlace 12 = .ok (.iconst 1, 1) := dk_4 (dk_at dksX1_isPlace_0 12 rfl rfl)
theorem dX1_isPlace_13 : decode cX1_isPlace 13 = .ok (.goto 4, 3) := dk_167 0 4 (dk_at dksX1_isPlace_0 13 rfl rfl)
theorem dX1_isPlace_16 : decode cX1_isPlace 16 = .ok (.iconst 0, 1) := dk_3 (dk_at dksX1_isPlace_0 16 rfl rfl)
theorem dX1_isPlace_17 : decode cX1_isPlace 17 = .ok (.ireturn, 1) := dk_172 (dk_at dksX1_isPlace_0 17 rfl rfl)
abbrev cX1_sleepers : ByteArray := prog_1_method_5_code
def yX1_sleepers : MethodName := ⟨RX1, "sleepers", "()I"⟩
def dkwX1_sleepers_0 : List UInt8 := [42, 180, 0, 10, 180, 0, 92, 182, 0, 96, 172]
abbrev dktX1_sleepers_0 : List UInt8 := dkwX1_sleepers_0 ++ []
theorem dksX1_sleepers_0 : cX1_sleepers.data.toList.drop 0 = dktX1_sleepers_0 := by decide +kernel
theorem dX1_sleepers_0 : decode cX1_sleepers 0 = .ok (.aload_n 0, 1) := dk_42 (dk_at dksX1_sleepers_0 0 rfl rfl)
theorem dX1_sleepers_1 : decode cX1_sleepers 1 = .ok (.getfield 10, 3) := dk_180 0 10 (dk_at dksX1_sleepers_0 1 rfl rfl)
theorem dX1_sleepers_4 : decode cX1_sleepers 4 = .ok (.getfield 92, 3) := dk_180 0 92 (dk_at dksX1_sleepers_0 4 rfl rfl)
theorem dX1_sleepers_7 : decode cX1_sleepers 7 = .ok (.invokevirtual 96, 3) := dk_182 0 96 (dk_at dksX1_sleepers_0 7 rfl rfl)
theorem dX1_sleepers_10 : decode cX1_sleepers 10 = .ok (.ireturn, 1) := dk_172 (dk_at dksX1_sleepers_0 10 rfl rfl)
abbrev cX1_refuses : ByteArray := prog_1_method_13_code
def yX1_refuses : MethodName := ⟨RX1, "refuses", "(I)I"⟩
def dkwX1_refuses_0 : List UInt8 := [42, 180, 0, 19, 180, 0, 137, 27, 92, 46, 4, 96, 79, 2, 172]
abbrev dktX1_refuses_0 : List UInt8 := dkwX1_refuses_0 ++ []
theorem dksX1_refuses_0 : cX1_refuses.data.toList.drop 0 = dktX1_refuses_0 := by decide +kernel
theorem dX1_refuses_0 : decode cX1_refuses 0 = .ok (.aload_n 0, 1) := dk_42 (dk_at dksX1_refuses_0 0 rfl rfl)
theorem dX1_refuses_1 : decode cX1_refuses 1 = .ok (.getfield 19, 3) := dk_180 0 19 (dk_at dksX1_refuses_0 1 rfl rfl)
theorem dX1_refuses_4 : decode cX1_refuses 4 = .ok (.getfield 137, 3) := dk_180 0 137 (dk_at dksX1_refuses_0 4 rfl rfl)
theorem dX1_refuses_7 : decode cX1_refuses 7 = .ok (.iload_n 1, 1) := dk_27 (dk_at dksX1_refuses_0 7 rfl rfl)
theorem dX1_refuses_8 : decode cX1_refuses 8 = .ok (.dup2, 1) := dk_92 (dk_at dksX1_refuses_0 8 rfl rfl)
theorem dX1_refuses_9 : decode cX1_refuses 9 = .ok (.iaload, 1) := dk_46 (dk_at dksX1_refuses_0 9 rfl rfl)
theorem dX1_refuses_10 : decode cX1_refuses 10 = .ok (.iconst 1, 1) := dk_4 (dk_at dksX1_refuses_0 10 rfl rfl)
theorem dX1_refuses_11 : decode cX1_refuses 11 = .ok (.iadd, 1) := dk_96 (dk_at dksX1_refuses_0 11 rfl rfl)
theorem dX1_refuses_12 : decode cX1_refuses 12 = .ok (.iastore, 1) := dk_79 (dk_at dksX1_refuses_0 12 rfl rfl)
theorem dX1_refuses_13 : decode cX1_refuses 13 = .ok (.iconst (-1), 1) := dk_2 (dk_at dksX1_refuses_0 13 rfl rfl)
theorem dX1_refuses_14 : decode cX1_refuses 14 = .ok (.ireturn, 1) := dk_172 (dk_at dksX1_refuses_0 14 rfl rfl)
abbrev cX1_side : ByteArray := prog_1_method_16_code
def yX1_side : MethodName := ⟨RX1, "side", "(I)I"⟩
def dkwX1_side_1 : List UInt8 := [180, 0, 30, 180, 0, 178, 61, 42, 180, 0, 30, 27, 181, 0, 178, 28, 172]
abbrev dktX1_side_1 : List UInt8 := dkwX1_side_1 ++ []
def dkwX1_side_0 : List UInt8 := [27, 3, 4, 184, 0, 156, 154, 0, 9, 42, 4, 182, 0, 224, 172, 42, 180, 0, 19, 182, 0, 227, 42]
abbrev dktX1_side_0 : List UInt8 := dkwX1_side_0 ++ dktX1_side_1
theorem dksX1_side_0 : cX1_side.data.toList.drop 0 = dktX1_side_0 := by decide +kernel
theorem dksX1_side_1 : cX1_side.data.toList.drop 23 = dktX1_side_1 := dk_seg dksX1_side_0 23 rfl rfl
theorem dX1_side_0 : decode cX1_side 0 = .ok (.iload_n 1, 1) := dk_27 (dk_at dksX1_side_0 0 rfl rfl)
theorem dX1_side_1 : decode cX1_side 1 = .ok (.iconst 0, 1) := dk_3 (dk_at dksX1_side_0 1 rfl rfl)
theorem dX1_side_2 : decode cX1_side 2 = .ok (.iconst 1, 1) := dk_4 (dk_at dksX1_side_0 2 rfl rfl)
theorem dX1_side_3 : decode cX1_side 3 = .ok (.invokestatic 156, 3) := dk_184 0 156 (dk_at dksX1_side_0 3 rfl rfl)
theorem dX1_side_6 : decode cX1_side 6 = .ok (.ifCond .ne 9, 3) := dk_154 0 9 (dk_at dksX1_side_0 6 rfl rfl)
theorem dX1_side_9 : decode cX1_side 9 = .ok (.aload_n 0, 1) := dk_42 (dk_at dksX1_side_0 9 rfl rfl)
theorem dX1_side_10 : decode cX1_side 10 = .ok (.iconst 1, 1) := dk_4 (dk_at dksX1_side_0 10 rfl rfl)
theorem dX1_side_11 : decode cX1_side 11 = .ok (.invokevirtual 224, 3) := dk_182 0 224 (dk_at dksX1_side_0 11 rfl rfl)
theorem dX1_side_14 : decode cX1_side 14 = .ok (.ireturn, 1) := dk_172 (dk_at dksX1_side_0 14 rfl rfl)
theorem dX1_side_15 : decode cX1_side 15 = .ok (.aload_n 0, 1) := dk_42 (dk_at dksX1_side_0 15 rfl rfl)
theorem dX1_side_16 : decode cX1_side 16 = .ok (.getfield 19, 3) := dk_180 0 19 (dk_at dksX1_side_0 16 rfl rfl)
theorem dX1_side_19 : decode cX1_side 19 = .ok (.invokevirtual 227, 3) := dk_182 0 227 (dk_at dksX1_side_0 19 rfl rfl)
theorem dX1_side_22 : decode cX1_side 22 = .ok (.aload_n 0, 1) := dk_42 (dk_at dksX1_side_0 22 rfl rfl)
theorem dX1_side_23 : decode cX1_side 23 = .ok (.getfield 30, 3) := dk_180 0 30 (dk_at dksX1_side_1 0 rfl rfl)
theorem dX1_side_26 : decode cX1_side 26 = .ok (.getfield 178, 3) := dk_180 0 178 (dk_at dksX1_side_1 3 rfl rfl)
theorem dX1_side_29 : decode cX1_side 29 = .ok (.istore_n 2, 1) := dk_61 (dk_at dksX1_side_1 6 rfl rfl)
theorem dX1_side_30 : decode cX1_side 30 = .ok (.aload_n 0, 1) := dk_42 (dk_at dksX1_side_1 7 rfl rfl)
theorem dX1_side_31 : decode cX1_side 31 = .ok (.getfield 30, 3) := dk_180 0 30 (dk_at dksX1_side_1 8 rfl rfl)
theorem dX1_side_34 : decode cX1_side 34 = .ok (.iload_n 1, 1) := dk_27 (dk_at dksX1_side_1 11 rfl rfl)
theorem dX1_side_35 : decode cX1_side 35 = .ok (.putfield 178, 3) := dk_181 0 178 (dk_at dksX1_side_1 12 rfl rfl)
theorem dX1_side_38 : decode cX1_side 38 = .ok (.iload_n 2, 1) := dk_28 (dk_at dksX1_side_1 15 rfl rfl)
theorem dX1_side_39 : decode cX1_side 39 = .ok (.ireturn, 1) := dk_172 (dk_at dksX1_side_1 16 rfl rfl)
abbrev cX1_within : ByteArray := prog_1_method_4_code
def yX1_within : MethodName := ⟨RX1, "within", "(III)Z"⟩
def dkwX1_within_0 : List UInt8 := [26, 27, 161, 0, 12, 26, 28, 163, 0, 7, 4, 167, 0, 4, 3, 172]
abbrev dktX1_within_0 : List UInt8 := dkwX1_within_0 ++ []
theorem dksX1_within_0 : cX1_within.data.toList.drop 0 = dktX1_within_0 := by decide +kernel
theorem dX1_within_0 : decode cX1_within 0 = .ok (.iload_n 0, 1) := dk_26 (dk_at dksX1_within_0 0 rfl rfl)
theorem dX1_within_1 : decode cX1_within 1 = .ok (.iload_n 1, 1) := dk_27 (dk_at dksX1_within_0 1 rfl rfl)
theorem dX1_within_2 : decode cX1_within 2 = .ok (.if_icmp .lt 12, 3) := dk_161 0 12 (dk_at dksX1_within_0 2 rfl rfl)
theorem dX1_within_5 : decode cX1_within 5 = .ok (.iload_n 0, 1) := dk_26 (dk_at dksX1_within_0 5 rfl rfl)
theorem dX1_within_6 : decode cX1_within 6 = .ok (.iload_n 2, 1) := dk_28 (dk_at dksX1_within_0 6 rfl rfl)
theorem dX1_within_7 : decode cX1_within 7 = .ok (.if_icmp .gt 7, 3) := dk_163 0 7 (dk_at dksX1_within_0 7 rfl rfl)
theorem dX1_within_10 : decode cX1_within 10 = .ok (.iconst 1, 1) := dk_4 (dk_at dksX1_within_0 10 rfl rfl)
theorem dX1_within_11 : decode cX1_within 11 = .ok (.goto 4, 3) := dk_167 0 4 (dk_at dksX1_within_0 11 rfl rfl)
theorem dX1_within_14 : decode cX1_within 14 = .ok (.iconst 0, 1) := dk_3 (dk_at dksX1_within_0 14 rfl rfl)
theorem dX1_within_15 : decode cX1_within 15 = .ok (.ireturn, 1) := dk_172 (dk_at dksX1_within_0 15 rfl rfl)
abbrev cX1_bolster : ByteArray := prog_1_method_18_code
def yX1_bolster : MethodName := ⟨RX1, "bolster", "(IZ)Z"⟩
def dkwX1_bolster_2 : List UInt8 := [182, 0, 227, 42, 180, 0, 30, 89, 180, 0, 172, 4, 27, 120, 130, 181, 0, 172, 4, 172]
abbrev dktX1_bolster_2 : List UInt8 := dkwX1_bolster_2 ++ []
def dkwX1_bolster_1 : List UInt8 := [160, 0, 7, 4, 167, 0, 4, 3, 28, 160, 0, 11, 42, 4, 182, 0, 224, 87, 3, 172, 42, 180, 0, 19]
abbrev dktX1_bolster_1 : List UInt8 := dkwX1_bolster_1 ++ dktX1_bolster_2
def dkwX1_bolster_0 : List UInt8 := [27, 4, 16, 6, 184, 0, 156, 153, 0, 27, 42, 180, 0, 30, 180, 0, 172, 27, 122, 4, 126, 4]
abbrev dktX1_bolster_0 : List UInt8 := dkwX1_bolster_0 ++ dktX1_bolster_1
theorem dksX1_bolster_0 : cX1_bolster.data.toList.drop 0 = dktX1_bolster_0 := by decide +kernel
theorem dksX1_bolster_1 : cX1_bolster.data.toList.drop 22 = dktX1_bolster_1 := dk_seg dksX1_bolster_0 22 rfl rfl
theorem dksX1_bolster_2 : cX1_bolster.data.toList.drop 46 = dktX1_bolster_2 := dk_seg dksX1_bolster_1 24 rfl rfl
theorem dX1_bolster_0 : decode cX1_bolster 0 = .ok (.iload_n 1, 1) := dk_27 (dk_at dksX1_bolster_0 0 rfl rfl)
theorem dX1_bolster_1 : decode cX1_bolster 1 = .ok (.iconst 1, 1) := dk_4 (dk_at dksX1_bolster_0 1 rfl rfl)
theorem dX1_bolster_2 : decode cX1_bolster 2 = .ok (.bipush 6, 2) := dk_16 6 (dk_at dksX1_bolster_0 2 rfl rfl)
theorem dX1_bolster_4 : decode cX1_bolster 4 = .ok (.invokestatic 156, 3) := dk_184 0 156 (dk_at dksX1_bolster_0 4 rfl rfl)
theorem dX1_bolster_7 : decode cX1_bolster 7 = .ok (.ifCond .eq 27, 3) := dk_153 0 27 (dk_at dksX1_bolster_0 7 rfl rfl)
theorem dX1_bolster_10 : decode cX1_bolster 10 = .ok (.aload_n 0, 1) := dk_42 (dk_at dksX1_bolster_0 10 rfl rfl)
theorem dX1_bolster_11 : decode cX1_bolster 11 = .ok (.getfield 30, 3) := dk_180 0 30 (dk_at dksX1_bolster_0 11 rfl rfl)
theorem dX1_bolster_14 : decode cX1_bolster 14 = .ok (.getfield 172, 3) := dk_180 0 172 (dk_at dksX1_bolster_0 14 rfl rfl)
theorem dX1_bolster_17 : decode cX1_bolster 17 = .ok (.iload_n 1, 1) := dk_27 (dk_at dksX1_bolster_0 17 rfl rfl)
theorem dX1_bolster_18 : decode cX1_bolster 18 = .ok (.ishr, 1) := dk_122 (dk_at dksX1_bolster_0 18 rfl rfl)
theorem dX1_bolster_19 : decode cX1_bolster 19 = .ok (.iconst 1, 1) := dk_4 (dk_at dksX1_bolster_0 19 rfl rfl)
theorem dX1_bolster_20 : decode cX1_bolster 20 = .ok (.iand, 1) := dk_126 (dk_at dksX1_bolster_0 20 rfl rfl)
theorem dX1_bolster_21 : decode cX1_bolster 21 = .ok (.iconst 1, 1) := dk_4 (dk_at dksX1_bolster_0 21 rfl rfl)
theorem dX1_bolster_22 : decode cX1_bolster 22 = .ok (.if_icmp .ne 7, 3) := dk_160 0 7 (dk_at dksX1_bolster_1 0 rfl rfl)
theorem dX1_bolster_25 : decode cX1_bolster 25 = .ok (.iconst 1, 1) := dk_4 (dk_at dksX1_bolster_1 3 rfl rfl)
theorem dX1_bolster_26 : decode cX1_bolster 26 = .ok (.goto 4, 3) := dk_167 0 4 (dk_at dksX1_bolster_1 4 rfl rfl)
theorem dX1_bolster_29 : decode cX1_bolster 29 = .ok (.iconst 0, 1) := dk_3 (dk_at dksX1_bolster_1 7 rfl rfl)
theorem dX1_bolster_30 : decode cX1_bolster 30 = .ok (.iload_n 2, 1) := dk_28 (dk_at dksX1_bolster_1 8 rfl rfl)
theorem dX1_bolster_31 : decode cX1_bolster 31 = .ok (.if_icmp .ne 11, 3) := dk_160 0 11 (dk_at dksX1_bolster_1 9 rfl rfl)
theorem dX1_bolster_34 : decode cX1_bolster 34 = .ok (.aload_n 0, 1) := dk_42 (dk_at dksX1_bolster_1 12 rfl rfl)
theorem dX1_bolster_35 : decode cX1_bolster 35 = .ok (.iconst 1, 1) := dk_4 (dk_at dksX1_bolster_1 13 rfl rfl)
theorem dX1_bolster_36 : decode cX1_bolster 36 = .ok (.invokevirtual 224, 3) := dk_182 0 224 (dk_at dksX1_bolster_1 14 rfl rfl)
theorem dX1_bolster_39 : decode cX1_bolster 39 = .ok (.pop, 1) := dk_87 (dk_at dksX1_bolster_1 17 rfl rfl)
theorem dX1_bolster_40 : decode cX1_bolster 40 = .ok (.iconst 0, 1) := dk_3 (dk_at dksX1_bolster_1 18 rfl rfl)
theorem dX1_bolster_41 : decode cX1_bolster 41 = .ok (.ireturn, 1) := dk_172 (dk_at dksX1_bolster_1 19 rfl rfl)
theorem dX1_bolster_42 : decode cX1_bolster 42 = .ok (.aload_n 0, 1) := dk_42 (dk_at dksX1_bolster_1 20 rfl rfl)
theorem dX1_bolster_43 : decode cX1_bolster 43 = .ok (.getfield 19, 3) := dk_180 0 19 (dk_at dksX1_bolster_1 21 rfl rfl)
theorem dX1_bolster_46 : decode cX1_bolster 46 = .ok (.invokevirtual 227, 3) := dk_182 0 227 (dk_at dksX1_bolster_2 0 rfl rfl)
theorem dX1_bolster_49 : decode cX1_bolster 49 = .ok (.aload_n 0, 1) := dk_42 (dk_at dksX1_bolster_2 3 rfl rfl)
theorem dX1_bolster_50 : decode cX1_bolster 50 = .ok (.getfield 30, 3) := dk_180 0 30 (dk_at dksX1_bolster_2 4 rfl rfl)
theorem dX1_bolster_53 : decode cX1_bolster 53 = .ok (.dup, 1) := dk_89 (dk_at dksX1_bolster_2 7 rfl rfl)
theorem dX1_bolster_54 : decode cX1_bolster 54 = .ok (.getfield 172, 3) := dk_180 0 172 (dk_at dksX1_bolster_2 8 rfl rfl)
theorem dX1_bolster_57 : decode cX1_bolster 57 = .ok (.iconst 1, 1) := dk_4 (dk_at dksX1_bolster_2 11 rfl rfl)
theorem dX1_bolster_58 : decode cX1_bolster 58 = .ok (.iload_n 1, 1) := dk_27 (dk_at dksX1_bolster_2 12 rfl rfl)
theorem dX1_bolster_59 : decode cX1_bolster 59 = .ok (.ishl, 1) := dk_120 (dk_at dksX1_bolster_2 13 rfl rfl)
theorem dX1_bolster_60 : decode cX1_bolster 60 = .ok (.ixor, 1) := dk_130 (dk_at dksX1_bolster_2 14 rfl rfl)
theorem dX1_bolster_61 : decode cX1_bolster 61 = .ok (.putfield 172, 3) := dk_181 0 172 (dk_at dksX1_bolster_2 15 rfl rfl)
theorem dX1_bolster_64 : decode cX1_bolster 64 = .ok (.iconst 1, 1) := dk_4 (dk_at dksX1_bolster_2 18 rfl rfl)
theorem dX1_bolster_65 : decode cX1_bolster 65 = .ok (.ireturn, 1) := dk_172 (dk_at dksX1_bolster_2 19 rfl rfl)
abbrev cX1_undo : ByteArray := prog_1_method_20_code
def yX1_undo : MethodName := ⟨RX1, "undo", "()I"⟩
def dkwX1_undo_2 : List UInt8 := [192, 0, 31, 182, 0, 241, 42, 180, 0, 19, 180, 0, 143, 172]
abbrev dktX1_undo_2 : List UInt8 := dkwX1_undo_2 ++ []
def dkwX1_undo_1 : List UInt8 := [181, 0, 143, 42, 180, 0, 30, 42, 180, 0, 19, 180, 0, 238, 42, 180, 0, 19, 180, 0, 143, 182, 0, 108]
abbrev dktX1_undo_1 : List UInt8 := dkwX1_undo_1 ++ dktX1_undo_2
def dkwX1_undo_0 : List UInt8 := [42, 180, 0, 19, 180, 0, 143, 154, 0, 5, 2, 172, 42, 180, 0, 19, 89, 180, 0, 143, 4, 100]
abbrev dktX1_undo_0 : List UInt8 := dkwX1_undo_0 ++ dktX1_undo_1
theorem dksX1_undo_0 : cX1_undo.data.toList.drop 0 = dktX1_undo_0 := by decide +kernel
theorem dksX1_undo_1 : cX1_undo.data.toList.drop 22 = dktX1_undo_1 := dk_seg dksX1_undo_0 22 rfl rfl
theorem dksX1_undo_2 : cX1_undo.data.toList.drop 46 = dktX1_undo_2 := dk_seg dksX1_undo_1 24 rfl rfl
theorem dX1_undo_0 : decode cX1_undo 0 = .ok (.aload_n 0, 1) := dk_42 (dk_at dksX1_undo_0 0 rfl rfl)
theorem dX1_undo_1 : decode cX1_undo 1 = .ok (.getfield 19, 3) := dk_180 0 19 (dk_at dksX1_undo_0 1 rfl rfl)
theorem dX1_undo_4 : decode cX1_undo 4 = .ok (.getfield 143, 3) := dk_180 0 143 (dk_at dksX1_undo_0 4 rfl rfl)
theorem dX1_undo_7 : decode cX1_undo 7 = .ok (.ifCond .ne 5, 3) := dk_154 0 5 (dk_at dksX1_undo_0 7 rfl rfl)
theorem dX1_undo_10 : decode cX1_undo 10 = .ok (.iconst (-1), 1) := dk_2 (dk_at dksX1_undo_0 10 rfl rfl)
theorem dX1_undo_11 : decode cX1_undo 11 = .ok (.ireturn, 1) := dk_172 (dk_at dksX1_undo_0 11 rfl rfl)
theorem dX1_undo_12 : decode cX1_undo 12 = .ok (.aload_n 0, 1) := dk_42 (dk_at dksX1_undo_0 12 rfl rfl)
theorem dX1_undo_13 : decode cX1_undo 13 = .ok (.getfield 19, 3) := dk_180 0 19 (dk_at dksX1_undo_0 13 rfl rfl)
theorem dX1_undo_16 : decode cX1_undo 16 = .ok (.dup, 1) := dk_89 (dk_at dksX1_undo_0 16 rfl rfl)
theorem dX1_undo_17 : decode cX1_undo 17 = .ok (.getfield 143, 3) := dk_180 0 143 (dk_at dksX1_undo_0 17 rfl rfl)
theorem dX1_undo_20 : decode cX1_undo 20 = .ok (.iconst 1, 1) := dk_4 (dk_at dksX1_undo_0 20 rfl rfl)
theorem dX1_undo_21 : decode cX1_undo 21 = .ok (.isub, 1) := dk_100 (dk_at dksX1_undo_0 21 rfl rfl)
theorem dX1_undo_22 : decode cX1_undo 22 = .ok (.putfield 143, 3) := dk_181 0 143 (dk_at dksX1_undo_1 0 rfl rfl)
theorem dX1_undo_25 : decode cX1_undo 25 = .ok (.aload_n 0, 1) := dk_42 (dk_at dksX1_undo_1 3 rfl rfl)
theorem dX1_undo_26 : decode cX1_undo 26 = .ok (.getfield 30, 3) := dk_180 0 30 (dk_at dksX1_undo_1 4 rfl rfl)
theorem dX1_undo_29 : decode cX1_undo 29 = .ok (.aload_n 0, 1) := dk_42 (dk_at dksX1_undo_1 7 rfl rfl)
theorem dX1_undo_30 : decode cX1_undo 30 = .ok (.getfield 19, 3) := dk_180 0 19 (dk_at dksX1_undo_1 8 rfl rfl)
theorem dX1_undo_33 : decode cX1_undo 33 = .ok (.getfield 238, 3) := dk_180 0 238 (dk_at dksX1_undo_1 11 rfl rfl)
theorem dX1_undo_36 : decode cX1_undo 36 = .ok (.aload_n 0, 1) := dk_42 (dk_at dksX1_undo_1 14 rfl rfl)
theorem dX1_undo_37 : decode cX1_undo 37 = .ok (.getfield 19, 3) := dk_180 0 19 (dk_at dksX1_undo_1 15 rfl rfl)
theorem dX1_undo_40 : decode cX1_undo 40 = .ok (.getfield 143, 3) := dk_180 0 143 (dk_at dksX1_undo_1 18 rfl rfl)
theorem dX1_undo_43 : decode cX1_undo 43 = .ok (.invokevirtual 108, 3) := dk_182 0 108 (dk_at dksX1_undo_1 21 rfl rfl)
theorem dX1_undo_46 : decode cX1_undo 46 = .ok (.checkcast 31, 3) := dk_192 0 31 (dk_at dksX1_undo_2 0 rfl rfl)
theorem dX1_undo_49 : decode cX1_undo 49 = .ok (.invokevirtual 241, 3) := dk_182 0 241 (dk_at dksX1_undo_2 3 rfl rfl)
theorem dX1_undo_52 : decode cX1_undo 52 = .ok (.aload_n 0, 1) := dk_42 (dk_at dksX1_undo_2 6 rfl rfl)
theorem dX1_undo_53 : decode cX1_undo 53 = .ok (.getfield 19, 3) := dk_180 0 19 (dk_at dksX1_undo_2 7 rfl rfl)
theorem dX1_undo_56 : decode cX1_undo 56 = .ok (.getfield 143, 3) := dk_180 0 143 (dk_at dksX1_undo_2 10 rfl rfl)
theorem dX1_undo_59 : decode cX1_undo 59 = .ok (.ireturn, 1) := dk_172 (dk_at dksX1_undo_2 13 rfl rfl)
abbrev cX1_orders : ByteArray := prog_1_method_30_code
def yX1_orders : MethodName := ⟨RX1, "orders", "()I"⟩
def dkwX1_orders_1 : List UInt8 := [42, 182, 1, 22, 153, 0, 6, 132, 1, 1, 42, 182, 1, 25, 61, 167, 255, 237, 27, 172]
abbrev dktX1_orders_1 : List UInt8 := dkwX1_orders_1 ++ []
def dkwX1_orders_0 : List UInt8 := [42, 182, 0, 102, 16, 6, 164, 0, 6, 16, 254, 172, 42, 182, 1, 19, 3, 60, 4, 61, 28, 153, 0, 21]
abbrev dktX1_orders_0 : List UInt8 := dkwX1_orders_0 ++ dktX1_orders_1
theorem dksX1_orders_0 : cX1_orders.data.toList.drop 0 = dktX1_orders_0 := by decide +kernel
theorem dksX1_orders_1 : cX1_orders.data.toList.drop 24 = dktX1_orders_1 := dk_seg dksX1_orders_0 24 rfl rfl
theorem dX1_orders_0 : decode cX1_orders 0 = .ok (.aload_n 0, 1) := dk_42 (dk_at dksX1_orders_0 0 rfl rfl)
theorem dX1_orders_1 : decode cX1_orders 1 = .ok (.invokevirtual 102, 3) := dk_182 0 102 (dk_at dksX1_orders_0 1 rfl rfl)
theorem dX1_orders_4 : decode cX1_orders 4 = .ok (.bipush 6, 2) := dk_16 6 (dk_at dksX1_orders_0 4 rfl rfl)
theorem dX1_orders_6 : decode cX1_orders 6 = .ok (.if_icmp .le 6, 3) := dk_164 0 6 (dk_at dksX1_orders_0 6 rfl rfl)
theorem dX1_orders_9 : decode cX1_orders 9 = .ok (.bipush (-2), 2) := dk_16 254 (dk_at dksX1_orders_0 9 rfl rfl)
theorem dX1_orders_11 : decode cX1_orders 11 = .ok (.ireturn, 1) := dk_172 (dk_at dksX1_orders_0 11 rfl rfl)
theorem dX1_orders_12 : decode cX1_orders 12 = .ok (.aload_n 0, 1) := dk_42 (dk_at dksX1_orders_0 12 rfl rfl)
theorem dX1_orders_13 : decode cX1_orders 13 = .ok (.invokevirtual 275, 3) := dk_182 1 19 (dk_at dksX1_orders_0 13 rfl rfl)
theorem dX1_orders_16 : decode cX1_orders 16 = .ok (.iconst 0, 1) := dk_3 (dk_at dksX1_orders_0 16 rfl rfl)
theorem dX1_orders_17 : decode cX1_orders 17 = .ok (.istore_n 1, 1) := dk_60 (dk_at dksX1_orders_0 17 rfl rfl)
theorem dX1_orders_18 : decode cX1_orders 18 = .ok (.iconst 1, 1) := dk_4 (dk_at dksX1_orders_0 18 rfl rfl)
theorem dX1_orders_19 : decode cX1_orders 19 = .ok (.istore_n 2, 1) := dk_61 (dk_at dksX1_orders_0 19 rfl rfl)
theorem dX1_orders_20 : decode cX1_orders 20 = .ok (.iload_n 2, 1) := dk_28 (dk_at dksX1_orders_0 20 rfl rfl)
theorem dX1_orders_21 : decode cX1_orders 21 = .ok (.ifCond .eq 21, 3) := dk_153 0 21 (dk_at dksX1_orders_0 21 rfl rfl)
theorem dX1_orders_24 : decode cX1_orders 24 = .ok (.aload_n 0, 1) := dk_42 (dk_at dksX1_orders_1 0 rfl rfl)
theorem dX1_orders_25 : decode cX1_orders 25 = .ok (.invokevirtual 278, 3) := dk_182 1 22 (dk_at dksX1_orders_1 1 rfl rfl)
theorem dX1_orders_28 : decode cX1_orders 28 = .ok (.ifCond .eq 6, 3) := dk_153 0 6 (dk_at dksX1_orders_1 4 rfl rfl)
theorem dX1_orders_31 : decode cX1_orders 31 = .ok (.iinc 1 1, 3) := dk_132 1 1 (dk_at dksX1_orders_1 7 rfl rfl)
theorem dX1_orders_34 : decode cX1_orders 34 = .ok (.aload_n 0, 1) := dk_42 (dk_at dksX1_orders_1 10 rfl rfl)
theorem dX1_orders_35 : decode cX1_orders 35 = .ok (.invokevirtual 281, 3) := dk_182 1 25 (dk_at dksX1_orders_1 11 rfl rfl)
theorem dX1_orders_38 : decode cX1_orders 38 = .ok (.istore_n 2, 1) := dk_61 (dk_at dksX1_orders_1 14 rfl rfl)
theorem dX1_orders_39 : decode cX1_orders 39 = .ok (.goto (-19), 3) := dk_167 255 237 (dk_at dksX1_orders_1 15 rfl rfl)
theorem dX1_orders_42 : decode cX1_orders 42 = .ok (.iload_n 1, 1) := dk_27 (dk_at dksX1_orders_1 18 rfl rfl)
theorem dX1_orders_43 : decode cX1_orders 43 = .ok (.ireturn, 1) := dk_172 (dk_at dksX1_orders_1 19 rfl rfl)
abbrev cX1_firstRow : ByteArray := prog_1_method_26_code
def yX1_firstRow : MethodName := ⟨RX1, "firstRow", "()V"⟩
def dkwX1_firstRow_0 : List UInt8 := [3, 60, 27, 42, 182, 0, 102, 162, 0, 16, 42, 180, 0, 73, 27, 27, 79, 132, 1, 1, 167, 255, 238, 177]
abbrev dktX1_firstRow_0 : List UInt8 := dkwX1_firstRow_0 ++ []
theorem dksX1_firstRow_0 : cX1_firstRow.data.toList.drop 0 = dktX1_firstRow_0 := by decide +kernel
theorem dX1_firstRow_0 : decode cX1_firstRow 0 = .ok (.iconst 0, 1) := dk_3 (dk_at dksX1_firstRow_0 0 rfl rfl)
theorem dX1_firstRow_1 : decode cX1_firstRow 1 = .ok (.istore_n 1, 1) := dk_60 (dk_at dksX1_firstRow_0 1 rfl rfl)
theorem dX1_firstRow_2 : decode cX1_firstRow 2 = .ok (.iload_n 1, 1) := dk_27 (dk_at dksX1_firstRow_0 2 rfl rfl)
theorem dX1_firstRow_3 : decode cX1_firstRow 3 = .ok (.aload_n 0, 1) := dk_42 (dk_at dksX1_firstRow_0 3 rfl rfl)
theorem dX1_firstRow_4 : decode cX1_firstRow 4 = .ok (.invokevirtual 102, 3) := dk_182 0 102 (dk_at dksX1_firstRow_0 4 rfl rfl)
theorem dX1_firstRow_7 : decode cX1_firstRow 7 = .ok (.if_icmp .ge 16, 3) := dk_162 0 16 (dk_at dksX1_firstRow_0 7 rfl rfl)
theorem dX1_firstRow_10 : decode cX1_firstRow 10 = .ok (.aload_n 0, 1) := dk_42 (dk_at dksX1_firstRow_0 10 rfl rfl)
theorem dX1_firstRow_11 : decode cX1_firstRow 11 = .ok (.getfield 73, 3) := dk_180 0 73 (dk_at dksX1_firstRow_0 11 rfl rfl)
theorem dX1_firstRow_14 : decode cX1_firstRow 14 = .ok (.iload_n 1, 1) := dk_27 (dk_at dksX1_firstRow_0 14 rfl rfl)
theorem dX1_firstRow_15 : decode cX1_firstRow 15 = .ok (.iload_n 1, 1) := dk_27 (dk_at dksX1_firstRow_0 15 rfl rfl)
theorem dX1_firstRow_16 : decode cX1_firstRow 16 = .ok (.iastore, 1) := dk_79 (dk_at dksX1_firstRow_0 16 rfl rfl)
theorem dX1_firstRow_17 : decode cX1_firstRow 17 = .ok (.iinc 1 1, 3) := dk_132 1 1 (dk_at dksX1_firstRow_0 17 rfl rfl)
theorem dX1_firstRow_20 : decode cX1_firstRow 20 = .ok (.goto (-18), 3) := dk_167 255 238 (dk_at dksX1_firstRow_0 20 rfl rfl)
theorem dX1_firstRow_23 : decode cX1_firstRow 23 = .ok (.return_, 1) := dk_177 (dk_at dksX1_firstRow_0 23 rfl rfl)
abbrev cX1_isPeaceful : ByteArray := prog_1_method_29_code
def yX1_isPeaceful : MethodName := ⟨RX1, "isPeaceful", "()Z"⟩
def dkwX1_isPeaceful_2 : List UInt8 := [172]
abbrev dktX1_isPeaceful_2 : List UInt8 := dkwX1_isPeaceful_2 ++ []
def dkwX1_isPeaceful_1 : List UInt8 := [42, 180, 0, 73, 27, 4, 100, 46, 122, 4, 126, 4, 160, 0, 5, 3, 172, 132, 1, 1, 167, 255, 214, 4]
abbrev dktX1_isPeaceful_1 : List UInt8 := dkwX1_isPeaceful_1 ++ dktX1_isPeaceful_2
def dkwX1_isPeaceful_0 : List UInt8 := [4, 60, 27, 42, 182, 0, 102, 162, 0, 40, 42, 180, 0, 10, 180, 0, 217, 42, 180, 0, 73, 27, 46, 46]
abbrev dktX1_isPeaceful_0 : List UInt8 := dkwX1_isPeaceful_0 ++ dktX1_isPeaceful_1
theorem dksX1_isPeaceful_0 : cX1_isPeaceful.data.toList.drop 0 = dktX1_isPeaceful_0 := by decide +kernel
theorem dksX1_isPeaceful_1 : cX1_isPeaceful.data.toList.drop 24 = dktX1_isPeaceful_1 := dk_seg dksX1_isPeaceful_0 24 rfl rfl
theorem dksX1_isPeaceful_2 : cX1_isPeaceful.data.toList.drop 48 = dktX1_isPeaceful_2 := dk_seg dksX1_isPeaceful_1 24 rfl rfl
theorem dX1_isPeaceful_0 : decode cX1_isPeaceful 0 = .ok (.iconst 1, 1) := dk_4 (dk_at dksX1_isPeaceful_0 0 rfl rfl)
theorem dX1_isPeaceful_1 : decode cX1_isPeaceful 1 = .ok (.istore_n 1, 1) := dk_60 (dk_at dksX1_isPeaceful_0 1 rfl rfl)
theorem dX1_isPeaceful_2 : decode cX1_isPeaceful 2 = .ok (.iload_n 1, 1) := dk_27 (dk_at dksX1_isPeaceful_0 2 rfl rfl)
theorem dX1_isPeaceful_3 : decode cX1_isPeaceful 3 = .ok (.aload_n 0, 1) := dk_42 (dk_at dksX1_isPeaceful_0 3 rfl rfl)
theorem dX1_isPeaceful_4 : decode cX1_isPeaceful 4 = .ok (.invokevirtual 102, 3) := dk_182 0 102 (dk_at dksX1_isPeaceful_0 4 rfl rfl)
theorem dX1_isPeaceful_7 : decode cX1_isPeaceful 7 = .ok (.if_icmp .ge 40, 3) := dk_162 0 40 (dk_at dksX1_isPeaceful_0 7 rfl rfl)
theorem dX1_isPeaceful_10 : decode cX1_isPeaceful 10 = .ok (.aload_n 0, 1) := dk_42 (dk_at dksX1_isPeaceful_0 10 rfl rfl)
theorem dX1_isPeaceful_11 : decode cX1_isPeaceful 11 = .ok (.getfield 10, 3) := dk_180 0 10 (dk_at dksX1_isPeaceful_0 11 rfl rfl)
theorem dX1_isPeaceful_14 : decode cX1_isPeaceful 14 = .ok (.getfield 217, 3) := dk_180 0 217 (dk_at dksX1_isPeaceful_0 14 rfl rfl)
theorem dX1_isPeaceful_17 : decode cX1_isPeaceful 17 = .ok (.aload_n 0, 1) := dk_42 (dk_at dksX1_isPeaceful_0 17 rfl rfl)
theorem dX1_isPeaceful_18 : decode cX1_isPeaceful 18 = .ok (.getfield 73, 3) := dk_180 0 73 (dk_at dksX1_isPeaceful_0 18 rfl rfl)
theorem dX1_isPeaceful_21 : decode cX1_isPeaceful 21 = .ok (.iload_n 1, 1) := dk_27 (dk_at dksX1_isPeaceful_0 21 rfl rfl)
theorem dX1_isPeaceful_22 : decode cX1_isPeaceful 22 = .ok (.iaload, 1) := dk_46 (dk_at dksX1_isPeaceful_0 22 rfl rfl)
theorem dX1_isPeaceful_23 : decode cX1_isPeaceful 23 = .ok (.iaload, 1) := dk_46 (dk_at dksX1_isPeaceful_0 23 rfl rfl)
theorem dX1_isPeaceful_24 : decode cX1_isPeaceful 24 = .ok (.aload_n 0, 1) := dk_42 (dk_at dksX1_isPeaceful_1 0 rfl rfl)
theorem dX1_isPeaceful_25 : decode cX1_isPeaceful 25 = .ok (.getfield 73, 3) := dk_180 0 73 (dk_at dksX1_isPeaceful_1 1 rfl rfl)
theorem dX1_isPeaceful_28 : decode cX1_isPeaceful 28 = .ok (.iload_n 1, 1) := dk_27 (dk_at dksX1_isPeaceful_1 4 rfl rfl)
theorem dX1_isPeaceful_29 : decode cX1_isPeaceful 29 = .ok (.iconst 1, 1) := dk_4 (dk_at dksX1_isPeaceful_1 5 rfl rfl)
theorem dX1_isPeaceful_30 : decode cX1_isPeaceful 30 = .ok (.isub, 1) := dk_100 (dk_at dksX1_isPeaceful_1 6 rfl rfl)
theorem dX1_isPeaceful_31 : decode cX1_isPeaceful 31 = .ok (.iaload, 1) := dk_46 (dk_at dksX1_isPeaceful_1 7 rfl rfl)
theorem dX1_isPeaceful_32 : decode cX1_isPeaceful 32 = .ok (.ishr, 1) := dk_122 (dk_at dksX1_isPeaceful_1 8 rfl rfl)
theorem dX1_isPeaceful_33 : decode cX1_isPeaceful 33 = .ok (.iconst 1, 1) := dk_4 (dk_at dksX1_isPeaceful_1 9 rfl rfl)
theorem dX1_isPeaceful_34 : decode cX1_isPeaceful 34 = .ok (.iand, 1) := dk_126 (dk_at dksX1_isPeaceful_1 10 rfl rfl)
theorem dX1_isPeaceful_35 : decode cX1_isPeaceful 35 = .ok (.iconst 1, 1) := dk_4 (dk_at dksX1_isPeaceful_1 11 rfl rfl)
theorem dX1_isPeaceful_36 : decode cX1_isPeaceful 36 = .ok (.if_icmp .ne 5, 3) := dk_160 0 5 (dk_at dksX1_isPeaceful_1 12 rfl rfl)
theorem dX1_isPeaceful_39 : decode cX1_isPeaceful 39 = .ok (.iconst 0, 1) := dk_3 (dk_at dksX1_isPeaceful_1 15 rfl rfl)
theorem dX1_isPeaceful_40 : decode cX1_isPeaceful 40 = .ok (.ireturn, 1) := dk_172 (dk_at dksX1_isPeaceful_1 16 rfl rfl)
theorem dX1_isPeaceful_41 : decode cX1_isPeaceful 41 = .ok (.iinc 1 1, 3) := dk_132 1 1 (dk_at dksX1_isPeaceful_1 17 rfl rfl)
theorem dX1_isPeaceful_44 : decode cX1_isPeaceful 44 = .ok (.goto (-42), 3) := dk_167 255 214 (dk_at dksX1_isPeaceful_1 20 rfl rfl)
theorem dX1_isPeaceful_47 : decode cX1_isPeaceful 47 = .ok (.iconst 1, 1) := dk_4 (dk_at dksX1_isPeaceful_1 23 rfl rfl)
theorem dX1_isPeaceful_48 : decode cX1_isPeaceful 48 = .ok (.ireturn, 1) := dk_172 (dk_at dksX1_isPeaceful_2 0 rfl rfl)
abbrev cX1_nextRow : ByteArray := prog_1_method_27_code
def yX1_nextRow : MethodName := ⟨RX1, "nextRow", "()Z"⟩
def dkwX1_nextRow_4 : List UInt8 := [21, 4, 182, 1, 16, 132, 3, 1, 132, 4, 255, 167, 255, 237, 4, 172]
abbrev dktX1_nextRow_4 : List UInt8 := dkwX1_nextRow_4 ++ []
def dkwX1_nextRow_3 : List UInt8 := [182, 1, 16, 27, 4, 96, 62, 42, 182, 0, 102, 4, 100, 54, 4, 29, 21, 4, 162, 0, 19, 42, 29]
abbrev dktX1_nextRow_3 : List UInt8 := dkwX1_nextRow_3 ++ dktX1_nextRow_4
def dkwX1_nextRow_2 : List UInt8 := [180, 0, 73, 28, 46, 42, 180, 0, 73, 27, 46, 162, 0, 9, 132, 2, 255, 167, 255, 238, 42, 27, 28]
abbrev dktX1_nextRow_2 : List UInt8 := dkwX1_nextRow_2 ++ dktX1_nextRow_3
def dkwX1_nextRow_1 : List UInt8 := [46, 164, 0, 9, 132, 1, 255, 167, 255, 232, 27, 156, 0, 5, 3, 172, 42, 182, 0, 102, 4, 100, 61, 42]
abbrev dktX1_nextRow_1 : List UInt8 := dkwX1_nextRow_1 ++ dktX1_nextRow_2
def dkwX1_nextRow_0 : List UInt8 := [42, 182, 0, 102, 5, 100, 60, 27, 155, 0, 26, 42, 180, 0, 73, 27, 46, 42, 180, 0, 73, 27, 4, 96]
abbrev dktX1_nextRow_0 : List UInt8 := dkwX1_nextRow_0 ++ dktX1_nextRow_1
theorem dksX1_nextRow_0 : cX1_nextRow.data.toList.drop 0 = dktX1_nextRow_0 := by decide +kernel
theorem dksX1_nextRow_1 : cX1_nextRow.data.toList.drop 24 = dktX1_nextRow_1 := dk_seg dksX1_nextRow_0 24 rfl rfl
theorem dksX1_nextRow_2 : cX1_nextRow.data.toList.drop 48 = dktX1_nextRow_2 := dk_seg dksX1_nextRow_1 24 rfl rfl
theorem dksX1_nextRow_3 : cX1_nextRow.data.toList.drop 71 = dktX1_nextRow_3 := dk_seg dksX1_nextRow_2 23 rfl rfl
theorem dksX1_nextRow_4 : cX1_nextRow.data.toList.drop 94 = dktX1_nextRow_4 := dk_seg dksX1_nextRow_3 23 rfl rfl
theorem dX1_nextRow_0 : decode cX1_nextRow 0 = .ok (.aload_n 0, 1) := dk_42 (dk_at dksX1_nextRow_0 0 rfl rfl)
theorem dX1_nextRow_1 : decode cX1_nextRow 1 = .ok (.invokevirtual 102, 3) := dk_182 0 102 (dk_at dksX1_nextRow_0 1 rfl rfl)
theorem dX1_nextRow_4 : decode cX1_nextRow 4 = .ok (.iconst 2, 1) := dk_5 (dk_at dksX1_nextRow_0 4 rfl rfl)
theorem dX1_nextRow_5 : decode cX1_nextRow 5 = .ok (.isub, 1) := dk_100 (dk_at dksX1_nextRow_0 5 rfl rfl)
theorem dX1_nextRow_6 : decode cX1_nextRow 6 = .ok (.istore_n 1, 1) := dk_60 (dk_at dksX1_nextRow_0 6 rfl rfl)
theorem dX1_nextRow_7 : decode cX1_nextRow 7 = .ok (.iload_n 1, 1) := dk_27 (dk_at dksX1_nextRow_0 7 rfl rfl)
theorem dX1_nextRow_8 : decode cX1_nextRow 8 = .ok (.ifCond .lt 26, 3) := dk_155 0 26 (dk_at dksX1_nextRow_0 8 rfl rfl)
theorem dX1_nextRow_11 : decode cX1_nextRow 11 = .ok (.aload_n 0, 1) := dk_42 (dk_at dksX1_nextRow_0 11 rfl rfl)
theorem dX1_nextRow_12 : decode cX1_nextRow 12 = .ok (.getfield 73, 3) := dk_180 0 73 (dk_at dksX1_nextRow_0 12 rfl rfl)
theorem dX1_nextRow_15 : decode cX1_nextRow 15 = .ok (.iload_n 1, 1) := dk_27 (dk_at dksX1_nextRow_0 15 rfl rfl)
theorem dX1_nextRow_16 : decode cX1_nextRow 16 = .ok (.iaload, 1) := dk_46 (dk_at dksX1_nextRow_0 16 rfl rfl)
theorem dX1_nextRow_17 : decode cX1_nextRow 17 = .ok (.aload_n 0, 1) := dk_42 (dk_at dksX1_nextRow_0 17 rfl rfl)
theorem dX1_nextRow_18 : decode cX1_nextRow 18 = .ok (.getfield 73, 3) := dk_180 0 73 (dk_at dksX1_nextRow_0 18 rfl rfl)
theorem dX1_nextRow_21 : decode cX1_nextRow 21 = .ok (.iload_n 1, 1) := dk_27 (dk_at dksX1_nextRow_0 21 rfl rfl)
theorem dX1_nextRow_22 : decode cX1_nextRow 22 = .ok (.iconst 1, 1) := dk_4 (dk_at dksX1_nextRow_0 22 rfl rfl)
theorem dX1_nextRow_23 : decode cX1_nextRow 23 = .ok (.iadd, 1) := dk_96 (dk_at dksX1_nextRow_0 23 rfl rfl)
theorem dX1_nextRow_24 : decode cX1_nextRow 24 = .ok (.iaload, 1) := dk_46 (dk_at dksX1_nextRow_1 0 rfl rfl)
theorem dX1_nextRow_25 : decode cX1_nextRow 25 = .ok (.if_icmp .le 9, 3) := dk_164 0 9 (dk_at dksX1_nextRow_1 1 rfl rfl)
theorem dX1_nextRow_28 : decode cX1_nextRow 28 = .ok (.iinc 1 (-1), 3) := dk_132 1 255 (dk_at dksX1_nextRow_1 4 rfl rfl)
theorem dX1_nextRow_31 : decode cX1_nextRow 31 = .ok (.goto (-24), 3) := dk_167 255 232 (dk_at dksX1_nextRow_1 7 rfl rfl)
theorem dX1_nextRow_34 : decode cX1_nextRow 34 = .ok (.iload_n 1, 1) := dk_27 (dk_at dksX1_nextRow_1 10 rfl rfl)
theorem dX1_nextRow_35 : decode cX1_nextRow 35 = .ok (.ifCond .ge 5, 3) := dk_156 0 5 (dk_at dksX1_nextRow_1 11 rfl rfl)
theorem dX1_nextRow_38 : decode cX1_nextRow 38 = .ok (.iconst 0, 1) := dk_3 (dk_at dksX1_nextRow_1 14 rfl rfl)
theorem dX1_nextRow_39 : decode cX1_nextRow 39 = .ok (.ireturn, 1) := dk_172 (dk_at dksX1_nextRow_1 15 rfl rfl)
theorem dX1_nextRow_40 : decode cX1_nextRow 40 = .ok (.aload_n 0, 1) := dk_42 (dk_at dksX1_nextRow_1 16 rfl rfl)
theorem dX1_nextRow_41 : decode cX1_nextRow 41 = .ok (.invokevirtual 102, 3) := dk_182 0 102 (dk_at dksX1_nextRow_1 17 rfl rfl)
theorem dX1_nextRow_44 : decode cX1_nextRow 44 = .ok (.iconst 1, 1) := dk_4 (dk_at dksX1_nextRow_1 20 rfl rfl)
theorem dX1_nextRow_45 : decode cX1_nextRow 45 = .ok (.isub, 1) := dk_100 (dk_at dksX1_nextRow_1 21 rfl rfl)
theorem dX1_nextRow_46 : decode cX1_nextRow 46 = .ok (.istore_n 2, 1) := dk_61 (dk_at dksX1_nextRow_1 22 rfl rfl)
theorem dX1_nextRow_47 : decode cX1_nextRow 47 = .ok (.aload_n 0, 1) := dk_42 (dk_at dksX1_nextRow_1 23 rfl rfl)
theorem dX1_nextRow_48 : decode cX1_nextRow 48 = .ok (.getfield 73, 3) := dk_180 0 73 (dk_at dksX1_nextRow_2 0 rfl rfl)
theorem dX1_nextRow_51 : decode cX1_nextRow 51 = .ok (.iload_n 2, 1) := dk_28 (dk_at dksX1_nextRow_2 3 rfl rfl)
theorem dX1_nextRow_52 : decode cX1_nextRow 52 = .ok (.iaload, 1) := dk_46 (dk_at dksX1_nextRow_2 4 rfl rfl)
theorem dX1_nextRow_53 : decode cX1_nextRow 53 = .ok (.aload_n 0, 1) := dk_42 (dk_at dksX1_nextRow_2 5 rfl rfl)
theorem dX1_nextRow_54 : decode cX1_nextRow 54 = .ok (.getfield 73, 3) := dk_180 0 73 (dk_at dksX1_nextRow_2 6 rfl rfl)
theorem dX1_nextRow_57 : decode cX1_nextRow 57 = .ok (.iload_n 1, 1) := dk_27 (dk_at dksX1_nextRow_2 9 rfl rfl)
theorem dX1_nextRow_58 : decode cX1_nextRow 58 = .ok (.iaload, 1) := dk_46 (dk_at dksX1_nextRow_2 10 rfl rfl)
theorem dX1_nextRow_59 : decode cX1_nextRow 59 = .ok (.if_icmp .ge 9, 3) := dk_162 0 9 (dk_at dksX1_nextRow_2 11 rfl rfl)
theorem dX1_nextRow_62 : decode cX1_nextRow 62 = .ok (.iinc 2 (-1), 3) := dk_132 2 255 (dk_at dksX1_nextRow_2 14 rfl rfl)
theorem dX1_nextRow_65 : decode cX1_nextRow 65 = .ok (.goto (-18), 3) := dk_167 255 238 (dk_at dksX1_nextRow_2 17 rfl rfl)
theorem dX1_nextRow_68 : decode cX1_nextRow 68 = .ok (.aload_n 0, 1) := dk_42 (dk_at dksX1_nextRow_2 20 rfl rfl)
theorem dX1_nextRow_69 : decode cX1_nextRow 69 = .ok (.iload_n 1, 1) := dk_27 (dk_at dksX1_nextRow_2 21 rfl rfl)
theorem dX1_nextRow_70 : decode cX1_nextRow 70 = .ok (.iload_n 2, 1) := dk_28 (dk_at dksX1_nextRow_2 22 rfl rfl)
theorem dX1_nextRow_71 : decode cX1_nextRow 71 = .ok (.invokevirtual 272, 3) := dk_182 1 16 (dk_at dksX1_nextRow_3 0 rfl rfl)
theorem dX1_nextRow_74 : decode cX1_nextRow 74 = .ok (.iload_n 1, 1) := dk_27 (dk_at dksX1_nextRow_3 3 rfl rfl)
theorem dX1_nextRow_75 : decode cX1_nextRow 75 = .ok (.iconst 1, 1) := dk_4 (dk_at dksX1_nextRow_3 4 rfl rfl)
theorem dX1_nextRow_76 : decode cX1_nextRow 76 = .ok (.iadd, 1) := dk_96 (dk_at dksX1_nextRow_3 5 rfl rfl)
theorem dX1_nextRow_77 : decode cX1_nextRow 77 = .ok (.istore_n 3, 1) := dk_62 (dk_at dksX1_nextRow_3 6 rfl rfl)
theorem dX1_nextRow_78 : decode cX1_nextRow 78 = .ok (.aload_n 0, 1) := dk_42 (dk_at dksX1_nextRow_3 7 rfl rfl)
theorem dX1_nextRow_79 : decode cX1_nextRow 79 = .ok (.invokevirtual 102, 3) := dk_182 0 102 (dk_at dksX1_nextRow_3 8 rfl rfl)
theorem dX1_nextRow_82 : decode cX1_nextRow 82 = .ok (.iconst 1, 1) := dk_4 (dk_at dksX1_nextRow_3 11 rfl rfl)
theorem dX1_nextRow_83 : decode cX1_nextRow 83 = .ok (.isub, 1) := dk_100 (dk_at dksX1_nextRow_3 12 rfl rfl)
theorem dX1_nextRow_84 : decode cX1_nextRow 84 = .ok (.istore 4, 2) := dk_54 4 (dk_at dksX1_nextRow_3 13 rfl rfl)
theorem dX1_nextRow_86 : decode cX1_nextRow 86 = .ok (.iload_n 3, 1) := dk_29 (dk_at dksX1_nextRow_3 15 rfl rfl)
theorem dX1_nextRow_87 : decode cX1_nextRow 87 = .ok (.iload 4, 2) := dk_21 4 (dk_at dksX1_nextRow_3 16 rfl rfl)
theorem dX1_nextRow_89 : decode cX1_nextRow 89 = .ok (.if_icmp .ge 19, 3) := dk_162 0 19 (dk_at dksX1_nextRow_3 18 rfl rfl)
theorem dX1_nextRow_92 : decode cX1_nextRow 92 = .ok (.aload_n 0, 1) := dk_42 (dk_at dksX1_nextRow_3 21 rfl rfl)
theorem dX1_nextRow_93 : decode cX1_nextRow 93 = .ok (.iload_n 3, 1) := dk_29 (dk_at dksX1_nextRow_3 22 rfl rfl)
theorem dX1_nextRow_94 : decode cX1_nextRow 94 = .ok (.iload 4, 2) := dk_21 4 (dk_at dksX1_nextRow_4 0 rfl rfl)
theorem dX1_nextRow_96 : decode cX1_nextRow 96 = .ok (.invokevirtual 272, 3) := dk_182 1 16 (dk_at dksX1_nextRow_4 2 rfl rfl)
theorem dX1_nextRow_99 : decode cX1_nextRow 99 = .ok (.iinc 3 1, 3) := dk_132 3 1 (dk_at dksX1_nextRow_4 5 rfl rfl)
theorem dX1_nextRow_102 : decode cX1_nextRow 102 = .ok (.iinc 4 (-1), 3) := dk_132 4 255 (dk_at dksX1_nextRow_4 8 rfl rfl)
theorem dX1_nextRow_105 : decode cX1_nextRow 105 = .ok (.goto (-19), 3) := dk_167 255 237 (dk_at dksX1_nextRow_4 11 rfl rfl)
theorem dX1_nextRow_108 : decode cX1_nextRow 108 = .ok (.iconst 1, 1) := dk_4 (dk_at dksX1_nextRow_4 14 rfl rfl)
theorem dX1_nextRow_109 : decode cX1_nextRow 109 = .ok (.ireturn, 1) := dk_172 (dk_at dksX1_nextRow_4 15 rfl rfl)
abbrev cX1_changes : ByteArray := prog_1_method_28_code
def yX1_changes : MethodName := ⟨RX1, "changes", "(II)V"⟩
def dkwX1_changes_1 : List UInt8 := [29, 79, 177]
abbrev dktX1_changes_1 : List UInt8 := dkwX1_changes_1 ++ []
def dkwX1_changes_0 : List UInt8 := [42, 180, 0, 73, 27, 46, 62, 42, 180, 0, 73, 27, 42, 180, 0, 73, 28, 46, 79, 42, 180, 0, 73, 28]
abbrev dktX1_changes_0 : List UInt8 := dkwX1_changes_0 ++ dktX1_changes_1
theorem dksX1_changes_0 : cX1_changes.data.toList.drop 0 = dktX1_changes_0 := by decide +kernel
theorem dksX1_changes_1 : cX1_changes.data.toList.drop 24 = dktX1_changes_1 := dk_seg dksX1_changes_0 24 rfl rfl
theorem dX1_changes_0 : decode cX1_changes 0 = .ok (.aload_n 0, 1) := dk_42 (dk_at dksX1_changes_0 0 rfl rfl)
theorem dX1_changes_1 : decode cX1_changes 1 = .ok (.getfield 73, 3) := dk_180 0 73 (dk_at dksX1_changes_0 1 rfl rfl)
theorem dX1_changes_4 : decode cX1_changes 4 = .ok (.iload_n 1, 1) := dk_27 (dk_at dksX1_changes_0 4 rfl rfl)
theorem dX1_changes_5 : decode cX1_changes 5 = .ok (.iaload, 1) := dk_46 (dk_at dksX1_changes_0 5 rfl rfl)
theorem dX1_changes_6 : decode cX1_changes 6 = .ok (.istore_n 3, 1) := dk_62 (dk_at dksX1_changes_0 6 rfl rfl)
theorem dX1_changes_7 : decode cX1_changes 7 = .ok (.aload_n 0, 1) := dk_42 (dk_at dksX1_changes_0 7 rfl rfl)
theorem dX1_changes_8 : decode cX1_changes 8 = .ok (.getfield 73, 3) := dk_180 0 73 (dk_at dksX1_changes_0 8 rfl rfl)
theorem dX1_changes_11 : decode cX1_changes 11 = .ok (.iload_n 1, 1) := dk_27 (dk_at dksX1_changes_0 11 rfl rfl)
theorem dX1_changes_12 : decode cX1_changes 12 = .ok (.aload_n 0, 1) := dk_42 (dk_at dksX1_changes_0 12 rfl rfl)
theorem dX1_changes_13 : decode cX1_changes 13 = .ok (.getfield 73, 3) := dk_180 0 73 (dk_at dksX1_changes_0 13 rfl rfl)
theorem dX1_changes_16 : decode cX1_changes 16 = .ok (.iload_n 2, 1) := dk_28 (dk_at dksX1_changes_0 16 rfl rfl)
theorem dX1_changes_17 : decode cX1_changes 17 = .ok (.iaload, 1) := dk_46 (dk_at dksX1_changes_0 17 rfl rfl)
theorem dX1_changes_18 : decode cX1_changes 18 = .ok (.iastore, 1) := dk_79 (dk_at dksX1_changes_0 18 rfl rfl)
theorem dX1_changes_19 : decode cX1_changes 19 = .ok (.aload_n 0, 1) := dk_42 (dk_at dksX1_changes_0 19 rfl rfl)
theorem dX1_changes_20 : decode cX1_changes 20 = .ok (.getfield 73, 3) := dk_180 0 73 (dk_at dksX1_changes_0 20 rfl rfl)
theorem dX1_changes_23 : decode cX1_changes 23 = .ok (.iload_n 2, 1) := dk_28 (dk_at dksX1_changes_0 23 rfl rfl)
theorem dX1_changes_24 : decode cX1_changes 24 = .ok (.iload_n 3, 1) := dk_29 (dk_at dksX1_changes_1 0 rfl rfl)
theorem dX1_changes_25 : decode cX1_changes 25 = .ok (.iastore, 1) := dk_79 (dk_at dksX1_changes_1 1 rfl rfl)
theorem dX1_changes_26 : decode cX1_changes 26 = .ok (.return_, 1) := dk_177 (dk_at dksX1_changes_1 2 rfl rfl)
abbrev cX1_order : ByteArray := prog_1_method_32_code
def yX1_order : MethodName := ⟨RX1, "order", "()I"⟩
def dkwX1_order_3 : List UInt8 := [29, 27, 162, 0, 9, 29, 60, 42, 182, 1, 40, 42, 182, 1, 25, 61, 167, 255, 201, 27, 172]
abbrev dktX1_order_3 : List UInt8 := dkwX1_order_3 ++ []
def dkwX1_order_2 : List UInt8 := [3, 42, 180, 0, 34, 180, 1, 34, 3, 16, 7, 184, 1, 28, 42, 182, 1, 37, 62, 27, 2, 159, 0, 8]
abbrev dktX1_order_2 : List UInt8 := dkwX1_order_2 ++ dktX1_order_3
def dkwX1_order_1 : List UInt8 := [182, 0, 241, 42, 182, 1, 19, 4, 61, 28, 153, 0, 57, 42, 182, 1, 22, 153, 0, 42, 42, 180, 0, 73]
abbrev dktX1_order_1 : List UInt8 := dkwX1_order_1 ++ dktX1_order_2
def dkwX1_order_0 : List UInt8 := [42, 182, 0, 102, 16, 6, 164, 0, 6, 16, 254, 172, 2, 60, 42, 180, 0, 34, 42, 180, 0, 30]
abbrev dktX1_order_0 : List UInt8 := dkwX1_order_0 ++ dktX1_order_1
theorem dksX1_order_0 : cX1_order.data.toList.drop 0 = dktX1_order_0 := by decide +kernel
theorem dksX1_order_1 : cX1_order.data.toList.drop 22 = dktX1_order_1 := dk_seg dksX1_order_0 22 rfl rfl
theorem dksX1_order_2 : cX1_order.data.toList.drop 46 = dktX1_order_2 := dk_seg dksX1_order_1 24 rfl rfl
theorem dksX1_order_3 : cX1_order.data.toList.drop 70 = dktX1_order_3 := dk_seg dksX1_order_2 24 rfl rfl
theorem dX1_order_0 : decode cX1_order 0 = .ok (.aload_n 0, 1) := dk_42 (dk_at dksX1_order_0 0 rfl rfl)
theorem dX1_order_1 : decode cX1_order 1 = .ok (.invokevirtual 102, 3) := dk_182 0 102 (dk_at dksX1_order_0 1 rfl rfl)
theorem dX1_order_4 : decode cX1_order 4 = .ok (.bipush 6, 2) := dk_16 6 (dk_at dksX1_order_0 4 rfl rfl)
theorem dX1_order_6 : decode cX1_order 6 = .ok (.if_icmp .le 6, 3) := dk_164 0 6 (dk_at dksX1_order_0 6 rfl rfl)
theorem dX1_order_9 : decode cX1_order 9 = .ok (.bipush (-2), 2) := dk_16 254 (dk_at dksX1_order_0 9 rfl rfl)
theorem dX1_order_11 : decode cX1_order 11 = .ok (.ireturn, 1) := dk_172 (dk_at dksX1_order_0 11 rfl rfl)
theorem dX1_order_12 : decode cX1_order 12 = .ok (.iconst (-1), 1) := dk_2 (dk_at dksX1_order_0 12 rfl rfl)
theorem dX1_order_13 : decode cX1_order 13 = .ok (.istore_n 1, 1) := dk_60 (dk_at dksX1_order_0 13 rfl rfl)
theorem dX1_order_14 : decode cX1_order 14 = .ok (.aload_n 0, 1) := dk_42 (dk_at dksX1_order_0 14 rfl rfl)
theorem dX1_order_15 : decode cX1_order 15 = .ok (.getfield 34, 3) := dk_180 0 34 (dk_at dksX1_order_0 15 rfl rfl)
theorem dX1_order_18 : decode cX1_order 18 = .ok (.aload_n 0, 1) := dk_42 (dk_at dksX1_order_0 18 rfl rfl)
theorem dX1_order_19 : decode cX1_order 19 = .ok (.getfield 30, 3) := dk_180 0 30 (dk_at dksX1_order_0 19 rfl rfl)
theorem dX1_order_22 : decode cX1_order 22 = .ok (.invokevirtual 241, 3) := dk_182 0 241 (dk_at dksX1_order_1 0 rfl rfl)
theorem dX1_order_25 : decode cX1_order 25 = .ok (.aload_n 0, 1) := dk_42 (dk_at dksX1_order_1 3 rfl rfl)
theorem dX1_order_26 : decode cX1_order 26 = .ok (.invokevirtual 275, 3) := dk_182 1 19 (dk_at dksX1_order_1 4 rfl rfl)
theorem dX1_order_29 : decode cX1_order 29 = .ok (.iconst 1, 1) := dk_4 (dk_at dksX1_order_1 7 rfl rfl)
theorem dX1_order_30 : decode cX1_order 30 = .ok (.istore_n 2, 1) := dk_61 (dk_at dksX1_order_1 8 rfl rfl)
theorem dX1_order_31 : decode cX1_order 31 = .ok (.iload_n 2, 1) := dk_28 (dk_at dksX1_order_1 9 rfl rfl)
theorem dX1_order_32 : decode cX1_order 32 = .ok (.ifCond .eq 57, 3) := dk_153 0 57 (dk_at dksX1_order_1 10 rfl rfl)
theorem dX1_order_35 : decode cX1_order 35 = .ok (.aload_n 0, 1) := dk_42 (dk_at dksX1_order_1 13 rfl rfl)
theorem dX1_order_36 : decode cX1_order 36 = .ok (.invokevirtual 278, 3) := dk_182 1 22 (dk_at dksX1_order_1 14 rfl rfl)
theorem dX1_order_39 : decode cX1_order 39 = .ok (.ifCond .eq 42, 3) := dk_153 0 42 (dk_at dksX1_order_1 17 rfl rfl)
theorem dX1_order_42 : decode cX1_order 42 = .ok (.aload_n 0, 1) := dk_42 (dk_at dksX1_order_1 20 rfl rfl)
theorem dX1_order_43 : decode cX1_order 43 = .ok (.getfield 73, 3) := dk_180 0 73 (dk_at dksX1_order_1 21 rfl rfl)
theorem dX1_order_46 : decode cX1_order 46 = .ok (.iconst 0, 1) := dk_3 (dk_at dksX1_order_2 0 rfl rfl)
theorem dX1_order_47 : decode cX1_order 47 = .ok (.aload_n 0, 1) := dk_42 (dk_at dksX1_order_2 1 rfl rfl)
theorem dX1_order_48 : decode cX1_order 48 = .ok (.getfield 34, 3) := dk_180 0 34 (dk_at dksX1_order_2 2 rfl rfl)
theorem dX1_order_51 : decode cX1_order 51 = .ok (.getfield 290, 3) := dk_180 1 34 (dk_at dksX1_order_2 5 rfl rfl)
theorem dX1_order_54 : decode cX1_order 54 = .ok (.iconst 0, 1) := dk_3 (dk_at dksX1_order_2 8 rfl rfl)
theorem dX1_order_55 : decode cX1_order 55 = .ok (.bipush 7, 2) := dk_16 7 (dk_at dksX1_order_2 9 rfl rfl)
theorem dX1_order_57 : decode cX1_order 57 = .ok (.invokestatic 284, 3) := dk_184 1 28 (dk_at dksX1_order_2 11 rfl rfl)
theorem dX1_order_60 : decode cX1_order 60 = .ok (.aload_n 0, 1) := dk_42 (dk_at dksX1_order_2 14 rfl rfl)
theorem dX1_order_61 : decode cX1_order 61 = .ok (.invokevirtual 293, 3) := dk_182 1 37 (dk_at dksX1_order_2 15 rfl rfl)
theorem dX1_order_64 : decode cX1_order 64 = .ok (.istore_n 3, 1) := dk_62 (dk_at dksX1_order_2 18 rfl rfl)
theorem dX1_order_65 : decode cX1_order 65 = .ok (.iload_n 1, 1) := dk_27 (dk_at dksX1_order_2 19 rfl rfl)
theorem dX1_order_66 : decode cX1_order 66 = .ok (.iconst (-1), 1) := dk_2 (dk_at dksX1_order_2 20 rfl rfl)
theorem dX1_order_67 : decode cX1_order 67 = .ok (.if_icmp .eq 8, 3) := dk_159 0 8 (dk_at dksX1_order_2 21 rfl rfl)
theorem dX1_order_70 : decode cX1_order 70 = .ok (.iload_n 3, 1) := dk_29 (dk_at dksX1_order_3 0 rfl rfl)
theorem dX1_order_71 : decode cX1_order 71 = .ok (.iload_n 1, 1) := dk_27 (dk_at dksX1_order_3 1 rfl rfl)
theorem dX1_order_72 : decode cX1_order 72 = .ok (.if_icmp .ge 9, 3) := dk_162 0 9 (dk_at dksX1_order_3 2 rfl rfl)
theorem dX1_order_75 : decode cX1_order 75 = .ok (.iload_n 3, 1) := dk_29 (dk_at dksX1_order_3 5 rfl rfl)
theorem dX1_order_76 : decode cX1_order 76 = .ok (.istore_n 1, 1) := dk_60 (dk_at dksX1_order_3 6 rfl rfl)
theorem dX1_order_77 : decode cX1_order 77 = .ok (.aload_n 0, 1) := dk_42 (dk_at dksX1_order_3 7 rfl rfl)
theorem dX1_order_78 : decode cX1_order 78 = .ok (.invokevirtual 296, 3) := dk_182 1 40 (dk_at dksX1_order_3 8 rfl rfl)
theorem dX1_order_81 : decode cX1_order 81 = .ok (.aload_n 0, 1) := dk_42 (dk_at dksX1_order_3 11 rfl rfl)
theorem dX1_order_82 : decode cX1_order 82 = .ok (.invokevirtual 281, 3) := dk_182 1 25 (dk_at dksX1_order_3 12 rfl rfl)
theorem dX1_order_85 : decode cX1_order 85 = .ok (.istore_n 2, 1) := dk_61 (dk_at dksX1_order_3 15 rfl rfl)
theorem dX1_order_86 : decode cX1_order 86 = .ok (.goto (-55), 3) := dk_167 255 201 (dk_at dksX1_order_3 16 rfl rfl)
theorem dX1_order_89 : decode cX1_order 89 = .ok (.iload_n 1, 1) := dk_27 (dk_at dksX1_order_3 19 rfl rfl)
theorem dX1_order_90 : decode cX1_order 90 = .ok (.ireturn, 1) := dk_172 (dk_at dksX1_order_3 20 rfl rfl)
abbrev cX1_tries : ByteArray := prog_1_method_25_code
def yX1_tries : MethodName := ⟨RX1, "tries", "()I"⟩
def dkwX1_tries_0 : List UInt8 := [42, 180, 0, 62, 182, 0, 245, 42, 180, 0, 62, 182, 0, 251, 172]
abbrev dktX1_tries_0 : List UInt8 := dkwX1_tries_0 ++ []
theorem dksX1_tries_0 : cX1_tries.data.toList.drop 0 = dktX1_tries_0 := by decide +kernel
theorem dX1_tries_0 : decode cX1_tries 0 = .ok (.aload_n 0, 1) := dk_42 (dk_at dksX1_tries_0 0 rfl rfl)
theorem dX1_tries_1 : decode cX1_tries 1 = .ok (.getfield 62, 3) := dk_180 0 62 (dk_at dksX1_tries_0 1 rfl rfl)
theorem dX1_tries_4 : decode cX1_tries 4 = .ok (.invokevirtual 245, 3) := dk_182 0 245 (dk_at dksX1_tries_0 4 rfl rfl)
theorem dX1_tries_7 : decode cX1_tries 7 = .ok (.aload_n 0, 1) := dk_42 (dk_at dksX1_tries_0 7 rfl rfl)
theorem dX1_tries_8 : decode cX1_tries 8 = .ok (.getfield 62, 3) := dk_180 0 62 (dk_at dksX1_tries_0 8 rfl rfl)
theorem dX1_tries_11 : decode cX1_tries 11 = .ok (.invokevirtual 251, 3) := dk_182 0 251 (dk_at dksX1_tries_0 11 rfl rfl)
theorem dX1_tries_14 : decode cX1_tries 14 = .ok (.ireturn, 1) := dk_172 (dk_at dksX1_tries_0 14 rfl rfl)
abbrev cX1_keeps : ByteArray := prog_1_method_31_code
def yX1_keeps : MethodName := ⟨RX1, "keeps", "()V"⟩
def dkwX1_keeps_0 : List UInt8 := [42, 180, 0, 73, 3, 42, 180, 0, 76, 3, 16, 7, 184, 1, 28, 42, 4, 181, 0, 149, 177]
abbrev dktX1_keeps_0 : List UInt8 := dkwX1_keeps_0 ++ []
theorem dksX1_keeps_0 : cX1_keeps.data.toList.drop 0 = dktX1_keeps_0 := by decide +kernel
theorem dX1_keeps_0 : decode cX1_keeps 0 = .ok (.aload_n 0, 1) := dk_42 (dk_at dksX1_keeps_0 0 rfl rfl)
theorem dX1_keeps_1 : decode cX1_keeps 1 = .ok (.getfield 73, 3) := dk_180 0 73 (dk_at dksX1_keeps_0 1 rfl rfl)
theorem dX1_keeps_4 : decode cX1_keeps 4 = .ok (.iconst 0, 1) := dk_3 (dk_at dksX1_keeps_0 4 rfl rfl)
theorem dX1_keeps_5 : decode cX1_keeps 5 = .ok (.aload_n 0, 1) := dk_42 (dk_at dksX1_keeps_0 5 rfl rfl)
theorem dX1_keeps_6 : decode cX1_keeps 6 = .ok (.getfield 76, 3) := dk_180 0 76 (dk_at dksX1_keeps_0 6 rfl rfl)
theorem dX1_keeps_9 : decode cX1_keeps 9 = .ok (.iconst 0, 1) := dk_3 (dk_at dksX1_keeps_0 9 rfl rfl)
theorem dX1_keeps_10 : decode cX1_keeps 10 = .ok (.bipush 7, 2) := dk_16 7 (dk_at dksX1_keeps_0 10 rfl rfl)
theorem dX1_keeps_12 : decode cX1_keeps 12 = .ok (.invokestatic 284, 3) := dk_184 1 28 (dk_at dksX1_keeps_0 12 rfl rfl)
theorem dX1_keeps_15 : decode cX1_keeps 15 = .ok (.aload_n 0, 1) := dk_42 (dk_at dksX1_keeps_0 15 rfl rfl)
theorem dX1_keeps_16 : decode cX1_keeps 16 = .ok (.iconst 1, 1) := dk_4 (dk_at dksX1_keeps_0 16 rfl rfl)
theorem dX1_keeps_17 : decode cX1_keeps 17 = .ok (.putfield 149, 3) := dk_181 0 149 (dk_at dksX1_keeps_0 17 rfl rfl)
theorem dX1_keeps_20 : decode cX1_keeps 20 = .ok (.return_, 1) := dk_177 (dk_at dksX1_keeps_0 20 rfl rfl)
abbrev cX1_edge : ByteArray := prog_1_method_40_code
def yX1_edge : MethodName := ⟨RX1, "edge", "()I"⟩
def dkwX1_edge_2 : List UInt8 := [182, 1, 40, 42, 182, 1, 25, 61, 167, 255, 222, 27, 172]
abbrev dktX1_edge_2 : List UInt8 := dkwX1_edge_2 ++ []
def dkwX1_edge_1 : List UInt8 := [42, 42, 180, 0, 73, 182, 1, 55, 62, 27, 2, 159, 0, 8, 29, 27, 162, 0, 9, 29, 60, 42]
abbrev dktX1_edge_1 : List UInt8 := dkwX1_edge_1 ++ dktX1_edge_2
def dkwX1_edge_0 : List UInt8 := [42, 182, 0, 102, 16, 6, 164, 0, 6, 16, 254, 172, 2, 60, 42, 182, 1, 19, 4, 61, 28, 153, 0, 36]
abbrev dktX1_edge_0 : List UInt8 := dkwX1_edge_0 ++ dktX1_edge_1
theorem dksX1_edge_0 : cX1_edge.data.toList.drop 0 = dktX1_edge_0 := by decide +kernel
theorem dksX1_edge_1 : cX1_edge.data.toList.drop 24 = dktX1_edge_1 := dk_seg dksX1_edge_0 24 rfl rfl
theorem dksX1_edge_2 : cX1_edge.data.toList.drop 46 = dktX1_edge_2 := dk_seg dksX1_edge_1 22 rfl rfl
theorem dX1_edge_0 : decode cX1_edge 0 = .ok (.aload_n 0, 1) := dk_42 (dk_at dksX1_edge_0 0 rfl rfl)
theorem dX1_edge_1 : decode cX1_edge 1 = .ok (.invokevirtual 102, 3) := dk_182 0 102 (dk_at dksX1_edge_0 1 rfl rfl)
theorem dX1_edge_4 : decode cX1_edge 4 = .ok (.bipush 6, 2) := dk_16 6 (dk_at dksX1_edge_0 4 rfl rfl)
theorem dX1_edge_6 : decode cX1_edge 6 = .ok (.if_icmp .le 6, 3) := dk_164 0 6 (dk_at dksX1_edge_0 6 rfl rfl)
theorem dX1_edge_9 : decode cX1_edge 9 = .ok (.bipush (-2), 2) := dk_16 254 (dk_at dksX1_edge_0 9 rfl rfl)
theorem dX1_edge_11 : decode cX1_edge 11 = .ok (.ireturn, 1) := dk_172 (dk_at dksX1_edge_0 11 rfl rfl)
theorem dX1_edge_12 : decode cX1_edge 12 = .ok (.iconst (-1), 1) := dk_2 (dk_at dksX1_edge_0 12 rfl rfl)
theorem dX1_edge_13 : decode cX1_edge 13 = .ok (.istore_n 1, 1) := dk_60 (dk_at dksX1_edge_0 13 rfl rfl)
theorem dX1_edge_14 : decode cX1_edge 14 = .ok (.aload_n 0, 1) := dk_42 (dk_at dksX1_edge_0 14 rfl rfl)
theorem dX1_edge_15 : decode cX1_edge 15 = .ok (.invokevirtual 275, 3) := dk_182 1 19 (dk_at dksX1_edge_0 15 rfl rfl)
theorem dX1_edge_18 : decode cX1_edge 18 = .ok (.iconst 1, 1) := dk_4 (dk_at dksX1_edge_0 18 rfl rfl)
theorem dX1_edge_19 : decode cX1_edge 19 = .ok (.istore_n 2, 1) := dk_61 (dk_at dksX1_edge_0 19 rfl rfl)
theorem dX1_edge_20 : decode cX1_edge 20 = .ok (.iload_n 2, 1) := dk_28 (dk_at dksX1_edge_0 20 rfl rfl)
theorem dX1_edge_21 : decode cX1_edge 21 = .ok (.ifCond .eq 36, 3) := dk_153 0 36 (dk_at dksX1_edge_0 21 rfl rfl)
theorem dX1_edge_24 : decode cX1_edge 24 = .ok (.aload_n 0, 1) := dk_42 (dk_at dksX1_edge_1 0 rfl rfl)
theorem dX1_edge_25 : decode cX1_edge 25 = .ok (.aload_n 0, 1) := dk_42 (dk_at dksX1_edge_1 1 rfl rfl)
theorem dX1_edge_26 : decode cX1_edge 26 = .ok (.getfield 73, 3) := dk_180 0 73 (dk_at dksX1_edge_1 2 rfl rfl)
theorem dX1_edge_29 : decode cX1_edge 29 = .ok (.invokevirtual 311, 3) := dk_182 1 55 (dk_at dksX1_edge_1 5 rfl rfl)
theorem dX1_edge_32 : decode cX1_edge 32 = .ok (.istore_n 3, 1) := dk_62 (dk_at dksX1_edge_1 8 rfl rfl)
theorem dX1_edge_33 : decode cX1_edge 33 = .ok (.iload_n 1, 1) := dk_27 (dk_at dksX1_edge_1 9 rfl rfl)
theorem dX1_edge_34 : decode cX1_edge 34 = .ok (.iconst (-1), 1) := dk_2 (dk_at dksX1_edge_1 10 rfl rfl)
theorem dX1_edge_35 : decode cX1_edge 35 = .ok (.if_icmp .eq 8, 3) := dk_159 0 8 (dk_at dksX1_edge_1 11 rfl rfl)
theorem dX1_edge_38 : decode cX1_edge 38 = .ok (.iload_n 3, 1) := dk_29 (dk_at dksX1_edge_1 14 rfl rfl)
theorem dX1_edge_39 : decode cX1_edge 39 = .ok (.iload_n 1, 1) := dk_27 (dk_at dksX1_edge_1 15 rfl rfl)
theorem dX1_edge_40 : decode cX1_edge 40 = .ok (.if_icmp .ge 9, 3) := dk_162 0 9 (dk_at dksX1_edge_1 16 rfl rfl)
theorem dX1_edge_43 : decode cX1_edge 43 = .ok (.iload_n 3, 1) := dk_29 (dk_at dksX1_edge_1 19 rfl rfl)
theorem dX1_edge_44 : decode cX1_edge 44 = .ok (.istore_n 1, 1) := dk_60 (dk_at dksX1_edge_1 20 rfl rfl)
theorem dX1_edge_45 : decode cX1_edge 45 = .ok (.aload_n 0, 1) := dk_42 (dk_at dksX1_edge_1 21 rfl rfl)
theorem dX1_edge_46 : decode cX1_edge 46 = .ok (.invokevirtual 296, 3) := dk_182 1 40 (dk_at dksX1_edge_2 0 rfl rfl)
theorem dX1_edge_49 : decode cX1_edge 49 = .ok (.aload_n 0, 1) := dk_42 (dk_at dksX1_edge_2 3 rfl rfl)
theorem dX1_edge_50 : decode cX1_edge 50 = .ok (.invokevirtual 281, 3) := dk_182 1 25 (dk_at dksX1_edge_2 4 rfl rfl)
theorem dX1_edge_53 : decode cX1_edge 53 = .ok (.istore_n 2, 1) := dk_61 (dk_at dksX1_edge_2 7 rfl rfl)
theorem dX1_edge_54 : decode cX1_edge 54 = .ok (.goto (-34), 3) := dk_167 255 222 (dk_at dksX1_edge_2 8 rfl rfl)
theorem dX1_edge_57 : decode cX1_edge 57 = .ok (.iload_n 1, 1) := dk_27 (dk_at dksX1_edge_2 11 rfl rfl)
theorem dX1_edge_58 : decode cX1_edge 58 = .ok (.ireturn, 1) := dk_172 (dk_at dksX1_edge_2 12 rfl rfl)
abbrev cX1_goings : ByteArray := prog_1_method_38_code
def yX1_goings : MethodName := ⟨RX1, "goings", "([I)I"⟩
def dkwX1_goings_3 : List UInt8 := [61, 132, 4, 1, 167, 255, 199, 132, 3, 1, 167, 255, 180, 28, 172]
abbrev dktX1_goings_3 : List UInt8 := dkwX1_goings_3 ++ []
def dkwX1_goings_2 : List UInt8 := [153, 0, 25, 28, 42, 180, 0, 10, 180, 0, 92, 43, 29, 46, 182, 0, 108, 192, 0, 112, 180, 0, 210, 96]
abbrev dktX1_goings_2 : List UInt8 := dkwX1_goings_2 ++ dktX1_goings_3
def dkwX1_goings_1 : List UInt8 := [162, 0, 54, 42, 180, 0, 10, 180, 0, 92, 43, 21, 4, 46, 182, 0, 108, 192, 0, 112, 182, 1, 52]
abbrev dktX1_goings_1 : List UInt8 := dkwX1_goings_1 ++ dktX1_goings_2
def dkwX1_goings_0 : List UInt8 := [3, 61, 3, 62, 29, 42, 182, 0, 102, 162, 0, 74, 29, 4, 96, 54, 4, 21, 4, 42, 182, 0, 102]
abbrev dktX1_goings_0 : List UInt8 := dkwX1_goings_0 ++ dktX1_goings_1
theorem dksX1_goings_0 : cX1_goings.data.toList.drop 0 = dktX1_goings_0 := by decide +kernel
theorem dksX1_goings_1 : cX1_goings.data.toList.drop 23 = dktX1_goings_1 := dk_seg dksX1_goings_0 23 rfl rfl
theorem dksX1_goings_2 : cX1_goings.data.toList.drop 46 = dktX1_goings_2 := dk_seg dksX1_goings_1 23 rfl rfl
theorem dksX1_goings_3 : cX1_goings.data.toList.drop 70 = dktX1_goings_3 := dk_seg dksX1_goings_2 24 rfl rfl
theorem dX1_goings_0 : decode cX1_goings 0 = .ok (.iconst 0, 1) := dk_3 (dk_at dksX1_goings_0 0 rfl rfl)
theorem dX1_goings_1 : decode cX1_goings 1 = .ok (.istore_n 2, 1) := dk_61 (dk_at dksX1_goings_0 1 rfl rfl)
theorem dX1_goings_2 : decode cX1_goings 2 = .ok (.iconst 0, 1) := dk_3 (dk_at dksX1_goings_0 2 rfl rfl)
theorem dX1_goings_3 : decode cX1_goings 3 = .ok (.istore_n 3, 1) := dk_62 (dk_at dksX1_goings_0 3 rfl rfl)
theorem dX1_goings_4 : decode cX1_goings 4 = .ok (.iload_n 3, 1) := dk_29 (dk_at dksX1_goings_0 4 rfl rfl)
theorem dX1_goings_5 : decode cX1_goings 5 = .ok (.aload_n 0, 1) := dk_42 (dk_at dksX1_goings_0 5 rfl rfl)
theorem dX1_goings_6 : decode cX1_goings 6 = .ok (.invokevirtual 102, 3) := dk_182 0 102 (dk_at dksX1_goings_0 6 rfl rfl)
theorem dX1_goings_9 : decode cX1_goings 9 = .ok (.if_icmp .ge 74, 3) := dk_162 0 74 (dk_at dksX1_goings_0 9 rfl rfl)
theorem dX1_goings_12 : decode cX1_goings 12 = .ok (.iload_n 3, 1) := dk_29 (dk_at dksX1_goings_0 12 rfl rfl)
theorem dX1_goings_13 : decode cX1_goings 13 = .ok (.iconst 1, 1) := dk_4 (dk_at dksX1_goings_0 13 rfl rfl)
theorem dX1_goings_14 : decode cX1_goings 14 = .ok (.iadd, 1) := dk_96 (dk_at dksX1_goings_0 14 rfl rfl)
theorem dX1_goings_15 : decode cX1_goings 15 = .ok (.istore 4, 2) := dk_54 4 (dk_at dksX1_goings_0 15 rfl rfl)
theorem dX1_goings_17 : decode cX1_goings 17 = .ok (.iload 4, 2) := dk_21 4 (dk_at dksX1_goings_0 17 rfl rfl)
theorem dX1_goings_19 : decode cX1_goings 19 = .ok (.aload_n 0, 1) := dk_42 (dk_at dksX1_goings_0 19 rfl rfl)
theorem dX1_goings_20 : decode cX1_goings 20 = .ok (.invokevirtual 102, 3) := dk_182 0 102 (dk_at dksX1_goings_0 20 rfl rfl)
theorem dX1_goings_23 : decode cX1_goings 23 = .ok (.if_icmp .ge 54, 3) := dk_162 0 54 (dk_at dksX1_goings_1 0 rfl rfl)
theorem dX1_goings_26 : decode cX1_goings 26 = .ok (.aload_n 0, 1) := dk_42 (dk_at dksX1_goings_1 3 rfl rfl)
theorem dX1_goings_27 : decode cX1_goings 27 = .ok (.getfield 10, 3) := dk_180 0 10 (dk_at dksX1_goings_1 4 rfl rfl)
theorem dX1_goings_30 : decode cX1_goings 30 = .ok (.getfield 92, 3) := dk_180 0 92 (dk_at dksX1_goings_1 7 rfl rfl)
theorem dX1_goings_33 : decode cX1_goings 33 = .ok (.aload_n 1, 1) := dk_43 (dk_at dksX1_goings_1 10 rfl rfl)
theorem dX1_goings_34 : decode cX1_goings 34 = .ok (.iload 4, 2) := dk_21 4 (dk_at dksX1_goings_1 11 rfl rfl)
theorem dX1_goings_36 : decode cX1_goings 36 = .ok (.iaload, 1) := dk_46 (dk_at dksX1_goings_1 13 rfl rfl)
theorem dX1_goings_37 : decode cX1_goings 37 = .ok (.invokevirtual 108, 3) := dk_182 0 108 (dk_at dksX1_goings_1 14 rfl rfl)
theorem dX1_goings_40 : decode cX1_goings 40 = .ok (.checkcast 112, 3) := dk_192 0 112 (dk_at dksX1_goings_1 17 rfl rfl)
theorem dX1_goings_43 : decode cX1_goings 43 = .ok (.invokevirtual 308, 3) := dk_182 1 52 (dk_at dksX1_goings_1 20 rfl rfl)
theorem dX1_goings_46 : decode cX1_goings 46 = .ok (.ifCond .eq 25, 3) := dk_153 0 25 (dk_at dksX1_goings_2 0 rfl rfl)
theorem dX1_goings_49 : decode cX1_goings 49 = .ok (.iload_n 2, 1) := dk_28 (dk_at dksX1_goings_2 3 rfl rfl)
theorem dX1_goings_50 : decode cX1_goings 50 = .ok (.aload_n 0, 1) := dk_42 (dk_at dksX1_goings_2 4 rfl rfl)
theorem dX1_goings_51 : decode cX1_goings 51 = .ok (.getfield 10, 3) := dk_180 0 10 (dk_at dksX1_goings_2 5 rfl rfl)
theorem dX1_goings_54 : decode cX1_goings 54 = .ok (.getfield 92, 3) := dk_180 0 92 (dk_at dksX1_goings_2 8 rfl rfl)
theorem dX1_goings_57 : decode cX1_goings 57 = .ok (.aload_n 1, 1) := dk_43 (dk_at dksX1_goings_2 11 rfl rfl)
theorem dX1_goings_58 : decode cX1_goings 58 = .ok (.iload_n 3, 1) := dk_29 (dk_at dksX1_goings_2 12 rfl rfl)
theorem dX1_goings_59 : decode cX1_goings 59 = .ok (.iaload, 1) := dk_46 (dk_at dksX1_goings_2 13 rfl rfl)
theorem dX1_goings_60 : decode cX1_goings 60 = .ok (.invokevirtual 108, 3) := dk_182 0 108 (dk_at dksX1_goings_2 14 rfl rfl)
theorem dX1_goings_63 : decode cX1_goings 63 = .ok (.checkcast 112, 3) := dk_192 0 112 (dk_at dksX1_goings_2 17 rfl rfl)
theorem dX1_goings_66 : decode cX1_goings 66 = .ok (.getfield 210, 3) := dk_180 0 210 (dk_at dksX1_goings_2 20 rfl rfl)
theorem dX1_goings_69 : decode cX1_goings 69 = .ok (.iadd, 1) := dk_96 (dk_at dksX1_goings_2 23 rfl rfl)
theorem dX1_goings_70 : decode cX1_goings 70 = .ok (.istore_n 2, 1) := dk_61 (dk_at dksX1_goings_3 0 rfl rfl)
theorem dX1_goings_71 : decode cX1_goings 71 = .ok (.iinc 4 1, 3) := dk_132 4 1 (dk_at dksX1_goings_3 1 rfl rfl)
theorem dX1_goings_74 : decode cX1_goings 74 = .ok (.goto (-57), 3) := dk_167 255 199 (dk_at dksX1_goings_3 4 rfl rfl)
theorem dX1_goings_77 : decode cX1_goings 77 = .ok (.iinc 3 1, 3) := dk_132 3 1 (dk_at dksX1_goings_3 7 rfl rfl)
theorem dX1_goings_80 : decode cX1_goings 80 = .ok (.goto (-76), 3) := dk_167 255 180 (dk_at dksX1_goings_3 10 rfl rfl)
theorem dX1_goings_83 : decode cX1_goings 83 = .ok (.iload_n 2, 1) := dk_28 (dk_at dksX1_goings_3 13 rfl rfl)
theorem dX1_goings_84 : decode cX1_goings 84 = .ok (.ireturn, 1) := dk_172 (dk_at dksX1_goings_3 14 rfl rfl)
abbrev cX1_forget : ByteArray := prog_1_method_43_code
def yX1_forget : MethodName := ⟨RX1, "forget", "()I"⟩
def dkwX1_forget_1 : List UInt8 := [181, 0, 146, 42, 180, 0, 19, 180, 0, 146, 172]
abbrev dktX1_forget_1 : List UInt8 := dkwX1_forget_1 ++ []
def dkwX1_forget_0 : List UInt8 := [42, 180, 0, 19, 180, 0, 146, 154, 0, 5, 2, 172, 42, 180, 0, 19, 89, 180, 0, 146, 4, 100]
abbrev dktX1_forget_0 : List UInt8 := dkwX1_forget_0 ++ dktX1_forget_1
theorem dksX1_forget_0 : cX1_forget.data.toList.drop 0 = dktX1_forget_0 := by decide +kernel
theorem dksX1_forget_1 : cX1_forget.data.toList.drop 22 = dktX1_forget_1 := dk_seg dksX1_forget_0 22 rfl rfl
theorem dX1_forget_0 : decode cX1_forget 0 = .ok (.aload_n 0, 1) := dk_42 (dk_at dksX1_forget_0 0 rfl rfl)
theorem dX1_forget_1 : decode cX1_forget 1 = .ok (.getfield 19, 3) := dk_180 0 19 (dk_at dksX1_forget_0 1 rfl rfl)
theorem dX1_forget_4 : decode cX1_forget 4 = .ok (.getfield 146, 3) := dk_180 0 146 (dk_at dksX1_forget_0 4 rfl rfl)
theorem dX1_forget_7 : decode cX1_forget 7 = .ok (.ifCond .ne 5, 3) := dk_154 0 5 (dk_at dksX1_forget_0 7 rfl rfl)
theorem dX1_forget_10 : decode cX1_forget 10 = .ok (.iconst (-1), 1) := dk_2 (dk_at dksX1_forget_0 10 rfl rfl)
theorem dX1_forget_11 : decode cX1_forget 11 = .ok (.ireturn, 1) := dk_172 (dk_at dksX1_forget_0 11 rfl rfl)
theorem dX1_forget_12 : decode cX1_forget 12 = .ok (.aload_n 0, 1) := dk_42 (dk_at dksX1_forget_0 12 rfl rfl)
theorem dX1_forget_13 : decode cX1_forget 13 = .ok (.getfield 19, 3) := dk_180 0 19 (dk_at dksX1_forget_0 13 rfl rfl)
theorem dX1_forget_16 : decode cX1_forget 16 = .ok (.dup, 1) := dk_89 (dk_at dksX1_forget_0 16 rfl rfl)
theorem dX1_forget_17 : decode cX1_forget 17 = .ok (.getfield 146, 3) := dk_180 0 146 (dk_at dksX1_forget_0 17 rfl rfl)
theorem dX1_forget_20 : decode cX1_forget 20 = .ok (.iconst 1, 1) := dk_4 (dk_at dksX1_forget_0 20 rfl rfl)
theorem dX1_forget_21 : decode cX1_forget 21 = .ok (.isub, 1) := dk_100 (dk_at dksX1_forget_0 21 rfl rfl)
theorem dX1_forget_22 : decode cX1_forget 22 = .ok (.putfield 146, 3) := dk_181 0 146 (dk_at dksX1_forget_1 0 rfl rfl)
theorem dX1_forget_25 : decode cX1_forget 25 = .ok (.aload_n 0, 1) := dk_42 (dk_at dksX1_forget_1 3 rfl rfl)
theorem dX1_forget_26 : decode cX1_forget 26 = .ok (.getfield 19, 3) := dk_180 0 19 (dk_at dksX1_forget_1 4 rfl rfl)
theorem dX1_forget_29 : decode cX1_forget 29 = .ok (.getfield 146, 3) := dk_180 0 146 (dk_at dksX1_forget_1 7 rfl rfl)
theorem dX1_forget_32 : decode cX1_forget 32 = .ok (.ireturn, 1) := dk_172 (dk_at dksX1_forget_1 10 rfl rfl)
abbrev cX1_image : ByteArray := prog_1_method_50_code
def yX1_image : MethodName := ⟨RX1, "image", "()V"⟩
def dkwX1_image_0 : List UInt8 := [42, 180, 0, 23, 42, 180, 0, 19, 182, 1, 101, 42, 4, 181, 0, 153, 177]
abbrev dktX1_image_0 : List UInt8 := dkwX1_image_0 ++ []
theorem dksX1_image_0 : cX1_image.data.toList.drop 0 = dktX1_image_0 := by decide +kernel
theorem dX1_image_0 : decode cX1_image 0 = .ok (.aload_n 0, 1) := dk_42 (dk_at dksX1_image_0 0 rfl rfl)
theorem dX1_image_1 : decode cX1_image 1 = .ok (.getfield 23, 3) := dk_180 0 23 (dk_at dksX1_image_0 1 rfl rfl)
theorem dX1_image_4 : decode cX1_image 4 = .ok (.aload_n 0, 1) := dk_42 (dk_at dksX1_image_0 4 rfl rfl)
theorem dX1_image_5 : decode cX1_image 5 = .ok (.getfield 19, 3) := dk_180 0 19 (dk_at dksX1_image_0 5 rfl rfl)
theorem dX1_image_8 : decode cX1_image 8 = .ok (.invokevirtual 357, 3) := dk_182 1 101 (dk_at dksX1_image_0 8 rfl rfl)
theorem dX1_image_11 : decode cX1_image 11 = .ok (.aload_n 0, 1) := dk_42 (dk_at dksX1_image_0 11 rfl rfl)
theorem dX1_image_12 : decode cX1_image 12 = .ok (.iconst 1, 1) := dk_4 (dk_at dksX1_image_0 12 rfl rfl)
theorem dX1_image_13 : decode cX1_image 13 = .ok (.putfield 153, 3) := dk_181 0 153 (dk_at dksX1_image_0 13 rfl rfl)
theorem dX1_image_16 : decode cX1_image 16 = .ok (.return_, 1) := dk_177 (dk_at dksX1_image_0 16 rfl rfl)
abbrev cX1_restore : ByteArray := prog_1_method_51_code
def yX1_restore : MethodName := ⟨RX1, "restore", "()Z"⟩
def dkwX1_restore_0 : List UInt8 := [42, 180, 0, 153, 154, 0, 5, 3, 172, 42, 180, 0, 19, 42, 180, 0, 23, 182, 1, 101, 4, 172]
abbrev dktX1_restore_0 : List UInt8 := dkwX1_restore_0 ++ []
theorem dksX1_restore_0 : cX1_restore.data.toList.drop 0 = dktX1_restore_0 := by decide +kernel
theorem dX1_restore_0 : decode cX1_restore 0 = .ok (.aload_n 0, 1) := dk_42 (dk_at dksX1_restore_0 0 rfl rfl)
theorem dX1_restore_1 : decode cX1_restore 1 = .ok (.getfield 153, 3) := dk_180 0 153 (dk_at dksX1_restore_0 1 rfl rfl)
theorem dX1_restore_4 : decode cX1_restore 4 = .ok (.ifCond .ne 5, 3) := dk_154 0 5 (dk_at dksX1_restore_0 4 rfl rfl)
theorem dX1_restore_7 : decode cX1_restore 7 = .ok (.iconst 0, 1) := dk_3 (dk_at dksX1_restore_0 7 rfl rfl)
theorem dX1_restore_8 : decode cX1_restore 8 = .ok (.ireturn, 1) := dk_172 (dk_at dksX1_restore_0 8 rfl rfl)
theorem dX1_restore_9 : decode cX1_restore 9 = .ok (.aload_n 0, 1) := dk_42 (dk_at dksX1_restore_0 9 rfl rfl)
theorem dX1_restore_10 : decode cX1_restore 10 = .ok (.getfield 19, 3) := dk_180 0 19 (dk_at dksX1_restore_0 10 rfl rfl)
theorem dX1_restore_13 : decode cX1_restore 13 = .ok (.aload_n 0, 1) := dk_42 (dk_at dksX1_restore_0 13 rfl rfl)
theorem dX1_restore_14 : decode cX1_restore 14 = .ok (.getfield 23, 3) := dk_180 0 23 (dk_at dksX1_restore_0 14 rfl rfl)
theorem dX1_restore_17 : decode cX1_restore 17 = .ok (.invokevirtual 357, 3) := dk_182 1 101 (dk_at dksX1_restore_0 17 rfl rfl)
theorem dX1_restore_20 : decode cX1_restore 20 = .ok (.iconst 1, 1) := dk_4 (dk_at dksX1_restore_0 20 rfl rfl)
theorem dX1_restore_21 : decode cX1_restore 21 = .ok (.ireturn, 1) := dk_172 (dk_at dksX1_restore_0 21 rfl rfl)
abbrev cX1_bed : ByteArray := prog_1_method_9_code
def yX1_bed : MethodName := ⟨RX1, "bed", "(I)I"⟩
def dkwX1_bed_8 : List UInt8 := [181, 0, 153, 3, 172]
abbrev dktX1_bed_8 : List UInt8 := dkwX1_bed_8 ++ []
def dkwX1_bed_7 : List UInt8 := [180, 0, 19, 3, 181, 0, 143, 42, 180, 0, 19, 3, 181, 0, 146, 42, 3, 181, 0, 149, 42, 3]
abbrev dktX1_bed_7 : List UInt8 := dkwX1_bed_7 ++ dktX1_bed_8
def dkwX1_bed_6 : List UInt8 := [180, 0, 50, 42, 180, 0, 50, 42, 180, 0, 50, 42, 180, 0, 50, 183, 0, 55, 181, 0, 62, 42]
abbrev dktX1_bed_6 : List UInt8 := dkwX1_bed_6 ++ dktX1_bed_7
def dkwX1_bed_5 : List UInt8 := [180, 0, 47, 183, 0, 55, 181, 0, 58, 42, 187, 0, 53, 89, 42, 180, 0, 10, 42, 180, 0, 34, 42]
abbrev dktX1_bed_5 : List UInt8 := dkwX1_bed_5 ++ dktX1_bed_6
def dkwX1_bed_4 : List UInt8 := [89, 42, 180, 0, 10, 42, 180, 0, 30, 42, 180, 0, 37, 42, 180, 0, 41, 42, 180, 0, 44, 42]
abbrev dktX1_bed_4 : List UInt8 := dkwX1_bed_4 ++ dktX1_bed_5
def dkwX1_bed_3 : List UInt8 := [46, 4, 96, 79, 44, 180, 0, 140, 172, 42, 180, 0, 30, 42, 180, 0, 10, 182, 0, 82, 42, 187, 0, 53]
abbrev dktX1_bed_3 : List UInt8 := dkwX1_bed_3 ++ dktX1_bed_4
def dkwX1_bed_2 : List UInt8 := [181, 0, 10, 167, 0, 30, 77, 42, 44, 180, 0, 134, 181, 0, 69, 42, 180, 0, 19, 180, 0, 137, 3, 92]
abbrev dktX1_bed_2 : List UInt8 := dkwX1_bed_2 ++ dktX1_bed_3
def dkwX1_bed_1 : List UInt8 := [181, 0, 114, 42, 2, 181, 0, 69, 42, 187, 0, 124, 89, 42, 180, 0, 65, 27, 183, 0, 126, 182, 0, 129]
abbrev dktX1_bed_1 : List UInt8 := dkwX1_bed_1 ++ dktX1_bed_2
def dkwX1_bed_0 : List UInt8 := [27, 155, 0, 15, 27, 42, 180, 0, 114, 163, 0, 7, 4, 167, 0, 4, 3, 184, 0, 121, 42, 3]
abbrev dktX1_bed_0 : List UInt8 := dkwX1_bed_0 ++ dktX1_bed_1
theorem dksX1_bed_0 : cX1_bed.data.toList.drop 0 = dktX1_bed_0 := by decide +kernel
theorem dksX1_bed_1 : cX1_bed.data.toList.drop 22 = dktX1_bed_1 := dk_seg dksX1_bed_0 22 rfl rfl
theorem dksX1_bed_2 : cX1_bed.data.toList.drop 46 = dktX1_bed_2 := dk_seg dksX1_bed_1 24 rfl rfl
theorem dksX1_bed_3 : cX1_bed.data.toList.drop 70 = dktX1_bed_3 := dk_seg dksX1_bed_2 24 rfl rfl
theorem dksX1_bed_4 : cX1_bed.data.toList.drop 94 = dktX1_bed_4 := dk_seg dksX1_bed_3 24 rfl rfl
theorem dksX1_bed_5 : cX1_bed.data.toList.drop 116 = dktX1_bed_5 := dk_seg dksX1_bed_4 22 rfl rfl
theorem dksX1_bed_6 : cX1_bed.data.toList.drop 139 = dktX1_bed_6 := dk_seg dksX1_bed_5 23 rfl rfl
theorem dksX1_bed_7 : cX1_bed.data.toList.drop 161 = dktX1_bed_7 := dk_seg dksX1_bed_6 22 rfl rfl
theorem dksX1_bed_8 : cX1_bed.data.toList.drop 183 = dktX1_bed_8 := dk_seg dksX1_bed_7 22 rfl rfl
theorem dX1_bed_0 : decode cX1_bed 0 = .ok (.iload_n 1, 1) := dk_27 (dk_at dksX1_bed_0 0 rfl rfl)
theorem dX1_bed_1 : decode cX1_bed 1 = .ok (.ifCond .lt 15, 3) := dk_155 0 15 (dk_at dksX1_bed_0 1 rfl rfl)
theorem dX1_bed_4 : decode cX1_bed 4 = .ok (.iload_n 1, 1) := dk_27 (dk_at dksX1_bed_0 4 rfl rfl)
theorem dX1_bed_5 : decode cX1_bed 5 = .ok (.aload_n 0, 1) := dk_42 (dk_at dksX1_bed_0 5 rfl rfl)
theorem dX1_bed_6 : decode cX1_bed 6 = .ok (.getfield 114, 3) := dk_180 0 114 (dk_at dksX1_bed_0 6 rfl rfl)
theorem dX1_bed_9 : decode cX1_bed 9 = .ok (.if_icmp .gt 7, 3) := dk_163 0 7 (dk_at dksX1_bed_0 9 rfl rfl)
theorem dX1_bed_12 : decode cX1_bed 12 = .ok (.iconst 1, 1) := dk_4 (dk_at dksX1_bed_0 12 rfl rfl)
theorem dX1_bed_13 : decode cX1_bed 13 = .ok (.goto 4, 3) := dk_167 0 4 (dk_at dksX1_bed_0 13 rfl rfl)
theorem dX1_bed_16 : decode cX1_bed 16 = .ok (.iconst 0, 1) := dk_3 (dk_at dksX1_bed_0 16 rfl rfl)
theorem dX1_bed_17 : decode cX1_bed 17 = .ok (.invokestatic 121, 3) := dk_184 0 121 (dk_at dksX1_bed_0 17 rfl rfl)
theorem dX1_bed_20 : decode cX1_bed 20 = .ok (.aload_n 0, 1) := dk_42 (dk_at dksX1_bed_0 20 rfl rfl)
theorem dX1_bed_21 : decode cX1_bed 21 = .ok (.iconst 0, 1) := dk_3 (dk_at dksX1_bed_0 21 rfl rfl)
theorem dX1_bed_22 : decode cX1_bed 22 = .ok (.putfield 114, 3) := dk_181 0 114 (dk_at dksX1_bed_1 0 rfl rfl)
theorem dX1_bed_25 : decode cX1_bed 25 = .ok (.aload_n 0, 1) := dk_42 (dk_at dksX1_bed_1 3 rfl rfl)
theorem dX1_bed_26 : decode cX1_bed 26 = .ok (.iconst (-1), 1) := dk_2 (dk_at dksX1_bed_1 4 rfl rfl)
theorem dX1_bed_27 : decode cX1_bed 27 = .ok (.putfield 69, 3) := dk_181 0 69 (dk_at dksX1_bed_1 5 rfl rfl)
theorem dX1_bed_30 : decode cX1_bed 30 = .ok (.aload_n 0, 1) := dk_42 (dk_at dksX1_bed_1 8 rfl rfl)
theorem dX1_bed_31 : decode cX1_bed 31 = .ok (.new 124, 3) := dk_187 0 124 (dk_at dksX1_bed_1 9 rfl rfl)
theorem dX1_bed_34 : decode cX1_bed 34 = .ok (.dup, 1) := dk_89 (dk_at dksX1_bed_1 12 rfl rfl)
theorem dX1_bed_35 : decode cX1_bed 35 = .ok (.aload_n 0, 1) := dk_42 (dk_at dksX1_bed_1 13 rfl rfl)
theorem dX1_bed_36 : decode cX1_bed 36 = .ok (.getfield 65, 3) := dk_180 0 65 (dk_at dksX1_bed_1 14 rfl rfl)
theorem dX1_bed_39 : decode cX1_bed 39 = .ok (.iload_n 1, 1) := dk_27 (dk_at dksX1_bed_1 17 rfl rfl)
theorem dX1_bed_40 : decode cX1_bed 40 = .ok (.invokespecial 126, 3) := dk_183 0 126 (dk_at dksX1_bed_1 18 rfl rfl)
theorem dX1_bed_43 : decode cX1_bed 43 = .ok (.invokevirtual 129, 3) := dk_182 0 129 (dk_at dksX1_bed_1 21 rfl rfl)
theorem dX1_bed_46 : decode cX1_bed 46 = .ok (.putfield 10, 3) := dk_181 0 10 (dk_at dksX1_bed_2 0 rfl rfl)
theorem dX1_bed_49 : decode cX1_bed 49 = .ok (.goto 30, 3) := dk_167 0 30 (dk_at dksX1_bed_2 3 rfl rfl)
theorem dX1_bed_52 : decode cX1_bed 52 = .ok (.astore_n 2, 1) := dk_77 (dk_at dksX1_bed_2 6 rfl rfl)
theorem dX1_bed_53 : decode cX1_bed 53 = .ok (.aload_n 0, 1) := dk_42 (dk_at dksX1_bed_2 7 rfl rfl)
theorem dX1_bed_54 : decode cX1_bed 54 = .ok (.aload_n 2, 1) := dk_44 (dk_at dksX1_bed_2 8 rfl rfl)
theorem dX1_bed_55 : decode cX1_bed 55 = .ok (.getfield 134, 3) := dk_180 0 134 (dk_at dksX1_bed_2 9 rfl rfl)
theorem dX1_bed_58 : decode cX1_bed 58 = .ok (.putfield 69, 3) := dk_181 0 69 (dk_at dksX1_bed_2 12 rfl rfl)
theorem dX1_bed_61 : decode cX1_bed 61 = .ok (.aload_n 0, 1) := dk_42 (dk_at dksX1_bed_2 15 rfl rfl)
theorem dX1_bed_62 : decode cX1_bed 62 = .ok (.getfield 19, 3) := dk_180 0 19 (dk_at dksX1_bed_2 16 rfl rfl)
theorem dX1_bed_65 : decode cX1_bed 65 = .ok (.getfield 137, 3) := dk_180 0 137 (dk_at dksX1_bed_2 19 rfl rfl)
theorem dX1_bed_68 : decode cX1_bed 68 = .ok (.iconst 0, 1) := dk_3 (dk_at dksX1_bed_2 22 rfl rfl)
theorem dX1_bed_69 : decode cX1_bed 69 = .ok (.dup2, 1) := dk_92 (dk_at dksX1_bed_2 23 rfl rfl)
theorem dX1_bed_70 : decode cX1_bed 70 = .ok (.iaload, 1) := dk_46 (dk_at dksX1_bed_3 0 rfl rfl)
theorem dX1_bed_71 : decode cX1_bed 71 = .ok (.iconst 1, 1) := dk_4 (dk_at dksX1_bed_3 1 rfl rfl)
theorem dX1_bed_72 : decode cX1_bed 72 = .ok (.iadd, 1) := dk_96 (dk_at dksX1_bed_3 2 rfl rfl)
theorem dX1_bed_73 : decode cX1_bed 73 = .ok (.iastore, 1) := dk_79 (dk_at dksX1_bed_3 3 rfl rfl)
theorem dX1_bed_74 : decode cX1_bed 74 = .ok (.aload_n 2, 1) := dk_44 (dk_at dksX1_bed_3 4 rfl rfl)
theorem dX1_bed_75 : decode cX1_bed 75 = .ok (.getfield 140, 3) := dk_180 0 140 (dk_at dksX1_bed_3 5 rfl rfl)
theorem dX1_bed_78 : decode cX1_bed 78 = .ok (.ireturn, 1) := dk_172 (dk_at dksX1_bed_3 8 rfl rfl)
theorem dX1_bed_79 : decode cX1_bed 79 = .ok (.aload_n 0, 1) := dk_42 (dk_at dksX1_bed_3 9 rfl rfl)
theorem dX1_bed_80 : decode cX1_bed 80 = .ok (.getfield 30, 3) := dk_180 0 30 (dk_at dksX1_bed_3 10 rfl rfl)
theorem dX1_bed_83 : decode cX1_bed 83 = .ok (.aload_n 0, 1) := dk_42 (dk_at dksX1_bed_3 13 rfl rfl)
theorem dX1_bed_84 : decode cX1_bed 84 = .ok (.getfield 10, 3) := dk_180 0 10 (dk_at dksX1_bed_3 14 rfl rfl)
theorem dX1_bed_87 : decode cX1_bed 87 = .ok (.invokevirtual 82, 3) := dk_182 0 82 (dk_at dksX1_bed_3 17 rfl rfl)
theorem dX1_bed_90 : decode cX1_bed 90 = .ok (.aload_n 0, 1) := dk_42 (dk_at dksX1_bed_3 20 rfl rfl)
theorem dX1_bed_91 : decode cX1_bed 91 = .ok (.new 53, 3) := dk_187 0 53 (dk_at dksX1_bed_3 21 rfl rfl)
theorem dX1_bed_94 : decode cX1_bed 94 = .ok (.dup, 1) := dk_89 (dk_at dksX1_bed_4 0 rfl rfl)
theorem dX1_bed_95 : decode cX1_bed 95 = .ok (.aload_n 0, 1) := dk_42 (dk_at dksX1_bed_4 1 rfl rfl)
theorem dX1_bed_96 : decode cX1_bed 96 = .ok (.getfield 10, 3) := dk_180 0 10 (dk_at dksX1_bed_4 2 rfl rfl)
theorem dX1_bed_99 : decode cX1_bed 99 = .ok (.aload_n 0, 1) := dk_42 (dk_at dksX1_bed_4 5 rfl rfl)
theorem dX1_bed_100 : decode cX1_bed 100 = .ok (.getfield 30, 3) := dk_180 0 30 (dk_at dksX1_bed_4 6 rfl rfl)
theorem dX1_bed_103 : decode cX1_bed 103 = .ok (.aload_n 0, 1) := dk_42 (dk_at dksX1_bed_4 9 rfl rfl)
theorem dX1_bed_104 : decode cX1_bed 104 = .ok (.getfield 37, 3) := dk_180 0 37 (dk_at dksX1_bed_4 10 rfl rfl)
theorem dX1_bed_107 : decode cX1_bed 107 = .ok (.aload_n 0, 1) := dk_42 (dk_at dksX1_bed_4 13 rfl rfl)
theorem dX1_bed_108 : decode cX1_bed 108 = .ok (.getfield 41, 3) := dk_180 0 41 (dk_at dksX1_bed_4 14 rfl rfl)
theorem dX1_bed_111 : decode cX1_bed 111 = .ok (.aload_n 0, 1) := dk_42 (dk_at dksX1_bed_4 17 rfl rfl)
theorem dX1_bed_112 : decode cX1_bed 112 = .ok (.getfield 44, 3) := dk_180 0 44 (dk_at dksX1_bed_4 18 rfl rfl)
theorem dX1_bed_115 : decode cX1_bed 115 = .ok (.aload_n 0, 1) := dk_42 (dk_at dksX1_bed_4 21 rfl rfl)
theorem dX1_bed_116 : decode cX1_bed 116 = .ok (.getfield 47, 3) := dk_180 0 47 (dk_at dksX1_bed_5 0 rfl rfl)
theorem dX1_bed_119 : decode cX1_bed 119 = .ok (.invokespecial 55, 3) := dk_183 0 55 (dk_at dksX1_bed_5 3 rfl rfl)
theorem dX1_bed_122 : decode cX1_bed 122 = .ok (.putfield 58, 3) := dk_181 0 58 (dk_at dksX1_bed_5 6 rfl rfl)
theorem dX1_bed_125 : decode cX1_bed 125 = .ok (.aload_n 0, 1) := dk_42 (dk_at dksX1_bed_5 9 rfl rfl)
theorem dX1_bed_126 : decode cX1_bed 126 = .ok (.new 53, 3) := dk_187 0 53 (dk_at dksX1_bed_5 10 rfl rfl)
theorem dX1_bed_129 : decode cX1_bed 129 = .ok (.dup, 1) := dk_89 (dk_at dksX1_bed_5 13 rfl rfl)
theorem dX1_bed_130 : decode cX1_bed 130 = .ok (.aload_n 0, 1) := dk_42 (dk_at dksX1_bed_5 14 rfl rfl)
theorem dX1_bed_131 : decode cX1_bed 131 = .ok (.getfield 10, 3) := dk_180 0 10 (dk_at dksX1_bed_5 15 rfl rfl)
theorem dX1_bed_134 : decode cX1_bed 134 = .ok (.aload_n 0, 1) := dk_42 (dk_at dksX1_bed_5 18 rfl rfl)
theorem dX1_bed_135 : decode cX1_bed 135 = .ok (.getfield 34, 3) := dk_180 0 34 (dk_at dksX1_bed_5 19 rfl rfl)
theorem dX1_bed_138 : decode cX1_bed 138 = .ok (.aload_n 0, 1) := dk_42 (dk_at dksX1_bed_5 22 rfl rfl)
theorem dX1_bed_139 : decode cX1_bed 139 = .ok (.getfield 50, 3) := dk_180 0 50 (dk_at dksX1_bed_6 0 rfl rfl)
theorem dX1_bed_142 : decode cX1_bed 142 = .ok (.aload_n 0, 1) := dk_42 (dk_at dksX1_bed_6 3 rfl rfl)
theorem dX1_bed_143 : decode cX1_bed 143 = .ok (.getfield 50, 3) := dk_180 0 50 (dk_at dksX1_bed_6 4 rfl rfl)
theorem dX1_bed_146 : decode cX1_bed 146 = .ok (.aload_n 0, 1) := dk_42 (dk_at dksX1_bed_6 7 rfl rfl)
theorem dX1_bed_147 : decode cX1_bed 147 = .ok (.getfield 50, 3) := dk_180 0 50 (dk_at dksX1_bed_6 8 rfl rfl)
theorem dX1_bed_150 : decode cX1_bed 150 = .ok (.aload_n 0, 1) := dk_42 (dk_at dksX1_bed_6 11 rfl rfl)
theorem dX1_bed_151 : decode cX1_bed 151 = .ok (.getfield 50, 3) := dk_180 0 50 (dk_at dksX1_bed_6 12 rfl rfl)
theorem dX1_bed_154 : decode cX1_bed 154 = .ok (.invokespecial 55, 3) := dk_183 0 55 (dk_at dksX1_bed_6 15 rfl rfl)
theorem dX1_bed_157 : decode cX1_bed 157 = .ok (.putfield 62, 3) := dk_181 0 62 (dk_at dksX1_bed_6 18 rfl rfl)
theorem dX1_bed_160 : decode cX1_bed 160 = .ok (.aload_n 0, 1) := dk_42 (dk_at dksX1_bed_6 21 rfl rfl)
theorem dX1_bed_161 : decode cX1_bed 161 = .ok (.getfield 19, 3) := dk_180 0 19 (dk_at dksX1_bed_7 0 rfl rfl)
theorem dX1_bed_164 : decode cX1_bed 164 = .ok (.iconst 0, 1) := dk_3 (dk_at dksX1_bed_7 3 rfl rfl)
theorem dX1_bed_165 : decode cX1_bed 165 = .ok (.putfield 143, 3) := dk_181 0 143 (dk_at dksX1_bed_7 4 rfl rfl)
theorem dX1_bed_168 : decode cX1_bed 168 = .ok (.aload_n 0, 1) := dk_42 (dk_at dksX1_bed_7 7 rfl rfl)
theorem dX1_bed_169 : decode cX1_bed 169 = .ok (.getfield 19, 3) := dk_180 0 19 (dk_at dksX1_bed_7 8 rfl rfl)
theorem dX1_bed_172 : decode cX1_bed 172 = .ok (.iconst 0, 1) := dk_3 (dk_at dksX1_bed_7 11 rfl rfl)
theorem dX1_bed_173 : decode cX1_bed 173 = .ok (.putfield 146, 3) := dk_181 0 146 (dk_at dksX1_bed_7 12 rfl rfl)
theorem dX1_bed_176 : decode cX1_bed 176 = .ok (.aload_n 0, 1) := dk_42 (dk_at dksX1_bed_7 15 rfl rfl)
theorem dX1_bed_177 : decode cX1_bed 177 = .ok (.iconst 0, 1) := dk_3 (dk_at dksX1_bed_7 16 rfl rfl)
theorem dX1_bed_178 : decode cX1_bed 178 = .ok (.putfield 149, 3) := dk_181 0 149 (dk_at dksX1_bed_7 17 rfl rfl)
theorem dX1_bed_181 : decode cX1_bed 181 = .ok (.aload_n 0, 1) := dk_42 (dk_at dksX1_bed_7 20 rfl rfl)
theorem dX1_bed_182 : decode cX1_bed 182 = .ok (.iconst 0, 1) := dk_3 (dk_at dksX1_bed_7 21 rfl rfl)
theorem dX1_bed_183 : decode cX1_bed 183 = .ok (.putfield 153, 3) := dk_181 0 153 (dk_at dksX1_bed_8 0 rfl rfl)
theorem dX1_bed_186 : decode cX1_bed 186 = .ok (.iconst 0, 1) := dk_3 (dk_at dksX1_bed_8 3 rfl rfl)
theorem dX1_bed_187 : decode cX1_bed 187 = .ok (.ireturn, 1) := dk_172 (dk_at dksX1_bed_8 4 rfl rfl)
abbrev cX1_right : ByteArray := prog_1_method_2_code
def yX1_right : MethodName := ⟨RX1, "right", "(Z)V"⟩
def dkwX1_right_0 : List UInt8 := [26, 154, 0, 11, 187, 0, 86, 89, 183, 0, 88, 191, 177]
abbrev dktX1_right_0 : List UInt8 := dkwX1_right_0 ++ []
theorem dksX1_right_0 : cX1_right.data.toList.drop 0 = dktX1_right_0 := by decide +kernel
theorem dX1_right_0 : decode cX1_right 0 = .ok (.iload_n 0, 1) := dk_26 (dk_at dksX1_right_0 0 rfl rfl)
theorem dX1_right_1 : decode cX1_right 1 = .ok (.ifCond .ne 11, 3) := dk_154 0 11 (dk_at dksX1_right_0 1 rfl rfl)
theorem dX1_right_4 : decode cX1_right 4 = .ok (.new 86, 3) := dk_187 0 86 (dk_at dksX1_right_0 4 rfl rfl)
theorem dX1_right_7 : decode cX1_right 7 = .ok (.dup, 1) := dk_89 (dk_at dksX1_right_0 7 rfl rfl)
theorem dX1_right_8 : decode cX1_right 8 = .ok (.invokespecial 88, 3) := dk_183 0 88 (dk_at dksX1_right_0 8 rfl rfl)
theorem dX1_right_11 : decode cX1_right 11 = .ok (.athrow, 1) := dk_191 (dk_at dksX1_right_0 11 rfl rfl)
theorem dX1_right_12 : decode cX1_right 12 = .ok (.return_, 1) := dk_177 (dk_at dksX1_right_0 12 rfl rfl)
abbrev cX1_count : ByteArray := prog_1_method_11_code
def yX1_count : MethodName := ⟨RX1, "count", "(I)I"⟩
def dkwX1_count_7 : List UInt8 := [180, 0, 137, 27, 16, 14, 100, 46, 172]
abbrev dktX1_count_7 : List UInt8 := dkwX1_count_7 ++ []
def dkwX1_count_6 : List UInt8 := [180, 0, 19, 180, 0, 143, 172, 42, 180, 0, 19, 180, 0, 146, 172, 42, 180, 0, 114, 172, 42, 180, 0, 19]
abbrev dktX1_count_6 : List UInt8 := dkwX1_count_6 ++ dktX1_count_7
def dkwX1_count_5 : List UInt8 := [180, 0, 30, 180, 0, 184, 172, 42, 180, 0, 30, 180, 0, 187, 153, 0, 7, 4, 167, 0, 4, 3, 172, 42]
abbrev dktX1_count_5 : List UInt8 := dkwX1_count_5 ++ dktX1_count_6
def dkwX1_count_4 : List UInt8 := [180, 0, 10, 180, 0, 175, 172, 42, 180, 0, 30, 180, 0, 178, 172, 42, 180, 0, 30, 180, 0, 181, 172, 42]
abbrev dktX1_count_4 : List UInt8 := dkwX1_count_4 ++ dktX1_count_5
def dkwX1_count_3 : List UInt8 := [180, 0, 10, 180, 0, 166, 172, 42, 180, 0, 10, 180, 0, 169, 172, 42, 180, 0, 30, 180, 0, 172, 172, 42]
abbrev dktX1_count_3 : List UInt8 := dkwX1_count_3 ++ dktX1_count_4
def dkwX1_count_2 : List UInt8 := [42, 182, 0, 102, 172, 42, 180, 0, 10, 180, 0, 160, 172, 42, 180, 0, 10, 180, 0, 163, 172, 42]
abbrev dktX1_count_2 : List UInt8 := dkwX1_count_2 ++ dktX1_count_3
def dkwX1_count_1 : List UInt8 := [170, 0, 0, 0, 183, 0, 0, 0, 0, 0, 0, 0, 13, 0, 0, 0, 69, 0, 0, 0, 74, 0, 0, 0, 82, 0, 0, 0, 90, 0, 0, 0, 98, 0, 0, 0, 106, 0, 0, 0, 114, 0, 0, 0, 122, 0, 0, 0, 130, 0, 0, 0, 138, 0, 0, 0, 146, 0, 0, 0, 162, 0, 0, 0, 170, 0, 0, 0, 178]
abbrev dktX1_count_1 : List UInt8 := dkwX1_count_1 ++ dktX1_count_2
def dkwX1_count_0 : List UInt8 := [27, 3, 16, 16, 184, 0, 156, 184, 0, 104, 27]
abbrev dktX1_count_0 : List UInt8 := dkwX1_count_0 ++ dktX1_count_1
theorem dksX1_count_0 : cX1_count.data.toList.drop 0 = dktX1_count_0 := by decide +kernel
theorem dksX1_count_1 : cX1_count.data.toList.drop 11 = dktX1_count_1 := dk_seg dksX1_count_0 11 rfl rfl
theorem dksX1_count_2 : cX1_count.data.toList.drop 80 = dktX1_count_2 := dk_seg dksX1_count_1 69 rfl rfl
theorem dksX1_count_3 : cX1_count.data.toList.drop 102 = dktX1_count_3 := dk_seg dksX1_count_2 22 rfl rfl
theorem dksX1_count_4 : cX1_count.data.toList.drop 126 = dktX1_count_4 := dk_seg dksX1_count_3 24 rfl rfl
theorem dksX1_count_5 : cX1_count.data.toList.drop 150 = dktX1_count_5 := dk_seg dksX1_count_4 24 rfl rfl
theorem dksX1_count_6 : cX1_count.data.toList.drop 174 = dktX1_count_6 := dk_seg dksX1_count_5 24 rfl rfl
theorem dksX1_count_7 : cX1_count.data.toList.drop 198 = dktX1_count_7 := dk_seg dksX1_count_6 24 rfl rfl
theorem dX1_count_0 : decode cX1_count 0 = .ok (.iload_n 1, 1) := dk_27 (dk_at dksX1_count_0 0 rfl rfl)
theorem dX1_count_1 : decode cX1_count 1 = .ok (.iconst 0, 1) := dk_3 (dk_at dksX1_count_0 1 rfl rfl)
theorem dX1_count_2 : decode cX1_count 2 = .ok (.bipush 16, 2) := dk_16 16 (dk_at dksX1_count_0 2 rfl rfl)
theorem dX1_count_4 : decode cX1_count 4 = .ok (.invokestatic 156, 3) := dk_184 0 156 (dk_at dksX1_count_0 4 rfl rfl)
theorem dX1_count_7 : decode cX1_count 7 = .ok (.invokestatic 104, 3) := dk_184 0 104 (dk_at dksX1_count_0 7 rfl rfl)
theorem dX1_count_10 : decode cX1_count 10 = .ok (.iload_n 1, 1) := dk_27 (dk_at dksX1_count_0 10 rfl rfl)
theorem dX1_count_11 : decode cX1_count 11 = .ok (.tableswitch 183 0 13 #[69, 74, 82, 90, 98, 106, 114, 122, 130, 138, 146, 162, 170, 178], 69) := by decide +kernel
theorem dX1_count_80 : decode cX1_count 80 = .ok (.aload_n 0, 1) := dk_42 (dk_at dksX1_count_2 0 rfl rfl)
theorem dX1_count_81 : decode cX1_count 81 = .ok (.invokevirtual 102, 3) := dk_182 0 102 (dk_at dksX1_count_2 1 rfl rfl)
theorem dX1_count_84 : decode cX1_count 84 = .ok (.ireturn, 1) := dk_172 (dk_at dksX1_count_2 4 rfl rfl)
theorem dX1_count_85 : decode cX1_count 85 = .ok (.aload_n 0, 1) := dk_42 (dk_at dksX1_count_2 5 rfl rfl)
theorem dX1_count_86 : decode cX1_count 86 = .ok (.getfield 10, 3) := dk_180 0 10 (dk_at dksX1_count_2 6 rfl rfl)
theorem dX1_count_89 : decode cX1_count 89 = .ok (.getfield 160, 3) := dk_180 0 160 (dk_at dksX1_count_2 9 rfl rfl)
theorem dX1_count_92 : decode cX1_count 92 = .ok (.ireturn, 1) := dk_172 (dk_at dksX1_count_2 12 rfl rfl)
theorem dX1_count_93 : decode cX1_count 93 = .ok (.aload_n 0, 1) := dk_42 (dk_at dksX1_count_2 13 rfl rfl)
theorem dX1_count_94 : decode cX1_count 94 = .ok (.getfield 10, 3) := dk_180 0 10 (dk_at dksX1_count_2 14 rfl rfl)
theorem dX1_count_97 : decode cX1_count 97 = .ok (.getfield 163, 3) := dk_180 0 163 (dk_at dksX1_count_2 17 rfl rfl)
theorem dX1_count_100 : decode cX1_count 100 = .ok (.ireturn, 1) := dk_172 (dk_at dksX1_count_2 20 rfl rfl)
theorem dX1_count_101 : decode cX1_count 101 = .ok (.aload_n 0, 1) := dk_42 (dk_at dksX1_count_2 21 rfl rfl)
theorem dX1_count_102 : decode cX1_count 102 = .ok (.getfield 10, 3) := dk_180 0 10 (dk_at dksX1_count_3 0 rfl rfl)
theorem dX1_count_105 : decode cX1_count 105 = .ok (.getfield 166, 3) := dk_180 0 166 (dk_at dksX1_count_3 3 rfl rfl)
theorem dX1_count_108 : decode cX1_count 108 = .ok (.ireturn, 1) := dk_172 (dk_at dksX1_count_3 6 rfl rfl)
theorem dX1_count_109 : decode cX1_count 109 = .ok (.aload_n 0, 1) := dk_42 (dk_at dksX1_count_3 7 rfl rfl)
theorem dX1_count_110 : decode cX1_count 110 = .ok (.getfield 10, 3) := dk_180 0 10 (dk_at dksX1_count_3 8 rfl rfl)
theorem dX1_count_113 : decode cX1_count 113 = .ok (.getfield 169, 3) := dk_180 0 169 (dk_at dksX1_count_3 11 rfl rfl)
theorem dX1_count_116 : decode cX1_count 116 = .ok (.ireturn, 1) := dk_172 (dk_at dksX1_count_3 14 rfl rfl)
theorem dX1_count_117 : decode cX1_count 117 = .ok (.aload_n 0, 1) := dk_42 (dk_at dksX1_count_3 15 rfl rfl)
theorem dX1_count_118 : decode cX1_count 118 = .ok (.getfield 30, 3) := dk_180 0 30 (dk_at dksX1_count_3 16 rfl rfl)
theorem dX1_count_121 : decode cX1_count 121 = .ok (.getfield 172, 3) := dk_180 0 172 (dk_at dksX1_count_3 19 rfl rfl)
theorem dX1_count_124 : decode cX1_count 124 = .ok (.ireturn, 1) := dk_172 (dk_at dksX1_count_3 22 rfl rfl)
theorem dX1_count_125 : decode cX1_count 125 = .ok (.aload_n 0, 1) := dk_42 (dk_at dksX1_count_3 23 rfl rfl)
theorem dX1_count_126 : decode cX1_count 126 = .ok (.getfield 10, 3) := dk_180 0 10 (dk_at dksX1_count_4 0 rfl rfl)
theorem dX1_count_129 : decode cX1_count 129 = .ok (.getfield 175, 3) := dk_180 0 175 (dk_at dksX1_count_4 3 rfl rfl)
theorem dX1_count_132 : decode cX1_count 132 = .ok (.ireturn, 1) := dk_172 (dk_at dksX1_count_4 6 rfl rfl)
theorem dX1_count_133 : decode cX1_count 133 = .ok (.aload_n 0, 1) := dk_42 (dk_at dksX1_count_4 7 rfl rfl)
theorem dX1_count_134 : decode cX1_count 134 = .ok (.getfield 30, 3) := dk_180 0 30 (dk_at dksX1_count_4 8 rfl rfl)
theorem dX1_count_137 : decode cX1_count 137 = .ok (.getfield 178, 3) := dk_180 0 178 (dk_at dksX1_count_4 11 rfl rfl)
theorem dX1_count_140 : decode cX1_count 140 = .ok (.ireturn, 1) := dk_172 (dk_at dksX1_count_4 14 rfl rfl)
theorem dX1_count_141 : decode cX1_count 141 = .ok (.aload_n 0, 1) := dk_42 (dk_at dksX1_count_4 15 rfl rfl)
theorem dX1_count_142 : decode cX1_count 142 = .ok (.getfield 30, 3) := dk_180 0 30 (dk_at dksX1_count_4 16 rfl rfl)
theorem dX1_count_145 : decode cX1_count 145 = .ok (.getfield 181, 3) := dk_180 0 181 (dk_at dksX1_count_4 19 rfl rfl)
theorem dX1_count_148 : decode cX1_count 148 = .ok (.ireturn, 1) := dk_172 (dk_at dksX1_count_4 22 rfl rfl)
theorem dX1_count_149 : decode cX1_count 149 = .ok (.aload_n 0, 1) := dk_42 (dk_at dksX1_count_4 23 rfl rfl)
theorem dX1_count_150 : decode cX1_count 150 = .ok (.getfield 30, 3) := dk_180 0 30 (dk_at dksX1_count_5 0 rfl rfl)
theorem dX1_count_153 : decode cX1_count 153 = .ok (.getfield 184, 3) := dk_180 0 184 (dk_at dksX1_count_5 3 rfl rfl)
theorem dX1_count_156 : decode cX1_count 156 = .ok (.ireturn, 1) := dk_172 (dk_at dksX1_count_5 6 rfl rfl)
theorem dX1_count_157 : decode cX1_count 157 = .ok (.aload_n 0, 1) := dk_42 (dk_at dksX1_count_5 7 rfl rfl)
theorem dX1_count_158 : decode cX1_count 158 = .ok (.getfield 30, 3) := dk_180 0 30 (dk_at dksX1_count_5 8 rfl rfl)
theorem dX1_count_161 : decode cX1_count 161 = .ok (.getfield 187, 3) := dk_180 0 187 (dk_at dksX1_count_5 11 rfl rfl)
theorem dX1_count_164 : decode cX1_count 164 = .ok (.ifCond .eq 7, 3) := dk_153 0 7 (dk_at dksX1_count_5 14 rfl rfl)
theorem dX1_count_167 : decode cX1_count 167 = .ok (.iconst 1, 1) := dk_4 (dk_at dksX1_count_5 17 rfl rfl)
theorem dX1_count_168 : decode cX1_count 168 = .ok (.goto 4, 3) := dk_167 0 4 (dk_at dksX1_count_5 18 rfl rfl)
theorem dX1_count_171 : decode cX1_count 171 = .ok (.iconst 0, 1) := dk_3 (dk_at dksX1_count_5 21 rfl rfl)
theorem dX1_count_172 : decode cX1_count 172 = .ok (.ireturn, 1) := dk_172 (dk_at dksX1_count_5 22 rfl rfl)
theorem dX1_count_173 : decode cX1_count 173 = .ok (.aload_n 0, 1) := dk_42 (dk_at dksX1_count_5 23 rfl rfl)
theorem dX1_count_174 : decode cX1_count 174 = .ok (.getfield 19, 3) := dk_180 0 19 (dk_at dksX1_count_6 0 rfl rfl)
theorem dX1_count_177 : decode cX1_count 177 = .ok (.getfield 143, 3) := dk_180 0 143 (dk_at dksX1_count_6 3 rfl rfl)
theorem dX1_count_180 : decode cX1_count 180 = .ok (.ireturn, 1) := dk_172 (dk_at dksX1_count_6 6 rfl rfl)
theorem dX1_count_181 : decode cX1_count 181 = .ok (.aload_n 0, 1) := dk_42 (dk_at dksX1_count_6 7 rfl rfl)
theorem dX1_count_182 : decode cX1_count 182 = .ok (.getfield 19, 3) := dk_180 0 19 (dk_at dksX1_count_6 8 rfl rfl)
theorem dX1_count_185 : decode cX1_count 185 = .ok (.getfield 146, 3) := dk_180 0 146 (dk_at dksX1_count_6 11 rfl rfl)
theorem dX1_count_188 : decode cX1_count 188 = .ok (.ireturn, 1) := dk_172 (dk_at dksX1_count_6 14 rfl rfl)
theorem dX1_count_189 : decode cX1_count 189 = .ok (.aload_n 0, 1) := dk_42 (dk_at dksX1_count_6 15 rfl rfl)
theorem dX1_count_190 : decode cX1_count 190 = .ok (.getfield 114, 3) := dk_180 0 114 (dk_at dksX1_count_6 16 rfl rfl)
theorem dX1_count_193 : decode cX1_count 193 = .ok (.ireturn, 1) := dk_172 (dk_at dksX1_count_6 19 rfl rfl)
theorem dX1_count_194 : decode cX1_count 194 = .ok (.aload_n 0, 1) := dk_42 (dk_at dksX1_count_6 20 rfl rfl)
theorem dX1_count_195 : decode cX1_count 195 = .ok (.getfield 19, 3) := dk_180 0 19 (dk_at dksX1_count_6 21 rfl rfl)
theorem dX1_count_198 : decode cX1_count 198 = .ok (.getfield 137, 3) := dk_180 0 137 (dk_at dksX1_count_7 0 rfl rfl)
theorem dX1_count_201 : decode cX1_count 201 = .ok (.iload_n 1, 1) := dk_27 (dk_at dksX1_count_7 3 rfl rfl)
theorem dX1_count_202 : decode cX1_count 202 = .ok (.bipush 14, 2) := dk_16 14 (dk_at dksX1_count_7 4 rfl rfl)
theorem dX1_count_204 : decode cX1_count 204 = .ok (.isub, 1) := dk_100 (dk_at dksX1_count_7 6 rfl rfl)
theorem dX1_count_205 : decode cX1_count 205 = .ok (.iaload, 1) := dk_46 (dk_at dksX1_count_7 7 rfl rfl)
theorem dX1_count_206 : decode cX1_count 206 = .ok (.ireturn, 1) := dk_172 (dk_at dksX1_count_7 8 rfl rfl)
abbrev cX1_there : ByteArray := prog_1_method_3_code
def yX1_there : MethodName := ⟨RX1, "there", "(Z)V"⟩
def dkwX1_there_0 : List UInt8 := [26, 154, 0, 11, 187, 0, 89, 89, 183, 0, 91, 191, 177]
abbrev dktX1_there_0 : List UInt8 := dkwX1_there_0 ++ []
theorem dksX1_there_0 : cX1_there.data.toList.drop 0 = dktX1_there_0 := by decide +kernel
theorem dX1_there_0 : decode cX1_there 0 = .ok (.iload_n 0, 1) := dk_26 (dk_at dksX1_there_0 0 rfl rfl)
theorem dX1_there_1 : decode cX1_there 1 = .ok (.ifCond .ne 11, 3) := dk_154 0 11 (dk_at dksX1_there_0 1 rfl rfl)
theorem dX1_there_4 : decode cX1_there 4 = .ok (.new 89, 3) := dk_187 0 89 (dk_at dksX1_there_0 4 rfl rfl)
theorem dX1_there_7 : decode cX1_there 7 = .ok (.dup, 1) := dk_89 (dk_at dksX1_there_0 7 rfl rfl)
theorem dX1_there_8 : decode cX1_there 8 = .ok (.invokespecial 91, 3) := dk_183 0 91 (dk_at dksX1_there_0 8 rfl rfl)
theorem dX1_there_11 : decode cX1_there 11 = .ok (.athrow, 1) := dk_191 (dk_at dksX1_there_0 11 rfl rfl)
theorem dX1_there_12 : decode cX1_there 12 = .ok (.return_, 1) := dk_177 (dk_at dksX1_there_0 12 rfl rfl)
abbrev cX1_sleeper : ByteArray := prog_1_method_12_code
def yX1_sleeper : MethodName := ⟨RX1, "sleeper", "(II)I"⟩
def dkwX1_sleeper_4 : List UInt8 := [172, 42, 180, 0, 10, 180, 0, 217, 27, 46, 172]
abbrev dktX1_sleeper_4 : List UInt8 := dkwX1_sleeper_4 ++ []
def dkwX1_sleeper_3 : List UInt8 := [172, 42, 180, 0, 30, 180, 0, 207, 27, 46, 172, 45, 180, 0, 210, 172, 42, 180, 0, 30, 27, 182, 0, 213]
abbrev dktX1_sleeper_3 : List UInt8 := dkwX1_sleeper_3 ++ dktX1_sleeper_4
def dkwX1_sleeper_2 : List UInt8 := [45, 182, 0, 194, 172, 45, 180, 0, 196, 172, 45, 180, 0, 199, 172, 45, 180, 0, 201, 172, 45, 180, 0, 204]
abbrev dktX1_sleeper_2 : List UInt8 := dkwX1_sleeper_2 ++ dktX1_sleeper_3
def dkwX1_sleeper_1 : List UInt8 := [170, 0, 0, 0, 0, 0, 96, 0, 0, 0, 0, 0, 0, 0, 7, 0, 0, 0, 47, 0, 0, 0, 52, 0, 0, 0, 57, 0, 0, 0, 62, 0, 0, 0, 67, 0, 0, 0, 72, 0, 0, 0, 82, 0, 0, 0, 87]
abbrev dktX1_sleeper_1 : List UInt8 := dkwX1_sleeper_1 ++ dktX1_sleeper_2
def dkwX1_sleeper_0 : List UInt8 := [42, 27, 182, 0, 190, 78, 28, 3, 16, 8, 184, 0, 156, 184, 0, 104, 28]
abbrev dktX1_sleeper_0 : List UInt8 := dkwX1_sleeper_0 ++ dktX1_sleeper_1
theorem dksX1_sleeper_0 : cX1_sleeper.data.toList.drop 0 = dktX1_sleeper_0 := by decide +kernel
theorem dksX1_sleeper_1 : cX1_sleeper.data.toList.drop 17 = dktX1_sleeper_1 := dk_seg dksX1_sleeper_0 17 rfl rfl
theorem dksX1_sleeper_2 : cX1_sleeper.data.toList.drop 64 = dktX1_sleeper_2 := dk_seg dksX1_sleeper_1 47 rfl rfl
theorem dksX1_sleeper_3 : cX1_sleeper.data.toList.drop 88 = dktX1_sleeper_3 := dk_seg dksX1_sleeper_2 24 rfl rfl
theorem dksX1_sleeper_4 : cX1_sleeper.data.toList.drop 112 = dktX1_sleeper_4 := dk_seg dksX1_sleeper_3 24 rfl rfl
theorem dX1_sleeper_0 : decode cX1_sleeper 0 = .ok (.aload_n 0, 1) := dk_42 (dk_at dksX1_sleeper_0 0 rfl rfl)
theorem dX1_sleeper_1 : decode cX1_sleeper 1 = .ok (.iload_n 1, 1) := dk_27 (dk_at dksX1_sleeper_0 1 rfl rfl)
theorem dX1_sleeper_2 : decode cX1_sleeper 2 = .ok (.invokevirtual 190, 3) := dk_182 0 190 (dk_at dksX1_sleeper_0 2 rfl rfl)
theorem dX1_sleeper_5 : decode cX1_sleeper 5 = .ok (.astore_n 3, 1) := dk_78 (dk_at dksX1_sleeper_0 5 rfl rfl)
theorem dX1_sleeper_6 : decode cX1_sleeper 6 = .ok (.iload_n 2, 1) := dk_28 (dk_at dksX1_sleeper_0 6 rfl rfl)
theorem dX1_sleeper_7 : decode cX1_sleeper 7 = .ok (.iconst 0, 1) := dk_3 (dk_at dksX1_sleeper_0 7 rfl rfl)
theorem dX1_sleeper_8 : decode cX1_sleeper 8 = .ok (.bipush 8, 2) := dk_16 8 (dk_at dksX1_sleeper_0 8 rfl rfl)
theorem dX1_sleeper_10 : decode cX1_sleeper 10 = .ok (.invokestatic 156, 3) := dk_184 0 156 (dk_at dksX1_sleeper_0 10 rfl rfl)
theorem dX1_sleeper_13 : decode cX1_sleeper 13 = .ok (.invokestatic 104, 3) := dk_184 0 104 (dk_at dksX1_sleeper_0 13 rfl rfl)
theorem dX1_sleeper_16 : decode cX1_sleeper 16 = .ok (.iload_n 2, 1) := dk_28 (dk_at dksX1_sleeper_0 16 rfl rfl)
theorem dX1_sleeper_17 : decode cX1_sleeper 17 = .ok (.tableswitch 96 0 7 #[47, 52, 57, 62, 67, 72, 82, 87], 47) := by decide +kernel
theorem dX1_sleeper_64 : decode cX1_sleeper 64 = .ok (.aload_n 3, 1) := dk_45 (dk_at dksX1_sleeper_2 0 rfl rfl)
theorem dX1_sleeper_65 : decode cX1_sleeper 65 = .ok (.invokevirtual 194, 3) := dk_182 0 194 (dk_at dksX1_sleeper_2 1 rfl rfl)
theorem dX1_sleeper_68 : decode cX1_sleeper 68 = .ok (.ireturn, 1) := dk_172 (dk_at dksX1_sleeper_2 4 rfl rfl)
theorem dX1_sleeper_69 : decode cX1_sleeper 69 = .ok (.aload_n 3, 1) := dk_45 (dk_at dksX1_sleeper_2 5 rfl rfl)
theorem dX1_sleeper_70 : decode cX1_sleeper 70 = .ok (.getfield 196, 3) := dk_180 0 196 (dk_at dksX1_sleeper_2 6 rfl rfl)
theorem dX1_sleeper_73 : decode cX1_sleeper 73 = .ok (.ireturn, 1) := dk_172 (dk_at dksX1_sleeper_2 9 rfl rfl)
theorem dX1_sleeper_74 : decode cX1_sleeper 74 = .ok (.aload_n 3, 1) := dk_45 (dk_at dksX1_sleeper_2 10 rfl rfl)
theorem dX1_sleeper_75 : decode cX1_sleeper 75 = .ok (.getfield 199, 3) := dk_180 0 199 (dk_at dksX1_sleeper_2 11 rfl rfl)
theorem dX1_sleeper_78 : decode cX1_sleeper 78 = .ok (.ireturn, 1) := dk_172 (dk_at dksX1_sleeper_2 14 rfl rfl)
theorem dX1_sleeper_79 : decode cX1_sleeper 79 = .ok (.aload_n 3, 1) := dk_45 (dk_at dksX1_sleeper_2 15 rfl rfl)
theorem dX1_sleeper_80 : decode cX1_sleeper 80 = .ok (.getfield 201, 3) := dk_180 0 201 (dk_at dksX1_sleeper_2 16 rfl rfl)
theorem dX1_sleeper_83 : decode cX1_sleeper 83 = .ok (.ireturn, 1) := dk_172 (dk_at dksX1_sleeper_2 19 rfl rfl)
theorem dX1_sleeper_84 : decode cX1_sleeper 84 = .ok (.aload_n 3, 1) := dk_45 (dk_at dksX1_sleeper_2 20 rfl rfl)
theorem dX1_sleeper_85 : decode cX1_sleeper 85 = .ok (.getfield 204, 3) := dk_180 0 204 (dk_at dksX1_sleeper_2 21 rfl rfl)
theorem dX1_sleeper_88 : decode cX1_sleeper 88 = .ok (.ireturn, 1) := dk_172 (dk_at dksX1_sleeper_3 0 rfl rfl)
theorem dX1_sleeper_89 : decode cX1_sleeper 89 = .ok (.aload_n 0, 1) := dk_42 (dk_at dksX1_sleeper_3 1 rfl rfl)
theorem dX1_sleeper_90 : decode cX1_sleeper 90 = .ok (.getfield 30, 3) := dk_180 0 30 (dk_at dksX1_sleeper_3 2 rfl rfl)
theorem dX1_sleeper_93 : decode cX1_sleeper 93 = .ok (.getfield 207, 3) := dk_180 0 207 (dk_at dksX1_sleeper_3 5 rfl rfl)
theorem dX1_sleeper_96 : decode cX1_sleeper 96 = .ok (.iload_n 1, 1) := dk_27 (dk_at dksX1_sleeper_3 8 rfl rfl)
theorem dX1_sleeper_97 : decode cX1_sleeper 97 = .ok (.iaload, 1) := dk_46 (dk_at dksX1_sleeper_3 9 rfl rfl)
theorem dX1_sleeper_98 : decode cX1_sleeper 98 = .ok (.ireturn, 1) := dk_172 (dk_at dksX1_sleeper_3 10 rfl rfl)
theorem dX1_sleeper_99 : decode cX1_sleeper 99 = .ok (.aload_n 3, 1) := dk_45 (dk_at dksX1_sleeper_3 11 rfl rfl)
theorem dX1_sleeper_100 : decode cX1_sleeper 100 = .ok (.getfield 210, 3) := dk_180 0 210 (dk_at dksX1_sleeper_3 12 rfl rfl)
theorem dX1_sleeper_103 : decode cX1_sleeper 103 = .ok (.ireturn, 1) := dk_172 (dk_at dksX1_sleeper_3 15 rfl rfl)
theorem dX1_sleeper_104 : decode cX1_sleeper 104 = .ok (.aload_n 0, 1) := dk_42 (dk_at dksX1_sleeper_3 16 rfl rfl)
theorem dX1_sleeper_105 : decode cX1_sleeper 105 = .ok (.getfield 30, 3) := dk_180 0 30 (dk_at dksX1_sleeper_3 17 rfl rfl)
theorem dX1_sleeper_108 : decode cX1_sleeper 108 = .ok (.iload_n 1, 1) := dk_27 (dk_at dksX1_sleeper_3 20 rfl rfl)
theorem dX1_sleeper_109 : decode cX1_sleeper 109 = .ok (.invokevirtual 213, 3) := dk_182 0 213 (dk_at dksX1_sleeper_3 21 rfl rfl)
theorem dX1_sleeper_112 : decode cX1_sleeper 112 = .ok (.ireturn, 1) := dk_172 (dk_at dksX1_sleeper_4 0 rfl rfl)
theorem dX1_sleeper_113 : decode cX1_sleeper 113 = .ok (.aload_n 0, 1) := dk_42 (dk_at dksX1_sleeper_4 1 rfl rfl)
theorem dX1_sleeper_114 : decode cX1_sleeper 114 = .ok (.getfield 10, 3) := dk_180 0 10 (dk_at dksX1_sleeper_4 2 rfl rfl)
theorem dX1_sleeper_117 : decode cX1_sleeper 117 = .ok (.getfield 217, 3) := dk_180 0 217 (dk_at dksX1_sleeper_4 5 rfl rfl)
theorem dX1_sleeper_120 : decode cX1_sleeper 120 = .ok (.iload_n 1, 1) := dk_27 (dk_at dksX1_sleeper_4 8 rfl rfl)
theorem dX1_sleeper_121 : decode cX1_sleeper 121 = .ok (.iaload, 1) := dk_46 (dk_at dksX1_sleeper_4 9 rfl rfl)
theorem dX1_sleeper_122 : decode cX1_sleeper 122 = .ok (.ireturn, 1) := dk_172 (dk_at dksX1_sleeper_4 10 rfl rfl)
abbrev cX1_sleeperAt : ByteArray := prog_1_method_6_code
def yX1_sleeperAt : MethodName := ⟨RX1, "sleeperAt", "(I)LSpoonRow$Sleeper;"⟩
def dkwX1_sleeperAt_1 : List UInt8 := [180, 0, 92, 27, 182, 0, 108, 192, 0, 112, 176]
abbrev dktX1_sleeperAt_1 : List UInt8 := dkwX1_sleeperAt_1 ++ []
def dkwX1_sleeperAt_0 : List UInt8 := [27, 155, 0, 15, 27, 42, 182, 0, 102, 162, 0, 7, 4, 167, 0, 4, 3, 184, 0, 104, 42, 180, 0, 10]
abbrev dktX1_sleeperAt_0 : List UInt8 := dkwX1_sleeperAt_0 ++ dktX1_sleeperAt_1
theorem dksX1_sleeperAt_0 : cX1_sleeperAt.data.toList.drop 0 = dktX1_sleeperAt_0 := by decide +kernel
theorem dksX1_sleeperAt_1 : cX1_sleeperAt.data.toList.drop 24 = dktX1_sleeperAt_1 := dk_seg dksX1_sleeperAt_0 24 rfl rfl
theorem dX1_sleeperAt_0 : decode cX1_sleeperAt 0 = .ok (.iload_n 1, 1) := dk_27 (dk_at dksX1_sleeperAt_0 0 rfl rfl)
theorem dX1_sleeperAt_1 : decode cX1_sleeperAt 1 = .ok (.ifCond .lt 15, 3) := dk_155 0 15 (dk_at dksX1_sleeperAt_0 1 rfl rfl)
theorem dX1_sleeperAt_4 : decode cX1_sleeperAt 4 = .ok (.iload_n 1, 1) := dk_27 (dk_at dksX1_sleeperAt_0 4 rfl rfl)
theorem dX1_sleeperAt_5 : decode cX1_sleeperAt 5 = .ok (.aload_n 0, 1) := dk_42 (dk_at dksX1_sleeperAt_0 5 rfl rfl)
theorem dX1_sleeperAt_6 : decode cX1_sleeperAt 6 = .ok (.invokevirtual 102, 3) := dk_182 0 102 (dk_at dksX1_sleeperAt_0 6 rfl rfl)
theorem dX1_sleeperAt_9 : decode cX1_sleeperAt 9 = .ok (.if_icmp .ge 7, 3) := dk_162 0 7 (dk_at dksX1_sleeperAt_0 9 rfl rfl)
theorem dX1_sleeperAt_12 : decode cX1_sleeperAt 12 = .ok (.iconst 1, 1) := dk_4 (dk_at dksX1_sleeperAt_0 12 rfl rfl)
theorem dX1_sleeperAt_13 : decode cX1_sleeperAt 13 = .ok (.goto 4, 3) := dk_167 0 4 (dk_at dksX1_sleeperAt_0 13 rfl rfl)
theorem dX1_sleeperAt_16 : decode cX1_sleeperAt 16 = .ok (.iconst 0, 1) := dk_3 (dk_at dksX1_sleeperAt_0 16 rfl rfl)
theorem dX1_sleeperAt_17 : decode cX1_sleeperAt 17 = .ok (.invokestatic 104, 3) := dk_184 0 104 (dk_at dksX1_sleeperAt_0 17 rfl rfl)
theorem dX1_sleeperAt_20 : decode cX1_sleeperAt 20 = .ok (.aload_n 0, 1) := dk_42 (dk_at dksX1_sleeperAt_0 20 rfl rfl)
theorem dX1_sleeperAt_21 : decode cX1_sleeperAt 21 = .ok (.getfield 10, 3) := dk_180 0 10 (dk_at dksX1_sleeperAt_0 21 rfl rfl)
theorem dX1_sleeperAt_24 : decode cX1_sleeperAt 24 = .ok (.getfield 92, 3) := dk_180 0 92 (dk_at dksX1_sleeperAt_1 0 rfl rfl)
theorem dX1_sleeperAt_27 : decode cX1_sleeperAt 27 = .ok (.iload_n 1, 1) := dk_27 (dk_at dksX1_sleeperAt_1 3 rfl rfl)
theorem dX1_sleeperAt_28 : decode cX1_sleeperAt 28 = .ok (.invokevirtual 108, 3) := dk_182 0 108 (dk_at dksX1_sleeperAt_1 4 rfl rfl)
theorem dX1_sleeperAt_31 : decode cX1_sleeperAt 31 = .ok (.checkcast 112, 3) := dk_192 0 112 (dk_at dksX1_sleeperAt_1 7 rfl rfl)
theorem dX1_sleeperAt_34 : decode cX1_sleeperAt 34 = .ok (.areturn, 1) := dk_176 (dk_at dksX1_sleeperAt_1 10 rfl rfl)
abbrev cX1_word : ByteArray := prog_1_method_17_code
def yX1_word : MethodName := ⟨RX1, "word", "(II)I"⟩
def dkwX1_word_3 : List UInt8 := [21, 4, 172]
abbrev dktX1_word_3 : List UInt8 := dkwX1_word_3 ++ []
def dkwX1_word_2 : List UInt8 := [180, 0, 30, 28, 181, 0, 184, 42, 180, 0, 30, 28, 154, 0, 7, 2, 167, 0, 4, 27, 181, 0, 181]
abbrev dktX1_word_2 : List UInt8 := dkwX1_word_2 ++ dktX1_word_3
def dkwX1_word_1 : List UInt8 := [42, 4, 182, 0, 224, 172, 42, 180, 0, 19, 182, 0, 227, 42, 180, 0, 30, 180, 0, 184, 54, 4, 42]
abbrev dktX1_word_1 : List UInt8 := dkwX1_word_1 ++ dktX1_word_2
def dkwX1_word_0 : List UInt8 := [42, 27, 182, 0, 190, 78, 28, 3, 17, 0, 240, 184, 0, 156, 153, 0, 10, 45, 182, 0, 234, 154, 0, 9]
abbrev dktX1_word_0 : List UInt8 := dkwX1_word_0 ++ dktX1_word_1
theorem dksX1_word_0 : cX1_word.data.toList.drop 0 = dktX1_word_0 := by decide +kernel
theorem dksX1_word_1 : cX1_word.data.toList.drop 24 = dktX1_word_1 := dk_seg dksX1_word_0 24 rfl rfl
theorem dksX1_word_2 : cX1_word.data.toList.drop 47 = dktX1_word_2 := dk_seg dksX1_word_1 23 rfl rfl
theorem dksX1_word_3 : cX1_word.data.toList.drop 70 = dktX1_word_3 := dk_seg dksX1_word_2 23 rfl rfl
theorem dX1_word_0 : decode cX1_word 0 = .ok (.aload_n 0, 1) := dk_42 (dk_at dksX1_word_0 0 rfl rfl)
theorem dX1_word_1 : decode cX1_word 1 = .ok (.iload_n 1, 1) := dk_27 (dk_at dksX1_word_0 1 rfl rfl)
theorem dX1_word_2 : decode cX1_word 2 = .ok (.invokevirtual 190, 3) := dk_182 0 190 (dk_at dksX1_word_0 2 rfl rfl)
theorem dX1_word_5 : decode cX1_word 5 = .ok (.astore_n 3, 1) := dk_78 (dk_at dksX1_word_0 5 rfl rfl)
theorem dX1_word_6 : decode cX1_word 6 = .ok (.iload_n 2, 1) := dk_28 (dk_at dksX1_word_0 6 rfl rfl)
theorem dX1_word_7 : decode cX1_word 7 = .ok (.iconst 0, 1) := dk_3 (dk_at dksX1_word_0 7 rfl rfl)
theorem dX1_word_8 : decode cX1_word 8 = .ok (.sipush 240, 3) := dk_17 0 240 (dk_at dksX1_word_0 8 rfl rfl)
theorem dX1_word_11 : decode cX1_word 11 = .ok (.invokestatic 156, 3) := dk_184 0 156 (dk_at dksX1_word_0 11 rfl rfl)
theorem dX1_word_14 : decode cX1_word 14 = .ok (.ifCond .eq 10, 3) := dk_153 0 10 (dk_at dksX1_word_0 14 rfl rfl)
theorem dX1_word_17 : decode cX1_word 17 = .ok (.aload_n 3, 1) := dk_45 (dk_at dksX1_word_0 17 rfl rfl)
theorem dX1_word_18 : decode cX1_word 18 = .ok (.invokevirtual 234, 3) := dk_182 0 234 (dk_at dksX1_word_0 18 rfl rfl)
theorem dX1_word_21 : decode cX1_word 21 = .ok (.ifCond .ne 9, 3) := dk_154 0 9 (dk_at dksX1_word_0 21 rfl rfl)
theorem dX1_word_24 : decode cX1_word 24 = .ok (.aload_n 0, 1) := dk_42 (dk_at dksX1_word_1 0 rfl rfl)
theorem dX1_word_25 : decode cX1_word 25 = .ok (.iconst 1, 1) := dk_4 (dk_at dksX1_word_1 1 rfl rfl)
theorem dX1_word_26 : decode cX1_word 26 = .ok (.invokevirtual 224, 3) := dk_182 0 224 (dk_at dksX1_word_1 2 rfl rfl)
theorem dX1_word_29 : decode cX1_word 29 = .ok (.ireturn, 1) := dk_172 (dk_at dksX1_word_1 5 rfl rfl)
theorem dX1_word_30 : decode cX1_word 30 = .ok (.aload_n 0, 1) := dk_42 (dk_at dksX1_word_1 6 rfl rfl)
theorem dX1_word_31 : decode cX1_word 31 = .ok (.getfield 19, 3) := dk_180 0 19 (dk_at dksX1_word_1 7 rfl rfl)
theorem dX1_word_34 : decode cX1_word 34 = .ok (.invokevirtual 227, 3) := dk_182 0 227 (dk_at dksX1_word_1 10 rfl rfl)
theorem dX1_word_37 : decode cX1_word 37 = .ok (.aload_n 0, 1) := dk_42 (dk_at dksX1_word_1 13 rfl rfl)
theorem dX1_word_38 : decode cX1_word 38 = .ok (.getfield 30, 3) := dk_180 0 30 (dk_at dksX1_word_1 14 rfl rfl)
theorem dX1_word_41 : decode cX1_word 41 = .ok (.getfield 184, 3) := dk_180 0 184 (dk_at dksX1_word_1 17 rfl rfl)
theorem dX1_word_44 : decode cX1_word 44 = .ok (.istore 4, 2) := dk_54 4 (dk_at dksX1_word_1 20 rfl rfl)
theorem dX1_word_46 : decode cX1_word 46 = .ok (.aload_n 0, 1) := dk_42 (dk_at dksX1_word_1 22 rfl rfl)
theorem dX1_word_47 : decode cX1_word 47 = .ok (.getfield 30, 3) := dk_180 0 30 (dk_at dksX1_word_2 0 rfl rfl)
theorem dX1_word_50 : decode cX1_word 50 = .ok (.iload_n 2, 1) := dk_28 (dk_at dksX1_word_2 3 rfl rfl)
theorem dX1_word_51 : decode cX1_word 51 = .ok (.putfield 184, 3) := dk_181 0 184 (dk_at dksX1_word_2 4 rfl rfl)
theorem dX1_word_54 : decode cX1_word 54 = .ok (.aload_n 0, 1) := dk_42 (dk_at dksX1_word_2 7 rfl rfl)
theorem dX1_word_55 : decode cX1_word 55 = .ok (.getfield 30, 3) := dk_180 0 30 (dk_at dksX1_word_2 8 rfl rfl)
theorem dX1_word_58 : decode cX1_word 58 = .ok (.iload_n 2, 1) := dk_28 (dk_at dksX1_word_2 11 rfl rfl)
theorem dX1_word_59 : decode cX1_word 59 = .ok (.ifCond .ne 7, 3) := dk_154 0 7 (dk_at dksX1_word_2 12 rfl rfl)
theorem dX1_word_62 : decode cX1_word 62 = .ok (.iconst (-1), 1) := dk_2 (dk_at dksX1_word_2 15 rfl rfl)
theorem dX1_word_63 : decode cX1_word 63 = .ok (.goto 4, 3) := dk_167 0 4 (dk_at dksX1_word_2 16 rfl rfl)
theorem dX1_word_66 : decode cX1_word 66 = .ok (.iload_n 1, 1) := dk_27 (dk_at dksX1_word_2 19 rfl rfl)
theorem dX1_word_67 : decode cX1_word 67 = .ok (.putfield 181, 3) := dk_181 0 181 (dk_at dksX1_word_2 20 rfl rfl)
theorem dX1_word_70 : decode cX1_word 70 = .ok (.iload 4, 2) := dk_21 4 (dk_at dksX1_word_3 0 rfl rfl)
theorem dX1_word_72 : decode cX1_word 72 = .ok (.ireturn, 1) := dk_172 (dk_at dksX1_word_3 2 rfl rfl)
abbrev cX1_out : ByteArray := prog_1_method_19_code
def yX1_out : MethodName := ⟨RX1, "out", "(II)I"⟩
def dkwX1_out_2 : List UInt8 := [42, 180, 0, 30, 180, 0, 207, 27, 28, 79, 21, 4, 172]
abbrev dktX1_out_2 : List UInt8 := dkwX1_out_2 ++ []
def dkwX1_out_1 : List UInt8 := [42, 4, 182, 0, 224, 172, 42, 180, 0, 19, 182, 0, 227, 42, 180, 0, 30, 180, 0, 207, 27, 46, 54, 4]
abbrev dktX1_out_1 : List UInt8 := dkwX1_out_1 ++ dktX1_out_2
def dkwX1_out_0 : List UInt8 := [42, 27, 182, 0, 190, 78, 28, 3, 17, 2, 88, 184, 0, 156, 153, 0, 10, 45, 182, 0, 234, 154, 0, 9]
abbrev dktX1_out_0 : List UInt8 := dkwX1_out_0 ++ dktX1_out_1
theorem dksX1_out_0 : cX1_out.data.toList.drop 0 = dktX1_out_0 := by decide +kernel
theorem dksX1_out_1 : cX1_out.data.toList.drop 24 = dktX1_out_1 := dk_seg dksX1_out_0 24 rfl rfl
theorem dksX1_out_2 : cX1_out.data.toList.drop 48 = dktX1_out_2 := dk_seg dksX1_out_1 24 rfl rfl
theorem dX1_out_0 : decode cX1_out 0 = .ok (.aload_n 0, 1) := dk_42 (dk_at dksX1_out_0 0 rfl rfl)
theorem dX1_out_1 : decode cX1_out 1 = .ok (.iload_n 1, 1) := dk_27 (dk_at dksX1_out_0 1 rfl rfl)
theorem dX1_out_2 : decode cX1_out 2 = .ok (.invokevirtual 190, 3) := dk_182 0 190 (dk_at dksX1_out_0 2 rfl rfl)
theorem dX1_out_5 : decode cX1_out 5 = .ok (.astore_n 3, 1) := dk_78 (dk_at dksX1_out_0 5 rfl rfl)
theorem dX1_out_6 : decode cX1_out 6 = .ok (.iload_n 2, 1) := dk_28 (dk_at dksX1_out_0 6 rfl rfl)
theorem dX1_out_7 : decode cX1_out 7 = .ok (.iconst 0, 1) := dk_3 (dk_at dksX1_out_0 7 rfl rfl)
theorem dX1_out_8 : decode cX1_out 8 = .ok (.sipush 600, 3) := dk_17 2 88 (dk_at dksX1_out_0 8 rfl rfl)
theorem dX1_out_11 : decode cX1_out 11 = .ok (.invokestatic 156, 3) := dk_184 0 156 (dk_at dksX1_out_0 11 rfl rfl)
theorem dX1_out_14 : decode cX1_out 14 = .ok (.ifCond .eq 10, 3) := dk_153 0 10 (dk_at dksX1_out_0 14 rfl rfl)
theorem dX1_out_17 : decode cX1_out 17 = .ok (.aload_n 3, 1) := dk_45 (dk_at dksX1_out_0 17 rfl rfl)
theorem dX1_out_18 : decode cX1_out 18 = .ok (.invokevirtual 234, 3) := dk_182 0 234 (dk_at dksX1_out_0 18 rfl rfl)
theorem dX1_out_21 : decode cX1_out 21 = .ok (.ifCond .ne 9, 3) := dk_154 0 9 (dk_at dksX1_out_0 21 rfl rfl)
theorem dX1_out_24 : decode cX1_out 24 = .ok (.aload_n 0, 1) := dk_42 (dk_at dksX1_out_1 0 rfl rfl)
theorem dX1_out_25 : decode cX1_out 25 = .ok (.iconst 1, 1) := dk_4 (dk_at dksX1_out_1 1 rfl rfl)
theorem dX1_out_26 : decode cX1_out 26 = .ok (.invokevirtual 224, 3) := dk_182 0 224 (dk_at dksX1_out_1 2 rfl rfl)
theorem dX1_out_29 : decode cX1_out 29 = .ok (.ireturn, 1) := dk_172 (dk_at dksX1_out_1 5 rfl rfl)
theorem dX1_out_30 : decode cX1_out 30 = .ok (.aload_n 0, 1) := dk_42 (dk_at dksX1_out_1 6 rfl rfl)
theorem dX1_out_31 : decode cX1_out 31 = .ok (.getfield 19, 3) := dk_180 0 19 (dk_at dksX1_out_1 7 rfl rfl)
theorem dX1_out_34 : decode cX1_out 34 = .ok (.invokevirtual 227, 3) := dk_182 0 227 (dk_at dksX1_out_1 10 rfl rfl)
theorem dX1_out_37 : decode cX1_out 37 = .ok (.aload_n 0, 1) := dk_42 (dk_at dksX1_out_1 13 rfl rfl)
theorem dX1_out_38 : decode cX1_out 38 = .ok (.getfield 30, 3) := dk_180 0 30 (dk_at dksX1_out_1 14 rfl rfl)
theorem dX1_out_41 : decode cX1_out 41 = .ok (.getfield 207, 3) := dk_180 0 207 (dk_at dksX1_out_1 17 rfl rfl)
theorem dX1_out_44 : decode cX1_out 44 = .ok (.iload_n 1, 1) := dk_27 (dk_at dksX1_out_1 20 rfl rfl)
theorem dX1_out_45 : decode cX1_out 45 = .ok (.iaload, 1) := dk_46 (dk_at dksX1_out_1 21 rfl rfl)
theorem dX1_out_46 : decode cX1_out 46 = .ok (.istore 4, 2) := dk_54 4 (dk_at dksX1_out_1 22 rfl rfl)
theorem dX1_out_48 : decode cX1_out 48 = .ok (.aload_n 0, 1) := dk_42 (dk_at dksX1_out_2 0 rfl rfl)
theorem dX1_out_49 : decode cX1_out 49 = .ok (.getfield 30, 3) := dk_180 0 30 (dk_at dksX1_out_2 1 rfl rfl)
theorem dX1_out_52 : decode cX1_out 52 = .ok (.getfield 207, 3) := dk_180 0 207 (dk_at dksX1_out_2 4 rfl rfl)
theorem dX1_out_55 : decode cX1_out 55 = .ok (.iload_n 1, 1) := dk_27 (dk_at dksX1_out_2 7 rfl rfl)
theorem dX1_out_56 : decode cX1_out 56 = .ok (.iload_n 2, 1) := dk_28 (dk_at dksX1_out_2 8 rfl rfl)
theorem dX1_out_57 : decode cX1_out 57 = .ok (.iastore, 1) := dk_79 (dk_at dksX1_out_2 9 rfl rfl)
theorem dX1_out_58 : decode cX1_out 58 = .ok (.iload 4, 2) := dk_21 4 (dk_at dksX1_out_2 10 rfl rfl)
theorem dX1_out_60 : decode cX1_out 60 = .ok (.ireturn, 1) := dk_172 (dk_at dksX1_out_2 12 rfl rfl)
abbrev cX1_night : ByteArray := prog_1_method_21_code
def yX1_night : MethodName := ⟨RX1, "night", "(I)I"⟩
def dkwX1_night_4 : List UInt8 := [28, 46, 164, 0, 5, 29, 61, 132, 3, 1, 167, 255, 217, 28, 172]
abbrev dktX1_night_4 : List UInt8 := dkwX1_night_4 ++ []
def dkwX1_night_3 : List UInt8 := [162, 0, 37, 28, 2, 159, 0, 24, 42, 180, 0, 58, 180, 1, 1, 29, 46, 42, 180, 0, 58, 180, 1, 1]
abbrev dktX1_night_3 : List UInt8 := dkwX1_night_3 ++ dktX1_night_4
def dkwX1_night_2 : List UInt8 := [182, 0, 251, 167, 0, 10, 42, 180, 0, 58, 180, 0, 254, 172, 2, 61, 3, 62, 29, 42, 182, 0, 102]
abbrev dktX1_night_2 : List UInt8 := dkwX1_night_2 ++ dktX1_night_3
def dkwX1_night_1 : List UInt8 := [154, 0, 13, 42, 180, 0, 58, 180, 0, 248, 167, 0, 25, 27, 4, 160, 0, 13, 42, 180, 0, 58]
abbrev dktX1_night_1 : List UInt8 := dkwX1_night_1 ++ dktX1_night_2
def dkwX1_night_0 : List UInt8 := [27, 3, 6, 184, 0, 156, 184, 0, 104, 42, 180, 0, 58, 182, 0, 245, 27, 6, 162, 0, 40, 27]
abbrev dktX1_night_0 : List UInt8 := dkwX1_night_0 ++ dktX1_night_1
theorem dksX1_night_0 : cX1_night.data.toList.drop 0 = dktX1_night_0 := by decide +kernel
theorem dksX1_night_1 : cX1_night.data.toList.drop 22 = dktX1_night_1 := dk_seg dksX1_night_0 22 rfl rfl
theorem dksX1_night_2 : cX1_night.data.toList.drop 44 = dktX1_night_2 := dk_seg dksX1_night_1 22 rfl rfl
theorem dksX1_night_3 : cX1_night.data.toList.drop 67 = dktX1_night_3 := dk_seg dksX1_night_2 23 rfl rfl
theorem dksX1_night_4 : cX1_night.data.toList.drop 91 = dktX1_night_4 := dk_seg dksX1_night_3 24 rfl rfl
theorem dX1_night_0 : decode cX1_night 0 = .ok (.iload_n 1, 1) := dk_27 (dk_at dksX1_night_0 0 rfl rfl)
theorem dX1_night_1 : decode cX1_night 1 = .ok (.iconst 0, 1) := dk_3 (dk_at dksX1_night_0 1 rfl rfl)
theorem dX1_night_2 : decode cX1_night 2 = .ok (.iconst 3, 1) := dk_6 (dk_at dksX1_night_0 2 rfl rfl)
theorem dX1_night_3 : decode cX1_night 3 = .ok (.invokestatic 156, 3) := dk_184 0 156 (dk_at dksX1_night_0 3 rfl rfl)
theorem dX1_night_6 : decode cX1_night 6 = .ok (.invokestatic 104, 3) := dk_184 0 104 (dk_at dksX1_night_0 6 rfl rfl)
theorem dX1_night_9 : decode cX1_night 9 = .ok (.aload_n 0, 1) := dk_42 (dk_at dksX1_night_0 9 rfl rfl)
theorem dX1_night_10 : decode cX1_night 10 = .ok (.getfield 58, 3) := dk_180 0 58 (dk_at dksX1_night_0 10 rfl rfl)
theorem dX1_night_13 : decode cX1_night 13 = .ok (.invokevirtual 245, 3) := dk_182 0 245 (dk_at dksX1_night_0 13 rfl rfl)
theorem dX1_night_16 : decode cX1_night 16 = .ok (.iload_n 1, 1) := dk_27 (dk_at dksX1_night_0 16 rfl rfl)
theorem dX1_night_17 : decode cX1_night 17 = .ok (.iconst 3, 1) := dk_6 (dk_at dksX1_night_0 17 rfl rfl)
theorem dX1_night_18 : decode cX1_night 18 = .ok (.if_icmp .ge 40, 3) := dk_162 0 40 (dk_at dksX1_night_0 18 rfl rfl)
theorem dX1_night_21 : decode cX1_night 21 = .ok (.iload_n 1, 1) := dk_27 (dk_at dksX1_night_0 21 rfl rfl)
theorem dX1_night_22 : decode cX1_night 22 = .ok (.ifCond .ne 13, 3) := dk_154 0 13 (dk_at dksX1_night_1 0 rfl rfl)
theorem dX1_night_25 : decode cX1_night 25 = .ok (.aload_n 0, 1) := dk_42 (dk_at dksX1_night_1 3 rfl rfl)
theorem dX1_night_26 : decode cX1_night 26 = .ok (.getfield 58, 3) := dk_180 0 58 (dk_at dksX1_night_1 4 rfl rfl)
theorem dX1_night_29 : decode cX1_night 29 = .ok (.getfield 248, 3) := dk_180 0 248 (dk_at dksX1_night_1 7 rfl rfl)
theorem dX1_night_32 : decode cX1_night 32 = .ok (.goto 25, 3) := dk_167 0 25 (dk_at dksX1_night_1 10 rfl rfl)
theorem dX1_night_35 : decode cX1_night 35 = .ok (.iload_n 1, 1) := dk_27 (dk_at dksX1_night_1 13 rfl rfl)
theorem dX1_night_36 : decode cX1_night 36 = .ok (.iconst 1, 1) := dk_4 (dk_at dksX1_night_1 14 rfl rfl)
theorem dX1_night_37 : decode cX1_night 37 = .ok (.if_icmp .ne 13, 3) := dk_160 0 13 (dk_at dksX1_night_1 15 rfl rfl)
theorem dX1_night_40 : decode cX1_night 40 = .ok (.aload_n 0, 1) := dk_42 (dk_at dksX1_night_1 18 rfl rfl)
theorem dX1_night_41 : decode cX1_night 41 = .ok (.getfield 58, 3) := dk_180 0 58 (dk_at dksX1_night_1 19 rfl rfl)
theorem dX1_night_44 : decode cX1_night 44 = .ok (.invokevirtual 251, 3) := dk_182 0 251 (dk_at dksX1_night_2 0 rfl rfl)
theorem dX1_night_47 : decode cX1_night 47 = .ok (.goto 10, 3) := dk_167 0 10 (dk_at dksX1_night_2 3 rfl rfl)
theorem dX1_night_50 : decode cX1_night 50 = .ok (.aload_n 0, 1) := dk_42 (dk_at dksX1_night_2 6 rfl rfl)
theorem dX1_night_51 : decode cX1_night 51 = .ok (.getfield 58, 3) := dk_180 0 58 (dk_at dksX1_night_2 7 rfl rfl)
theorem dX1_night_54 : decode cX1_night 54 = .ok (.getfield 254, 3) := dk_180 0 254 (dk_at dksX1_night_2 10 rfl rfl)
theorem dX1_night_57 : decode cX1_night 57 = .ok (.ireturn, 1) := dk_172 (dk_at dksX1_night_2 13 rfl rfl)
theorem dX1_night_58 : decode cX1_night 58 = .ok (.iconst (-1), 1) := dk_2 (dk_at dksX1_night_2 14 rfl rfl)
theorem dX1_night_59 : decode cX1_night 59 = .ok (.istore_n 2, 1) := dk_61 (dk_at dksX1_night_2 15 rfl rfl)
theorem dX1_night_60 : decode cX1_night 60 = .ok (.iconst 0, 1) := dk_3 (dk_at dksX1_night_2 16 rfl rfl)
theorem dX1_night_61 : decode cX1_night 61 = .ok (.istore_n 3, 1) := dk_62 (dk_at dksX1_night_2 17 rfl rfl)
theorem dX1_night_62 : decode cX1_night 62 = .ok (.iload_n 3, 1) := dk_29 (dk_at dksX1_night_2 18 rfl rfl)
theorem dX1_night_63 : decode cX1_night 63 = .ok (.aload_n 0, 1) := dk_42 (dk_at dksX1_night_2 19 rfl rfl)
theorem dX1_night_64 : decode cX1_night 64 = .ok (.invokevirtual 102, 3) := dk_182 0 102 (dk_at dksX1_night_2 20 rfl rfl)
theorem dX1_night_67 : decode cX1_night 67 = .ok (.if_icmp .ge 37, 3) := dk_162 0 37 (dk_at dksX1_night_3 0 rfl rfl)
theorem dX1_night_70 : decode cX1_night 70 = .ok (.iload_n 2, 1) := dk_28 (dk_at dksX1_night_3 3 rfl rfl)
theorem dX1_night_71 : decode cX1_night 71 = .ok (.iconst (-1), 1) := dk_2 (dk_at dksX1_night_3 4 rfl rfl)
theorem dX1_night_72 : decode cX1_night 72 = .ok (.if_icmp .eq 24, 3) := dk_159 0 24 (dk_at dksX1_night_3 5 rfl rfl)
theorem dX1_night_75 : decode cX1_night 75 = .ok (.aload_n 0, 1) := dk_42 (dk_at dksX1_night_3 8 rfl rfl)
theorem dX1_night_76 : decode cX1_night 76 = .ok (.getfield 58, 3) := dk_180 0 58 (dk_at dksX1_night_3 9 rfl rfl)
theorem dX1_night_79 : decode cX1_night 79 = .ok (.getfield 257, 3) := dk_180 1 1 (dk_at dksX1_night_3 12 rfl rfl)
theorem dX1_night_82 : decode cX1_night 82 = .ok (.iload_n 3, 1) := dk_29 (dk_at dksX1_night_3 15 rfl rfl)
theorem dX1_night_83 : decode cX1_night 83 = .ok (.iaload, 1) := dk_46 (dk_at dksX1_night_3 16 rfl rfl)
theorem dX1_night_84 : decode cX1_night 84 = .ok (.aload_n 0, 1) := dk_42 (dk_at dksX1_night_3 17 rfl rfl)
theorem dX1_night_85 : decode cX1_night 85 = .ok (.getfield 58, 3) := dk_180 0 58 (dk_at dksX1_night_3 18 rfl rfl)
theorem dX1_night_88 : decode cX1_night 88 = .ok (.getfield 257, 3) := dk_180 1 1 (dk_at dksX1_night_3 21 rfl rfl)
theorem dX1_night_91 : decode cX1_night 91 = .ok (.iload_n 2, 1) := dk_28 (dk_at dksX1_night_4 0 rfl rfl)
theorem dX1_night_92 : decode cX1_night 92 = .ok (.iaload, 1) := dk_46 (dk_at dksX1_night_4 1 rfl rfl)
theorem dX1_night_93 : decode cX1_night 93 = .ok (.if_icmp .le 5, 3) := dk_164 0 5 (dk_at dksX1_night_4 2 rfl rfl)
theorem dX1_night_96 : decode cX1_night 96 = .ok (.iload_n 3, 1) := dk_29 (dk_at dksX1_night_4 5 rfl rfl)
theorem dX1_night_97 : decode cX1_night 97 = .ok (.istore_n 2, 1) := dk_61 (dk_at dksX1_night_4 6 rfl rfl)
theorem dX1_night_98 : decode cX1_night 98 = .ok (.iinc 3 1, 3) := dk_132 3 1 (dk_at dksX1_night_4 7 rfl rfl)
theorem dX1_night_101 : decode cX1_night 101 = .ok (.goto (-39), 3) := dk_167 255 217 (dk_at dksX1_night_4 10 rfl rfl)
theorem dX1_night_104 : decode cX1_night 104 = .ok (.iload_n 2, 1) := dk_28 (dk_at dksX1_night_4 13 rfl rfl)
theorem dX1_night_105 : decode cX1_night 105 = .ok (.ireturn, 1) := dk_172 (dk_at dksX1_night_4 14 rfl rfl)
abbrev cX1_woken : ByteArray := prog_1_method_22_code
def yX1_woken : MethodName := ⟨RX1, "woken", "(II)I"⟩
def dkwX1_woken_2 : List UInt8 := [172]
abbrev dktX1_woken_2 : List UInt8 := dkwX1_woken_2 ++ []
def dkwX1_woken_1 : List UInt8 := [154, 0, 15, 42, 180, 0, 58, 180, 1, 1, 27, 46, 167, 0, 12, 42, 180, 0, 58, 180, 1, 4, 27, 46]
abbrev dktX1_woken_1 : List UInt8 := dkwX1_woken_1 ++ dktX1_woken_2
def dkwX1_woken_0 : List UInt8 := [42, 27, 182, 0, 190, 87, 28, 3, 4, 184, 0, 156, 184, 0, 104, 42, 180, 0, 58, 182, 0, 245, 28]
abbrev dktX1_woken_0 : List UInt8 := dkwX1_woken_0 ++ dktX1_woken_1
theorem dksX1_woken_0 : cX1_woken.data.toList.drop 0 = dktX1_woken_0 := by decide +kernel
theorem dksX1_woken_1 : cX1_woken.data.toList.drop 23 = dktX1_woken_1 := dk_seg dksX1_woken_0 23 rfl rfl
theorem dksX1_woken_2 : cX1_woken.data.toList.drop 47 = dktX1_woken_2 := dk_seg dksX1_woken_1 24 rfl rfl
theorem dX1_woken_0 : decode cX1_woken 0 = .ok (.aload_n 0, 1) := dk_42 (dk_at dksX1_woken_0 0 rfl rfl)
theorem dX1_woken_1 : decode cX1_woken 1 = .ok (.iload_n 1, 1) := dk_27 (dk_at dksX1_woken_0 1 rfl rfl)
theorem dX1_woken_2 : decode cX1_woken 2 = .ok (.invokevirtual 190, 3) := dk_182 0 190 (dk_at dksX1_woken_0 2 rfl rfl)
theorem dX1_woken_5 : decode cX1_woken 5 = .ok (.pop, 1) := dk_87 (dk_at dksX1_woken_0 5 rfl rfl)
theorem dX1_woken_6 : decode cX1_woken 6 = .ok (.iload_n 2, 1) := dk_28 (dk_at dksX1_woken_0 6 rfl rfl)
theorem dX1_woken_7 : decode cX1_woken 7 = .ok (.iconst 0, 1) := dk_3 (dk_at dksX1_woken_0 7 rfl rfl)
theorem dX1_woken_8 : decode cX1_woken 8 = .ok (.iconst 1, 1) := dk_4 (dk_at dksX1_woken_0 8 rfl rfl)
theorem dX1_woken_9 : decode cX1_woken 9 = .ok (.invokestatic 156, 3) := dk_184 0 156 (dk_at dksX1_woken_0 9 rfl rfl)
theorem dX1_woken_12 : decode cX1_woken 12 = .ok (.invokestatic 104, 3) := dk_184 0 104 (dk_at dksX1_woken_0 12 rfl rfl)
theorem dX1_woken_15 : decode cX1_woken 15 = .ok (.aload_n 0, 1) := dk_42 (dk_at dksX1_woken_0 15 rfl rfl)
theorem dX1_woken_16 : decode cX1_woken 16 = .ok (.getfield 58, 3) := dk_180 0 58 (dk_at dksX1_woken_0 16 rfl rfl)
theorem dX1_woken_19 : decode cX1_woken 19 = .ok (.invokevirtual 245, 3) := dk_182 0 245 (dk_at dksX1_woken_0 19 rfl rfl)
theorem dX1_woken_22 : decode cX1_woken 22 = .ok (.iload_n 2, 1) := dk_28 (dk_at dksX1_woken_0 22 rfl rfl)
theorem dX1_woken_23 : decode cX1_woken 23 = .ok (.ifCond .ne 15, 3) := dk_154 0 15 (dk_at dksX1_woken_1 0 rfl rfl)
theorem dX1_woken_26 : decode cX1_woken 26 = .ok (.aload_n 0, 1) := dk_42 (dk_at dksX1_woken_1 3 rfl rfl)
theorem dX1_woken_27 : decode cX1_woken 27 = .ok (.getfield 58, 3) := dk_180 0 58 (dk_at dksX1_woken_1 4 rfl rfl)
theorem dX1_woken_30 : decode cX1_woken 30 = .ok (.getfield 257, 3) := dk_180 1 1 (dk_at dksX1_woken_1 7 rfl rfl)
theorem dX1_woken_33 : decode cX1_woken 33 = .ok (.iload_n 1, 1) := dk_27 (dk_at dksX1_woken_1 10 rfl rfl)
theorem dX1_woken_34 : decode cX1_woken 34 = .ok (.iaload, 1) := dk_46 (dk_at dksX1_woken_1 11 rfl rfl)
theorem dX1_woken_35 : decode cX1_woken 35 = .ok (.goto 12, 3) := dk_167 0 12 (dk_at dksX1_woken_1 12 rfl rfl)
theorem dX1_woken_38 : decode cX1_woken 38 = .ok (.aload_n 0, 1) := dk_42 (dk_at dksX1_woken_1 15 rfl rfl)
theorem dX1_woken_39 : decode cX1_woken 39 = .ok (.getfield 58, 3) := dk_180 0 58 (dk_at dksX1_woken_1 16 rfl rfl)
theorem dX1_woken_42 : decode cX1_woken 42 = .ok (.getfield 260, 3) := dk_180 1 4 (dk_at dksX1_woken_1 19 rfl rfl)
theorem dX1_woken_45 : decode cX1_woken 45 = .ok (.iload_n 1, 1) := dk_27 (dk_at dksX1_woken_1 22 rfl rfl)
theorem dX1_woken_46 : decode cX1_woken 46 = .ok (.iaload, 1) := dk_46 (dk_at dksX1_woken_1 23 rfl rfl)
theorem dX1_woken_47 : decode cX1_woken 47 = .ok (.ireturn, 1) := dk_172 (dk_at dksX1_woken_2 0 rfl rfl)
abbrev cX1_lies : ByteArray := prog_1_method_23_code
def yX1_lies : MethodName := ⟨RX1, "lies", "(III)I"⟩
def dkwX1_lies_3 : List UInt8 := [172]
abbrev dktX1_lies_3 : List UInt8 := dkwX1_lies_3 ++ []
def dkwX1_lies_2 : List UInt8 := [180, 1, 10, 27, 46, 167, 0, 19, 42, 180, 0, 58, 27, 182, 1, 13, 153, 0, 7, 4, 167, 0, 4, 3]
abbrev dktX1_lies_2 : List UInt8 := dkwX1_lies_2 ++ dktX1_lies_3
def dkwX1_lies_1 : List UInt8 := [184, 0, 156, 184, 0, 121, 42, 180, 0, 58, 28, 182, 1, 7, 29, 154, 0, 15, 42, 180, 0, 58]
abbrev dktX1_lies_1 : List UInt8 := dkwX1_lies_1 ++ dktX1_lies_2
def dkwX1_lies_0 : List UInt8 := [42, 27, 182, 0, 190, 87, 29, 3, 4, 184, 0, 156, 184, 0, 104, 28, 3, 42, 180, 0, 10, 180, 0, 166]
abbrev dktX1_lies_0 : List UInt8 := dkwX1_lies_0 ++ dktX1_lies_1
theorem dksX1_lies_0 : cX1_lies.data.toList.drop 0 = dktX1_lies_0 := by decide +kernel
theorem dksX1_lies_1 : cX1_lies.data.toList.drop 24 = dktX1_lies_1 := dk_seg dksX1_lies_0 24 rfl rfl
theorem dksX1_lies_2 : cX1_lies.data.toList.drop 46 = dktX1_lies_2 := dk_seg dksX1_lies_1 22 rfl rfl
theorem dksX1_lies_3 : cX1_lies.data.toList.drop 70 = dktX1_lies_3 := dk_seg dksX1_lies_2 24 rfl rfl
theorem dX1_lies_0 : decode cX1_lies 0 = .ok (.aload_n 0, 1) := dk_42 (dk_at dksX1_lies_0 0 rfl rfl)
theorem dX1_lies_1 : decode cX1_lies 1 = .ok (.iload_n 1, 1) := dk_27 (dk_at dksX1_lies_0 1 rfl rfl)
theorem dX1_lies_2 : decode cX1_lies 2 = .ok (.invokevirtual 190, 3) := dk_182 0 190 (dk_at dksX1_lies_0 2 rfl rfl)
theorem dX1_lies_5 : decode cX1_lies 5 = .ok (.pop, 1) := dk_87 (dk_at dksX1_lies_0 5 rfl rfl)
theorem dX1_lies_6 : decode cX1_lies 6 = .ok (.iload_n 3, 1) := dk_29 (dk_at dksX1_lies_0 6 rfl rfl)
theorem dX1_lies_7 : decode cX1_lies 7 = .ok (.iconst 0, 1) := dk_3 (dk_at dksX1_lies_0 7 rfl rfl)
theorem dX1_lies_8 : decode cX1_lies 8 = .ok (.iconst 1, 1) := dk_4 (dk_at dksX1_lies_0 8 rfl rfl)
theorem dX1_lies_9 : decode cX1_lies 9 = .ok (.invokestatic 156, 3) := dk_184 0 156 (dk_at dksX1_lies_0 9 rfl rfl)
theorem dX1_lies_12 : decode cX1_lies 12 = .ok (.invokestatic 104, 3) := dk_184 0 104 (dk_at dksX1_lies_0 12 rfl rfl)
theorem dX1_lies_15 : decode cX1_lies 15 = .ok (.iload_n 2, 1) := dk_28 (dk_at dksX1_lies_0 15 rfl rfl)
theorem dX1_lies_16 : decode cX1_lies 16 = .ok (.iconst 0, 1) := dk_3 (dk_at dksX1_lies_0 16 rfl rfl)
theorem dX1_lies_17 : decode cX1_lies 17 = .ok (.aload_n 0, 1) := dk_42 (dk_at dksX1_lies_0 17 rfl rfl)
theorem dX1_lies_18 : decode cX1_lies 18 = .ok (.getfield 10, 3) := dk_180 0 10 (dk_at dksX1_lies_0 18 rfl rfl)
theorem dX1_lies_21 : decode cX1_lies 21 = .ok (.getfield 166, 3) := dk_180 0 166 (dk_at dksX1_lies_0 21 rfl rfl)
theorem dX1_lies_24 : decode cX1_lies 24 = .ok (.invokestatic 156, 3) := dk_184 0 156 (dk_at dksX1_lies_1 0 rfl rfl)
theorem dX1_lies_27 : decode cX1_lies 27 = .ok (.invokestatic 121, 3) := dk_184 0 121 (dk_at dksX1_lies_1 3 rfl rfl)
theorem dX1_lies_30 : decode cX1_lies 30 = .ok (.aload_n 0, 1) := dk_42 (dk_at dksX1_lies_1 6 rfl rfl)
theorem dX1_lies_31 : decode cX1_lies 31 = .ok (.getfield 58, 3) := dk_180 0 58 (dk_at dksX1_lies_1 7 rfl rfl)
theorem dX1_lies_34 : decode cX1_lies 34 = .ok (.iload_n 2, 1) := dk_28 (dk_at dksX1_lies_1 10 rfl rfl)
theorem dX1_lies_35 : decode cX1_lies 35 = .ok (.invokevirtual 263, 3) := dk_182 1 7 (dk_at dksX1_lies_1 11 rfl rfl)
theorem dX1_lies_38 : decode cX1_lies 38 = .ok (.iload_n 3, 1) := dk_29 (dk_at dksX1_lies_1 14 rfl rfl)
theorem dX1_lies_39 : decode cX1_lies 39 = .ok (.ifCond .ne 15, 3) := dk_154 0 15 (dk_at dksX1_lies_1 15 rfl rfl)
theorem dX1_lies_42 : decode cX1_lies 42 = .ok (.aload_n 0, 1) := dk_42 (dk_at dksX1_lies_1 18 rfl rfl)
theorem dX1_lies_43 : decode cX1_lies 43 = .ok (.getfield 58, 3) := dk_180 0 58 (dk_at dksX1_lies_1 19 rfl rfl)
theorem dX1_lies_46 : decode cX1_lies 46 = .ok (.getfield 266, 3) := dk_180 1 10 (dk_at dksX1_lies_2 0 rfl rfl)
theorem dX1_lies_49 : decode cX1_lies 49 = .ok (.iload_n 1, 1) := dk_27 (dk_at dksX1_lies_2 3 rfl rfl)
theorem dX1_lies_50 : decode cX1_lies 50 = .ok (.iaload, 1) := dk_46 (dk_at dksX1_lies_2 4 rfl rfl)
theorem dX1_lies_51 : decode cX1_lies 51 = .ok (.goto 19, 3) := dk_167 0 19 (dk_at dksX1_lies_2 5 rfl rfl)
theorem dX1_lies_54 : decode cX1_lies 54 = .ok (.aload_n 0, 1) := dk_42 (dk_at dksX1_lies_2 8 rfl rfl)
theorem dX1_lies_55 : decode cX1_lies 55 = .ok (.getfield 58, 3) := dk_180 0 58 (dk_at dksX1_lies_2 9 rfl rfl)
theorem dX1_lies_58 : decode cX1_lies 58 = .ok (.iload_n 1, 1) := dk_27 (dk_at dksX1_lies_2 12 rfl rfl)
theorem dX1_lies_59 : decode cX1_lies 59 = .ok (.invokevirtual 269, 3) := dk_182 1 13 (dk_at dksX1_lies_2 13 rfl rfl)
theorem dX1_lies_62 : decode cX1_lies 62 = .ok (.ifCond .eq 7, 3) := dk_153 0 7 (dk_at dksX1_lies_2 16 rfl rfl)
theorem dX1_lies_65 : decode cX1_lies 65 = .ok (.iconst 1, 1) := dk_4 (dk_at dksX1_lies_2 19 rfl rfl)
theorem dX1_lies_66 : decode cX1_lies 66 = .ok (.goto 4, 3) := dk_167 0 4 (dk_at dksX1_lies_2 20 rfl rfl)
theorem dX1_lies_69 : decode cX1_lies 69 = .ok (.iconst 0, 1) := dk_3 (dk_at dksX1_lies_2 23 rfl rfl)
theorem dX1_lies_70 : decode cX1_lies 70 = .ok (.ireturn, 1) := dk_172 (dk_at dksX1_lies_3 0 rfl rfl)
abbrev cX1_turn : ByteArray := prog_1_method_24_code
def yX1_turn : MethodName := ⟨RX1, "turn", "(II)I"⟩
def dkwX1_turn_4 : List UInt8 := [167, 0, 9, 42, 180, 0, 47, 27, 46, 172]
abbrev dktX1_turn_4 : List UInt8 := dkwX1_turn_4 ++ []
def dkwX1_turn_3 : List UInt8 := [160, 0, 12, 42, 180, 0, 41, 27, 46, 167, 0, 23, 28, 5, 160, 0, 12, 42, 180, 0, 44, 27, 46]
abbrev dktX1_turn_3 : List UInt8 := dkwX1_turn_3 ++ dktX1_turn_4
def dkwX1_turn_2 : List UInt8 := [167, 0, 4, 3, 184, 0, 104, 28, 154, 0, 12, 42, 180, 0, 37, 27, 46, 167, 0, 37, 28, 4]
abbrev dktX1_turn_2 : List UInt8 := dkwX1_turn_2 ++ dktX1_turn_3
def dkwX1_turn_1 : List UInt8 := [3, 184, 0, 104, 42, 180, 0, 58, 182, 0, 245, 27, 42, 180, 0, 58, 180, 0, 248, 162, 0, 7, 4]
abbrev dktX1_turn_1 : List UInt8 := dkwX1_turn_1 ++ dktX1_turn_2
def dkwX1_turn_0 : List UInt8 := [27, 155, 0, 23, 27, 17, 4, 176, 162, 0, 16, 28, 3, 6, 184, 0, 156, 153, 0, 7, 4, 167, 0, 4]
abbrev dktX1_turn_0 : List UInt8 := dkwX1_turn_0 ++ dktX1_turn_1
theorem dksX1_turn_0 : cX1_turn.data.toList.drop 0 = dktX1_turn_0 := by decide +kernel
theorem dksX1_turn_1 : cX1_turn.data.toList.drop 24 = dktX1_turn_1 := dk_seg dksX1_turn_0 24 rfl rfl
theorem dksX1_turn_2 : cX1_turn.data.toList.drop 47 = dktX1_turn_2 := dk_seg dksX1_turn_1 23 rfl rfl
theorem dksX1_turn_3 : cX1_turn.data.toList.drop 69 = dktX1_turn_3 := dk_seg dksX1_turn_2 22 rfl rfl
theorem dksX1_turn_4 : cX1_turn.data.toList.drop 92 = dktX1_turn_4 := dk_seg dksX1_turn_3 23 rfl rfl
theorem dX1_turn_0 : decode cX1_turn 0 = .ok (.iload_n 1, 1) := dk_27 (dk_at dksX1_turn_0 0 rfl rfl)
theorem dX1_turn_1 : decode cX1_turn 1 = .ok (.ifCond .lt 23, 3) := dk_155 0 23 (dk_at dksX1_turn_0 1 rfl rfl)
theorem dX1_turn_4 : decode cX1_turn 4 = .ok (.iload_n 1, 1) := dk_27 (dk_at dksX1_turn_0 4 rfl rfl)
theorem dX1_turn_5 : decode cX1_turn 5 = .ok (.sipush 1200, 3) := dk_17 4 176 (dk_at dksX1_turn_0 5 rfl rfl)
theorem dX1_turn_8 : decode cX1_turn 8 = .ok (.if_icmp .ge 16, 3) := dk_162 0 16 (dk_at dksX1_turn_0 8 rfl rfl)
theorem dX1_turn_11 : decode cX1_turn 11 = .ok (.iload_n 2, 1) := dk_28 (dk_at dksX1_turn_0 11 rfl rfl)
theorem dX1_turn_12 : decode cX1_turn 12 = .ok (.iconst 0, 1) := dk_3 (dk_at dksX1_turn_0 12 rfl rfl)
theorem dX1_turn_13 : decode cX1_turn 13 = .ok (.iconst 3, 1) := dk_6 (dk_at dksX1_turn_0 13 rfl rfl)
theorem dX1_turn_14 : decode cX1_turn 14 = .ok (.invokestatic 156, 3) := dk_184 0 156 (dk_at dksX1_turn_0 14 rfl rfl)
theorem dX1_turn_17 : decode cX1_turn 17 = .ok (.ifCond .eq 7, 3) := dk_153 0 7 (dk_at dksX1_turn_0 17 rfl rfl)
theorem dX1_turn_20 : decode cX1_turn 20 = .ok (.iconst 1, 1) := dk_4 (dk_at dksX1_turn_0 20 rfl rfl)
theorem dX1_turn_21 : decode cX1_turn 21 = .ok (.goto 4, 3) := dk_167 0 4 (dk_at dksX1_turn_0 21 rfl rfl)
theorem dX1_turn_24 : decode cX1_turn 24 = .ok (.iconst 0, 1) := dk_3 (dk_at dksX1_turn_1 0 rfl rfl)
theorem dX1_turn_25 : decode cX1_turn 25 = .ok (.invokestatic 104, 3) := dk_184 0 104 (dk_at dksX1_turn_1 1 rfl rfl)
theorem dX1_turn_28 : decode cX1_turn 28 = .ok (.aload_n 0, 1) := dk_42 (dk_at dksX1_turn_1 4 rfl rfl)
theorem dX1_turn_29 : decode cX1_turn 29 = .ok (.getfield 58, 3) := dk_180 0 58 (dk_at dksX1_turn_1 5 rfl rfl)
theorem dX1_turn_32 : decode cX1_turn 32 = .ok (.invokevirtual 245, 3) := dk_182 0 245 (dk_at dksX1_turn_1 8 rfl rfl)
theorem dX1_turn_35 : decode cX1_turn 35 = .ok (.iload_n 1, 1) := dk_27 (dk_at dksX1_turn_1 11 rfl rfl)
theorem dX1_turn_36 : decode cX1_turn 36 = .ok (.aload_n 0, 1) := dk_42 (dk_at dksX1_turn_1 12 rfl rfl)
theorem dX1_turn_37 : decode cX1_turn 37 = .ok (.getfield 58, 3) := dk_180 0 58 (dk_at dksX1_turn_1 13 rfl rfl)
theorem dX1_turn_40 : decode cX1_turn 40 = .ok (.getfield 248, 3) := dk_180 0 248 (dk_at dksX1_turn_1 16 rfl rfl)
theorem dX1_turn_43 : decode cX1_turn 43 = .ok (.if_icmp .ge 7, 3) := dk_162 0 7 (dk_at dksX1_turn_1 19 rfl rfl)
theorem dX1_turn_46 : decode cX1_turn 46 = .ok (.iconst 1, 1) := dk_4 (dk_at dksX1_turn_1 22 rfl rfl)
theorem dX1_turn_47 : decode cX1_turn 47 = .ok (.goto 4, 3) := dk_167 0 4 (dk_at dksX1_turn_2 0 rfl rfl)
theorem dX1_turn_50 : decode cX1_turn 50 = .ok (.iconst 0, 1) := dk_3 (dk_at dksX1_turn_2 3 rfl rfl)
theorem dX1_turn_51 : decode cX1_turn 51 = .ok (.invokestatic 104, 3) := dk_184 0 104 (dk_at dksX1_turn_2 4 rfl rfl)
theorem dX1_turn_54 : decode cX1_turn 54 = .ok (.iload_n 2, 1) := dk_28 (dk_at dksX1_turn_2 7 rfl rfl)
theorem dX1_turn_55 : decode cX1_turn 55 = .ok (.ifCond .ne 12, 3) := dk_154 0 12 (dk_at dksX1_turn_2 8 rfl rfl)
theorem dX1_turn_58 : decode cX1_turn 58 = .ok (.aload_n 0, 1) := dk_42 (dk_at dksX1_turn_2 11 rfl rfl)
theorem dX1_turn_59 : decode cX1_turn 59 = .ok (.getfield 37, 3) := dk_180 0 37 (dk_at dksX1_turn_2 12 rfl rfl)
theorem dX1_turn_62 : decode cX1_turn 62 = .ok (.iload_n 1, 1) := dk_27 (dk_at dksX1_turn_2 15 rfl rfl)
theorem dX1_turn_63 : decode cX1_turn 63 = .ok (.iaload, 1) := dk_46 (dk_at dksX1_turn_2 16 rfl rfl)
theorem dX1_turn_64 : decode cX1_turn 64 = .ok (.goto 37, 3) := dk_167 0 37 (dk_at dksX1_turn_2 17 rfl rfl)
theorem dX1_turn_67 : decode cX1_turn 67 = .ok (.iload_n 2, 1) := dk_28 (dk_at dksX1_turn_2 20 rfl rfl)
theorem dX1_turn_68 : decode cX1_turn 68 = .ok (.iconst 1, 1) := dk_4 (dk_at dksX1_turn_2 21 rfl rfl)
theorem dX1_turn_69 : decode cX1_turn 69 = .ok (.if_icmp .ne 12, 3) := dk_160 0 12 (dk_at dksX1_turn_3 0 rfl rfl)
theorem dX1_turn_72 : decode cX1_turn 72 = .ok (.aload_n 0, 1) := dk_42 (dk_at dksX1_turn_3 3 rfl rfl)
theorem dX1_turn_73 : decode cX1_turn 73 = .ok (.getfield 41, 3) := dk_180 0 41 (dk_at dksX1_turn_3 4 rfl rfl)
theorem dX1_turn_76 : decode cX1_turn 76 = .ok (.iload_n 1, 1) := dk_27 (dk_at dksX1_turn_3 7 rfl rfl)
theorem dX1_turn_77 : decode cX1_turn 77 = .ok (.iaload, 1) := dk_46 (dk_at dksX1_turn_3 8 rfl rfl)
theorem dX1_turn_78 : decode cX1_turn 78 = .ok (.goto 23, 3) := dk_167 0 23 (dk_at dksX1_turn_3 9 rfl rfl)
theorem dX1_turn_81 : decode cX1_turn 81 = .ok (.iload_n 2, 1) := dk_28 (dk_at dksX1_turn_3 12 rfl rfl)
theorem dX1_turn_82 : decode cX1_turn 82 = .ok (.iconst 2, 1) := dk_5 (dk_at dksX1_turn_3 13 rfl rfl)
theorem dX1_turn_83 : decode cX1_turn 83 = .ok (.if_icmp .ne 12, 3) := dk_160 0 12 (dk_at dksX1_turn_3 14 rfl rfl)
theorem dX1_turn_86 : decode cX1_turn 86 = .ok (.aload_n 0, 1) := dk_42 (dk_at dksX1_turn_3 17 rfl rfl)
theorem dX1_turn_87 : decode cX1_turn 87 = .ok (.getfield 44, 3) := dk_180 0 44 (dk_at dksX1_turn_3 18 rfl rfl)
theorem dX1_turn_90 : decode cX1_turn 90 = .ok (.iload_n 1, 1) := dk_27 (dk_at dksX1_turn_3 21 rfl rfl)
theorem dX1_turn_91 : decode cX1_turn 91 = .ok (.iaload, 1) := dk_46 (dk_at dksX1_turn_3 22 rfl rfl)
theorem dX1_turn_92 : decode cX1_turn 92 = .ok (.goto 9, 3) := dk_167 0 9 (dk_at dksX1_turn_4 0 rfl rfl)
theorem dX1_turn_95 : decode cX1_turn 95 = .ok (.aload_n 0, 1) := dk_42 (dk_at dksX1_turn_4 3 rfl rfl)
theorem dX1_turn_96 : decode cX1_turn 96 = .ok (.getfield 47, 3) := dk_180 0 47 (dk_at dksX1_turn_4 4 rfl rfl)
theorem dX1_turn_99 : decode cX1_turn 99 = .ok (.iload_n 1, 1) := dk_27 (dk_at dksX1_turn_4 7 rfl rfl)
theorem dX1_turn_100 : decode cX1_turn 100 = .ok (.iaload, 1) := dk_46 (dk_at dksX1_turn_4 8 rfl rfl)
theorem dX1_turn_101 : decode cX1_turn 101 = .ok (.ireturn, 1) := dk_172 (dk_at dksX1_turn_4 9 rfl rfl)
abbrev cX1_kept : ByteArray := prog_1_method_33_code
def yX1_kept : MethodName := ⟨RX1, "kept", "(I)I"⟩
def dkwX1_kept_1 : List UInt8 := [180, 0, 76, 27, 46, 172]
abbrev dktX1_kept_1 : List UInt8 := dkwX1_kept_1 ++ []
def dkwX1_kept_0 : List UInt8 := [42, 180, 0, 149, 153, 0, 15, 42, 27, 182, 0, 220, 153, 0, 7, 4, 167, 0, 4, 3, 184, 0, 104, 42]
abbrev dktX1_kept_0 : List UInt8 := dkwX1_kept_0 ++ dktX1_kept_1
theorem dksX1_kept_0 : cX1_kept.data.toList.drop 0 = dktX1_kept_0 := by decide +kernel
theorem dksX1_kept_1 : cX1_kept.data.toList.drop 24 = dktX1_kept_1 := dk_seg dksX1_kept_0 24 rfl rfl
theorem dX1_kept_0 : decode cX1_kept 0 = .ok (.aload_n 0, 1) := dk_42 (dk_at dksX1_kept_0 0 rfl rfl)
theorem dX1_kept_1 : decode cX1_kept 1 = .ok (.getfield 149, 3) := dk_180 0 149 (dk_at dksX1_kept_0 1 rfl rfl)
theorem dX1_kept_4 : decode cX1_kept 4 = .ok (.ifCond .eq 15, 3) := dk_153 0 15 (dk_at dksX1_kept_0 4 rfl rfl)
theorem dX1_kept_7 : decode cX1_kept 7 = .ok (.aload_n 0, 1) := dk_42 (dk_at dksX1_kept_0 7 rfl rfl)
theorem dX1_kept_8 : decode cX1_kept 8 = .ok (.iload_n 1, 1) := dk_27 (dk_at dksX1_kept_0 8 rfl rfl)
theorem dX1_kept_9 : decode cX1_kept 9 = .ok (.invokevirtual 220, 3) := dk_182 0 220 (dk_at dksX1_kept_0 9 rfl rfl)
theorem dX1_kept_12 : decode cX1_kept 12 = .ok (.ifCond .eq 7, 3) := dk_153 0 7 (dk_at dksX1_kept_0 12 rfl rfl)
theorem dX1_kept_15 : decode cX1_kept 15 = .ok (.iconst 1, 1) := dk_4 (dk_at dksX1_kept_0 15 rfl rfl)
theorem dX1_kept_16 : decode cX1_kept 16 = .ok (.goto 4, 3) := dk_167 0 4 (dk_at dksX1_kept_0 16 rfl rfl)
theorem dX1_kept_19 : decode cX1_kept 19 = .ok (.iconst 0, 1) := dk_3 (dk_at dksX1_kept_0 19 rfl rfl)
theorem dX1_kept_20 : decode cX1_kept 20 = .ok (.invokestatic 104, 3) := dk_184 0 104 (dk_at dksX1_kept_0 20 rfl rfl)
theorem dX1_kept_23 : decode cX1_kept 23 = .ok (.aload_n 0, 1) := dk_42 (dk_at dksX1_kept_0 23 rfl rfl)
theorem dX1_kept_24 : decode cX1_kept 24 = .ok (.getfield 76, 3) := dk_180 0 76 (dk_at dksX1_kept_1 0 rfl rfl)
theorem dX1_kept_27 : decode cX1_kept 27 = .ok (.iload_n 1, 1) := dk_27 (dk_at dksX1_kept_1 3 rfl rfl)
theorem dX1_kept_28 : decode cX1_kept 28 = .ok (.iaload, 1) := dk_46 (dk_at dksX1_kept_1 4 rfl rfl)
theorem dX1_kept_29 : decode cX1_kept 29 = .ok (.ireturn, 1) := dk_172 (dk_at dksX1_kept_1 5 rfl rfl)
abbrev cX1_every : ByteArray := prog_1_method_34_code
def yX1_every : MethodName := ⟨RX1, "every", "(II)I"⟩
def dkwX1_every_5 : List UInt8 := [21, 4, 167, 0, 5, 21, 5, 172]
abbrev dktX1_every_5 : List UInt8 := dkwX1_every_5 ++ []
def dkwX1_every_4 : List UInt8 := [161, 0, 6, 167, 0, 11, 21, 6, 54, 4, 21, 7, 54, 5, 132, 6, 1, 167, 255, 189, 28, 154, 0, 8]
abbrev dktX1_every_4 : List UInt8 := dkwX1_every_4 ++ dktX1_every_5
def dkwX1_every_3 : List UInt8 := [167, 0, 4, 27, 181, 0, 181, 42, 182, 1, 37, 54, 7, 21, 4, 2, 159, 0, 13, 21, 7, 21, 5]
abbrev dktX1_every_3 : List UInt8 := dkwX1_every_3 ++ dktX1_every_4
def dkwX1_every_2 : List UInt8 := [163, 0, 65, 42, 180, 0, 34, 21, 6, 181, 0, 184, 42, 180, 0, 34, 21, 6, 154, 0, 7, 2]
abbrev dktX1_every_2 : List UInt8 := dkwX1_every_2 ++ dktX1_every_3
def dkwX1_every_1 : List UInt8 := [180, 0, 34, 42, 180, 0, 30, 182, 0, 241, 2, 54, 4, 3, 54, 5, 3, 54, 6, 21, 6, 17, 0, 240]
abbrev dktX1_every_1 : List UInt8 := dkwX1_every_1 ++ dktX1_every_2
def dkwX1_every_0 : List UInt8 := [42, 27, 182, 0, 190, 78, 28, 3, 4, 184, 0, 156, 184, 0, 104, 45, 182, 0, 234, 184, 0, 121, 42]
abbrev dktX1_every_0 : List UInt8 := dkwX1_every_0 ++ dktX1_every_1
theorem dksX1_every_0 : cX1_every.data.toList.drop 0 = dktX1_every_0 := by decide +kernel
theorem dksX1_every_1 : cX1_every.data.toList.drop 23 = dktX1_every_1 := dk_seg dksX1_every_0 23 rfl rfl
theorem dksX1_every_2 : cX1_every.data.toList.drop 47 = dktX1_every_2 := dk_seg dksX1_every_1 24 rfl rfl
theorem dksX1_every_3 : cX1_every.data.toList.drop 69 = dktX1_every_3 := dk_seg dksX1_every_2 22 rfl rfl
theorem dksX1_every_4 : cX1_every.data.toList.drop 92 = dktX1_every_4 := dk_seg dksX1_every_3 23 rfl rfl
theorem dksX1_every_5 : cX1_every.data.toList.drop 116 = dktX1_every_5 := dk_seg dksX1_every_4 24 rfl rfl
theorem dX1_every_0 : decode cX1_every 0 = .ok (.aload_n 0, 1) := dk_42 (dk_at dksX1_every_0 0 rfl rfl)
theorem dX1_every_1 : decode cX1_every 1 = .ok (.iload_n 1, 1) := dk_27 (dk_at dksX1_every_0 1 rfl rfl)
theorem dX1_every_2 : decode cX1_every 2 = .ok (.invokevirtual 190, 3) := dk_182 0 190 (dk_at dksX1_every_0 2 rfl rfl)
theorem dX1_every_5 : decode cX1_every 5 = .ok (.astore_n 3, 1) := dk_78 (dk_at dksX1_every_0 5 rfl rfl)
theorem dX1_every_6 : decode cX1_every 6 = .ok (.iload_n 2, 1) := dk_28 (dk_at dksX1_every_0 6 rfl rfl)
theorem dX1_every_7 : decode cX1_every 7 = .ok (.iconst 0, 1) := dk_3 (dk_at dksX1_every_0 7 rfl rfl)
theorem dX1_every_8 : decode cX1_every 8 = .ok (.iconst 1, 1) := dk_4 (dk_at dksX1_every_0 8 rfl rfl)
theorem dX1_every_9 : decode cX1_every 9 = .ok (.invokestatic 156, 3) := dk_184 0 156 (dk_at dksX1_every_0 9 rfl rfl)
theorem dX1_every_12 : decode cX1_every 12 = .ok (.invokestatic 104, 3) := dk_184 0 104 (dk_at dksX1_every_0 12 rfl rfl)
theorem dX1_every_15 : decode cX1_every 15 = .ok (.aload_n 3, 1) := dk_45 (dk_at dksX1_every_0 15 rfl rfl)
theorem dX1_every_16 : decode cX1_every 16 = .ok (.invokevirtual 234, 3) := dk_182 0 234 (dk_at dksX1_every_0 16 rfl rfl)
theorem dX1_every_19 : decode cX1_every 19 = .ok (.invokestatic 121, 3) := dk_184 0 121 (dk_at dksX1_every_0 19 rfl rfl)
theorem dX1_every_22 : decode cX1_every 22 = .ok (.aload_n 0, 1) := dk_42 (dk_at dksX1_every_0 22 rfl rfl)
theorem dX1_every_23 : decode cX1_every 23 = .ok (.getfield 34, 3) := dk_180 0 34 (dk_at dksX1_every_1 0 rfl rfl)
theorem dX1_every_26 : decode cX1_every 26 = .ok (.aload_n 0, 1) := dk_42 (dk_at dksX1_every_1 3 rfl rfl)
theorem dX1_every_27 : decode cX1_every 27 = .ok (.getfield 30, 3) := dk_180 0 30 (dk_at dksX1_every_1 4 rfl rfl)
theorem dX1_every_30 : decode cX1_every 30 = .ok (.invokevirtual 241, 3) := dk_182 0 241 (dk_at dksX1_every_1 7 rfl rfl)
theorem dX1_every_33 : decode cX1_every 33 = .ok (.iconst (-1), 1) := dk_2 (dk_at dksX1_every_1 10 rfl rfl)
theorem dX1_every_34 : decode cX1_every 34 = .ok (.istore 4, 2) := dk_54 4 (dk_at dksX1_every_1 11 rfl rfl)
theorem dX1_every_36 : decode cX1_every 36 = .ok (.iconst 0, 1) := dk_3 (dk_at dksX1_every_1 13 rfl rfl)
theorem dX1_every_37 : decode cX1_every 37 = .ok (.istore 5, 2) := dk_54 5 (dk_at dksX1_every_1 14 rfl rfl)
theorem dX1_every_39 : decode cX1_every 39 = .ok (.iconst 0, 1) := dk_3 (dk_at dksX1_every_1 16 rfl rfl)
theorem dX1_every_40 : decode cX1_every 40 = .ok (.istore 6, 2) := dk_54 6 (dk_at dksX1_every_1 17 rfl rfl)
theorem dX1_every_42 : decode cX1_every 42 = .ok (.iload 6, 2) := dk_21 6 (dk_at dksX1_every_1 19 rfl rfl)
theorem dX1_every_44 : decode cX1_every 44 = .ok (.sipush 240, 3) := dk_17 0 240 (dk_at dksX1_every_1 21 rfl rfl)
theorem dX1_every_47 : decode cX1_every 47 = .ok (.if_icmp .gt 65, 3) := dk_163 0 65 (dk_at dksX1_every_2 0 rfl rfl)
theorem dX1_every_50 : decode cX1_every 50 = .ok (.aload_n 0, 1) := dk_42 (dk_at dksX1_every_2 3 rfl rfl)
theorem dX1_every_51 : decode cX1_every 51 = .ok (.getfield 34, 3) := dk_180 0 34 (dk_at dksX1_every_2 4 rfl rfl)
theorem dX1_every_54 : decode cX1_every 54 = .ok (.iload 6, 2) := dk_21 6 (dk_at dksX1_every_2 7 rfl rfl)
theorem dX1_every_56 : decode cX1_every 56 = .ok (.putfield 184, 3) := dk_181 0 184 (dk_at dksX1_every_2 9 rfl rfl)
theorem dX1_every_59 : decode cX1_every 59 = .ok (.aload_n 0, 1) := dk_42 (dk_at dksX1_every_2 12 rfl rfl)
theorem dX1_every_60 : decode cX1_every 60 = .ok (.getfield 34, 3) := dk_180 0 34 (dk_at dksX1_every_2 13 rfl rfl)
theorem dX1_every_63 : decode cX1_every 63 = .ok (.iload 6, 2) := dk_21 6 (dk_at dksX1_every_2 16 rfl rfl)
theorem dX1_every_65 : decode cX1_every 65 = .ok (.ifCond .ne 7, 3) := dk_154 0 7 (dk_at dksX1_every_2 18 rfl rfl)
theorem dX1_every_68 : decode cX1_every 68 = .ok (.iconst (-1), 1) := dk_2 (dk_at dksX1_every_2 21 rfl rfl)
theorem dX1_every_69 : decode cX1_every 69 = .ok (.goto 4, 3) := dk_167 0 4 (dk_at dksX1_every_3 0 rfl rfl)
theorem dX1_every_72 : decode cX1_every 72 = .ok (.iload_n 1, 1) := dk_27 (dk_at dksX1_every_3 3 rfl rfl)
theorem dX1_every_73 : decode cX1_every 73 = .ok (.putfield 181, 3) := dk_181 0 181 (dk_at dksX1_every_3 4 rfl rfl)
theorem dX1_every_76 : decode cX1_every 76 = .ok (.aload_n 0, 1) := dk_42 (dk_at dksX1_every_3 7 rfl rfl)
theorem dX1_every_77 : decode cX1_every 77 = .ok (.invokevirtual 293, 3) := dk_182 1 37 (dk_at dksX1_every_3 8 rfl rfl)
theorem dX1_every_80 : decode cX1_every 80 = .ok (.istore 7, 2) := dk_54 7 (dk_at dksX1_every_3 11 rfl rfl)
theorem dX1_every_82 : decode cX1_every 82 = .ok (.iload 4, 2) := dk_21 4 (dk_at dksX1_every_3 13 rfl rfl)
theorem dX1_every_84 : decode cX1_every 84 = .ok (.iconst (-1), 1) := dk_2 (dk_at dksX1_every_3 15 rfl rfl)
theorem dX1_every_85 : decode cX1_every 85 = .ok (.if_icmp .eq 13, 3) := dk_159 0 13 (dk_at dksX1_every_3 16 rfl rfl)
theorem dX1_every_88 : decode cX1_every 88 = .ok (.iload 7, 2) := dk_21 7 (dk_at dksX1_every_3 19 rfl rfl)
theorem dX1_every_90 : decode cX1_every 90 = .ok (.iload 5, 2) := dk_21 5 (dk_at dksX1_every_3 21 rfl rfl)
theorem dX1_every_92 : decode cX1_every 92 = .ok (.if_icmp .lt 6, 3) := dk_161 0 6 (dk_at dksX1_every_4 0 rfl rfl)
theorem dX1_every_95 : decode cX1_every 95 = .ok (.goto 11, 3) := dk_167 0 11 (dk_at dksX1_every_4 3 rfl rfl)
theorem dX1_every_98 : decode cX1_every 98 = .ok (.iload 6, 2) := dk_21 6 (dk_at dksX1_every_4 6 rfl rfl)
theorem dX1_every_100 : decode cX1_every 100 = .ok (.istore 4, 2) := dk_54 4 (dk_at dksX1_every_4 8 rfl rfl)
theorem dX1_every_102 : decode cX1_every 102 = .ok (.iload 7, 2) := dk_21 7 (dk_at dksX1_every_4 10 rfl rfl)
theorem dX1_every_104 : decode cX1_every 104 = .ok (.istore 5, 2) := dk_54 5 (dk_at dksX1_every_4 12 rfl rfl)
theorem dX1_every_106 : decode cX1_every 106 = .ok (.iinc 6 1, 3) := dk_132 6 1 (dk_at dksX1_every_4 14 rfl rfl)
theorem dX1_every_109 : decode cX1_every 109 = .ok (.goto (-67), 3) := dk_167 255 189 (dk_at dksX1_every_4 17 rfl rfl)
theorem dX1_every_112 : decode cX1_every 112 = .ok (.iload_n 2, 1) := dk_28 (dk_at dksX1_every_4 20 rfl rfl)
theorem dX1_every_113 : decode cX1_every 113 = .ok (.ifCond .ne 8, 3) := dk_154 0 8 (dk_at dksX1_every_4 21 rfl rfl)
theorem dX1_every_116 : decode cX1_every 116 = .ok (.iload 4, 2) := dk_21 4 (dk_at dksX1_every_5 0 rfl rfl)
theorem dX1_every_118 : decode cX1_every 118 = .ok (.goto 5, 3) := dk_167 0 5 (dk_at dksX1_every_5 2 rfl rfl)
theorem dX1_every_121 : decode cX1_every 121 = .ok (.iload 5, 2) := dk_21 5 (dk_at dksX1_every_5 5 rfl rfl)
theorem dX1_every_123 : decode cX1_every 123 = .ok (.ireturn, 1) := dk_172 (dk_at dksX1_every_5 7 rfl rfl)
abbrev cX1_bolsters : ByteArray := prog_1_method_35_code
def yX1_bolsters : MethodName := ⟨RX1, "bolsters", "(I)I"⟩
def dkwX1_bolsters_4 : List UInt8 := [132, 4, 2, 167, 255, 185, 27, 154, 0, 7, 28, 167, 0, 4, 29, 172]
abbrev dktX1_bolsters_4 : List UInt8 := dkwX1_bolsters_4 ++ []
def dkwX1_bolsters_3 : List UInt8 := [160, 0, 18, 21, 4, 184, 1, 47, 28, 184, 1, 47, 161, 0, 6, 167, 0, 9, 21, 4, 61, 21, 5, 62]
abbrev dktX1_bolsters_3 : List UInt8 := dkwX1_bolsters_3 ++ dktX1_bolsters_4
def dkwX1_bolsters_2 : List UInt8 := [181, 0, 172, 42, 182, 1, 37, 54, 5, 28, 2, 159, 0, 30, 21, 5, 29, 163, 0, 30, 21, 5, 29]
abbrev dktX1_bolsters_2 : List UInt8 := dkwX1_bolsters_2 ++ dktX1_bolsters_3
def dkwX1_bolsters_1 : List UInt8 := [3, 54, 4, 21, 4, 4, 4, 42, 182, 0, 102, 184, 1, 41, 120, 162, 0, 62, 42, 180, 0, 34, 21, 4]
abbrev dktX1_bolsters_1 : List UInt8 := dkwX1_bolsters_1 ++ dktX1_bolsters_2
def dkwX1_bolsters_0 : List UInt8 := [27, 3, 4, 184, 0, 156, 184, 0, 104, 42, 180, 0, 34, 42, 180, 0, 30, 182, 0, 241, 2, 61, 3, 62]
abbrev dktX1_bolsters_0 : List UInt8 := dkwX1_bolsters_0 ++ dktX1_bolsters_1
theorem dksX1_bolsters_0 : cX1_bolsters.data.toList.drop 0 = dktX1_bolsters_0 := by decide +kernel
theorem dksX1_bolsters_1 : cX1_bolsters.data.toList.drop 24 = dktX1_bolsters_1 := dk_seg dksX1_bolsters_0 24 rfl rfl
theorem dksX1_bolsters_2 : cX1_bolsters.data.toList.drop 48 = dktX1_bolsters_2 := dk_seg dksX1_bolsters_1 24 rfl rfl
theorem dksX1_bolsters_3 : cX1_bolsters.data.toList.drop 71 = dktX1_bolsters_3 := dk_seg dksX1_bolsters_2 23 rfl rfl
theorem dksX1_bolsters_4 : cX1_bolsters.data.toList.drop 95 = dktX1_bolsters_4 := dk_seg dksX1_bolsters_3 24 rfl rfl
theorem dX1_bolsters_0 : decode cX1_bolsters 0 = .ok (.iload_n 1, 1) := dk_27 (dk_at dksX1_bolsters_0 0 rfl rfl)
theorem dX1_bolsters_1 : decode cX1_bolsters 1 = .ok (.iconst 0, 1) := dk_3 (dk_at dksX1_bolsters_0 1 rfl rfl)
theorem dX1_bolsters_2 : decode cX1_bolsters 2 = .ok (.iconst 1, 1) := dk_4 (dk_at dksX1_bolsters_0 2 rfl rfl)
theorem dX1_bolsters_3 : decode cX1_bolsters 3 = .ok (.invokestatic 156, 3) := dk_184 0 156 (dk_at dksX1_bolsters_0 3 rfl rfl)
theorem dX1_bolsters_6 : decode cX1_bolsters 6 = .ok (.invokestatic 104, 3) := dk_184 0 104 (dk_at dksX1_bolsters_0 6 rfl rfl)
theorem dX1_bolsters_9 : decode cX1_bolsters 9 = .ok (.aload_n 0, 1) := dk_42 (dk_at dksX1_bolsters_0 9 rfl rfl)
theorem dX1_bolsters_10 : decode cX1_bolsters 10 = .ok (.getfield 34, 3) := dk_180 0 34 (dk_at dksX1_bolsters_0 10 rfl rfl)
theorem dX1_bolsters_13 : decode cX1_bolsters 13 = .ok (.aload_n 0, 1) := dk_42 (dk_at dksX1_bolsters_0 13 rfl rfl)
theorem dX1_bolsters_14 : decode cX1_bolsters 14 = .ok (.getfield 30, 3) := dk_180 0 30 (dk_at dksX1_bolsters_0 14 rfl rfl)
theorem dX1_bolsters_17 : decode cX1_bolsters 17 = .ok (.invokevirtual 241, 3) := dk_182 0 241 (dk_at dksX1_bolsters_0 17 rfl rfl)
theorem dX1_bolsters_20 : decode cX1_bolsters 20 = .ok (.iconst (-1), 1) := dk_2 (dk_at dksX1_bolsters_0 20 rfl rfl)
theorem dX1_bolsters_21 : decode cX1_bolsters 21 = .ok (.istore_n 2, 1) := dk_61 (dk_at dksX1_bolsters_0 21 rfl rfl)
theorem dX1_bolsters_22 : decode cX1_bolsters 22 = .ok (.iconst 0, 1) := dk_3 (dk_at dksX1_bolsters_0 22 rfl rfl)
theorem dX1_bolsters_23 : decode cX1_bolsters 23 = .ok (.istore_n 3, 1) := dk_62 (dk_at dksX1_bolsters_0 23 rfl rfl)
theorem dX1_bolsters_24 : decode cX1_bolsters 24 = .ok (.iconst 0, 1) := dk_3 (dk_at dksX1_bolsters_1 0 rfl rfl)
theorem dX1_bolsters_25 : decode cX1_bolsters 25 = .ok (.istore 4, 2) := dk_54 4 (dk_at dksX1_bolsters_1 1 rfl rfl)
theorem dX1_bolsters_27 : decode cX1_bolsters 27 = .ok (.iload 4, 2) := dk_21 4 (dk_at dksX1_bolsters_1 3 rfl rfl)
theorem dX1_bolsters_29 : decode cX1_bolsters 29 = .ok (.iconst 1, 1) := dk_4 (dk_at dksX1_bolsters_1 5 rfl rfl)
theorem dX1_bolsters_30 : decode cX1_bolsters 30 = .ok (.iconst 1, 1) := dk_4 (dk_at dksX1_bolsters_1 6 rfl rfl)
theorem dX1_bolsters_31 : decode cX1_bolsters 31 = .ok (.aload_n 0, 1) := dk_42 (dk_at dksX1_bolsters_1 7 rfl rfl)
theorem dX1_bolsters_32 : decode cX1_bolsters 32 = .ok (.invokevirtual 102, 3) := dk_182 0 102 (dk_at dksX1_bolsters_1 8 rfl rfl)
theorem dX1_bolsters_35 : decode cX1_bolsters 35 = .ok (.invokestatic 297, 3) := dk_184 1 41 (dk_at dksX1_bolsters_1 11 rfl rfl)
theorem dX1_bolsters_38 : decode cX1_bolsters 38 = .ok (.ishl, 1) := dk_120 (dk_at dksX1_bolsters_1 14 rfl rfl)
theorem dX1_bolsters_39 : decode cX1_bolsters 39 = .ok (.if_icmp .ge 62, 3) := dk_162 0 62 (dk_at dksX1_bolsters_1 15 rfl rfl)
theorem dX1_bolsters_42 : decode cX1_bolsters 42 = .ok (.aload_n 0, 1) := dk_42 (dk_at dksX1_bolsters_1 18 rfl rfl)
theorem dX1_bolsters_43 : decode cX1_bolsters 43 = .ok (.getfield 34, 3) := dk_180 0 34 (dk_at dksX1_bolsters_1 19 rfl rfl)
theorem dX1_bolsters_46 : decode cX1_bolsters 46 = .ok (.iload 4, 2) := dk_21 4 (dk_at dksX1_bolsters_1 22 rfl rfl)
theorem dX1_bolsters_48 : decode cX1_bolsters 48 = .ok (.putfield 172, 3) := dk_181 0 172 (dk_at dksX1_bolsters_2 0 rfl rfl)
theorem dX1_bolsters_51 : decode cX1_bolsters 51 = .ok (.aload_n 0, 1) := dk_42 (dk_at dksX1_bolsters_2 3 rfl rfl)
theorem dX1_bolsters_52 : decode cX1_bolsters 52 = .ok (.invokevirtual 293, 3) := dk_182 1 37 (dk_at dksX1_bolsters_2 4 rfl rfl)
theorem dX1_bolsters_55 : decode cX1_bolsters 55 = .ok (.istore 5, 2) := dk_54 5 (dk_at dksX1_bolsters_2 7 rfl rfl)
theorem dX1_bolsters_57 : decode cX1_bolsters 57 = .ok (.iload_n 2, 1) := dk_28 (dk_at dksX1_bolsters_2 9 rfl rfl)
theorem dX1_bolsters_58 : decode cX1_bolsters 58 = .ok (.iconst (-1), 1) := dk_2 (dk_at dksX1_bolsters_2 10 rfl rfl)
theorem dX1_bolsters_59 : decode cX1_bolsters 59 = .ok (.if_icmp .eq 30, 3) := dk_159 0 30 (dk_at dksX1_bolsters_2 11 rfl rfl)
theorem dX1_bolsters_62 : decode cX1_bolsters 62 = .ok (.iload 5, 2) := dk_21 5 (dk_at dksX1_bolsters_2 14 rfl rfl)
theorem dX1_bolsters_64 : decode cX1_bolsters 64 = .ok (.iload_n 3, 1) := dk_29 (dk_at dksX1_bolsters_2 16 rfl rfl)
theorem dX1_bolsters_65 : decode cX1_bolsters 65 = .ok (.if_icmp .gt 30, 3) := dk_163 0 30 (dk_at dksX1_bolsters_2 17 rfl rfl)
theorem dX1_bolsters_68 : decode cX1_bolsters 68 = .ok (.iload 5, 2) := dk_21 5 (dk_at dksX1_bolsters_2 20 rfl rfl)
theorem dX1_bolsters_70 : decode cX1_bolsters 70 = .ok (.iload_n 3, 1) := dk_29 (dk_at dksX1_bolsters_2 22 rfl rfl)
theorem dX1_bolsters_71 : decode cX1_bolsters 71 = .ok (.if_icmp .ne 18, 3) := dk_160 0 18 (dk_at dksX1_bolsters_3 0 rfl rfl)
theorem dX1_bolsters_74 : decode cX1_bolsters 74 = .ok (.iload 4, 2) := dk_21 4 (dk_at dksX1_bolsters_3 3 rfl rfl)
theorem dX1_bolsters_76 : decode cX1_bolsters 76 = .ok (.invokestatic 303, 3) := dk_184 1 47 (dk_at dksX1_bolsters_3 5 rfl rfl)
theorem dX1_bolsters_79 : decode cX1_bolsters 79 = .ok (.iload_n 2, 1) := dk_28 (dk_at dksX1_bolsters_3 8 rfl rfl)
theorem dX1_bolsters_80 : decode cX1_bolsters 80 = .ok (.invokestatic 303, 3) := dk_184 1 47 (dk_at dksX1_bolsters_3 9 rfl rfl)
theorem dX1_bolsters_83 : decode cX1_bolsters 83 = .ok (.if_icmp .lt 6, 3) := dk_161 0 6 (dk_at dksX1_bolsters_3 12 rfl rfl)
theorem dX1_bolsters_86 : decode cX1_bolsters 86 = .ok (.goto 9, 3) := dk_167 0 9 (dk_at dksX1_bolsters_3 15 rfl rfl)
theorem dX1_bolsters_89 : decode cX1_bolsters 89 = .ok (.iload 4, 2) := dk_21 4 (dk_at dksX1_bolsters_3 18 rfl rfl)
theorem dX1_bolsters_91 : decode cX1_bolsters 91 = .ok (.istore_n 2, 1) := dk_61 (dk_at dksX1_bolsters_3 20 rfl rfl)
theorem dX1_bolsters_92 : decode cX1_bolsters 92 = .ok (.iload 5, 2) := dk_21 5 (dk_at dksX1_bolsters_3 21 rfl rfl)
theorem dX1_bolsters_94 : decode cX1_bolsters 94 = .ok (.istore_n 3, 1) := dk_62 (dk_at dksX1_bolsters_3 23 rfl rfl)
theorem dX1_bolsters_95 : decode cX1_bolsters 95 = .ok (.iinc 4 2, 3) := dk_132 4 2 (dk_at dksX1_bolsters_4 0 rfl rfl)
theorem dX1_bolsters_98 : decode cX1_bolsters 98 = .ok (.goto (-71), 3) := dk_167 255 185 (dk_at dksX1_bolsters_4 3 rfl rfl)
theorem dX1_bolsters_101 : decode cX1_bolsters 101 = .ok (.iload_n 1, 1) := dk_27 (dk_at dksX1_bolsters_4 6 rfl rfl)
theorem dX1_bolsters_102 : decode cX1_bolsters 102 = .ok (.ifCond .ne 7, 3) := dk_154 0 7 (dk_at dksX1_bolsters_4 7 rfl rfl)
theorem dX1_bolsters_105 : decode cX1_bolsters 105 = .ok (.iload_n 2, 1) := dk_28 (dk_at dksX1_bolsters_4 10 rfl rfl)
theorem dX1_bolsters_106 : decode cX1_bolsters 106 = .ok (.goto 4, 3) := dk_167 0 4 (dk_at dksX1_bolsters_4 11 rfl rfl)
theorem dX1_bolsters_109 : decode cX1_bolsters 109 = .ok (.iload_n 3, 1) := dk_29 (dk_at dksX1_bolsters_4 14 rfl rfl)
theorem dX1_bolsters_110 : decode cX1_bolsters 110 = .ok (.ireturn, 1) := dk_172 (dk_at dksX1_bolsters_4 15 rfl rfl)
abbrev cX1_free : ByteArray := prog_1_method_36_code
def yX1_free : MethodName := ⟨RX1, "free", "(I)I"⟩
def dkwX1_free_1 : List UInt8 := [181, 0, 187, 42, 180, 0, 62, 182, 0, 245, 42, 180, 0, 62, 180, 1, 1, 27, 46, 172]
abbrev dktX1_free_1 : List UInt8 := dkwX1_free_1 ++ []
def dkwX1_free_0 : List UInt8 := [42, 27, 182, 0, 190, 87, 42, 180, 0, 34, 42, 180, 0, 30, 182, 0, 241, 42, 180, 0, 34, 4]
abbrev dktX1_free_0 : List UInt8 := dkwX1_free_0 ++ dktX1_free_1
theorem dksX1_free_0 : cX1_free.data.toList.drop 0 = dktX1_free_0 := by decide +kernel
theorem dksX1_free_1 : cX1_free.data.toList.drop 22 = dktX1_free_1 := dk_seg dksX1_free_0 22 rfl rfl
theorem dX1_free_0 : decode cX1_free 0 = .ok (.aload_n 0, 1) := dk_42 (dk_at dksX1_free_0 0 rfl rfl)
theorem dX1_free_1 : decode cX1_free 1 = .ok (.iload_n 1, 1) := dk_27 (dk_at dksX1_free_0 1 rfl rfl)
theorem dX1_free_2 : decode cX1_free 2 = .ok (.invokevirtual 190, 3) := dk_182 0 190 (dk_at dksX1_free_0 2 rfl rfl)
theorem dX1_free_5 : decode cX1_free 5 = .ok (.pop, 1) := dk_87 (dk_at dksX1_free_0 5 rfl rfl)
theorem dX1_free_6 : decode cX1_free 6 = .ok (.aload_n 0, 1) := dk_42 (dk_at dksX1_free_0 6 rfl rfl)
theorem dX1_free_7 : decode cX1_free 7 = .ok (.getfield 34, 3) := dk_180 0 34 (dk_at dksX1_free_0 7 rfl rfl)
theorem dX1_free_10 : decode cX1_free 10 = .ok (.aload_n 0, 1) := dk_42 (dk_at dksX1_free_0 10 rfl rfl)
theorem dX1_free_11 : decode cX1_free 11 = .ok (.getfield 30, 3) := dk_180 0 30 (dk_at dksX1_free_0 11 rfl rfl)
theorem dX1_free_14 : decode cX1_free 14 = .ok (.invokevirtual 241, 3) := dk_182 0 241 (dk_at dksX1_free_0 14 rfl rfl)
theorem dX1_free_17 : decode cX1_free 17 = .ok (.aload_n 0, 1) := dk_42 (dk_at dksX1_free_0 17 rfl rfl)
theorem dX1_free_18 : decode cX1_free 18 = .ok (.getfield 34, 3) := dk_180 0 34 (dk_at dksX1_free_0 18 rfl rfl)
theorem dX1_free_21 : decode cX1_free 21 = .ok (.iconst 1, 1) := dk_4 (dk_at dksX1_free_0 21 rfl rfl)
theorem dX1_free_22 : decode cX1_free 22 = .ok (.putfield 187, 3) := dk_181 0 187 (dk_at dksX1_free_1 0 rfl rfl)
theorem dX1_free_25 : decode cX1_free 25 = .ok (.aload_n 0, 1) := dk_42 (dk_at dksX1_free_1 3 rfl rfl)
theorem dX1_free_26 : decode cX1_free 26 = .ok (.getfield 62, 3) := dk_180 0 62 (dk_at dksX1_free_1 4 rfl rfl)
theorem dX1_free_29 : decode cX1_free 29 = .ok (.invokevirtual 245, 3) := dk_182 0 245 (dk_at dksX1_free_1 7 rfl rfl)
theorem dX1_free_32 : decode cX1_free 32 = .ok (.aload_n 0, 1) := dk_42 (dk_at dksX1_free_1 10 rfl rfl)
theorem dX1_free_33 : decode cX1_free 33 = .ok (.getfield 62, 3) := dk_180 0 62 (dk_at dksX1_free_1 11 rfl rfl)
theorem dX1_free_36 : decode cX1_free 36 = .ok (.getfield 257, 3) := dk_180 1 1 (dk_at dksX1_free_1 14 rfl rfl)
theorem dX1_free_39 : decode cX1_free 39 = .ok (.iload_n 1, 1) := dk_27 (dk_at dksX1_free_1 17 rfl rfl)
theorem dX1_free_40 : decode cX1_free 40 = .ok (.iaload, 1) := dk_46 (dk_at dksX1_free_1 18 rfl rfl)
theorem dX1_free_41 : decode cX1_free 41 = .ok (.ireturn, 1) := dk_172 (dk_at dksX1_free_1 19 rfl rfl)
abbrev cX1_outs : ByteArray := prog_1_method_39_code
def yX1_outs : MethodName := ⟨RX1, "outs", "(I)I"⟩
def dkwX1_outs_1 : List UInt8 := [154, 0, 7, 28, 167, 0, 5, 16, 10, 16, 10, 28, 184, 1, 59, 108, 172]
abbrev dktX1_outs_1 : List UInt8 := dkwX1_outs_1 ++ []
def dkwX1_outs_0 : List UInt8 := [27, 3, 4, 184, 0, 156, 184, 0, 104, 42, 42, 180, 0, 30, 180, 1, 34, 182, 1, 55, 61, 27]
abbrev dktX1_outs_0 : List UInt8 := dkwX1_outs_0 ++ dktX1_outs_1
theorem dksX1_outs_0 : cX1_outs.data.toList.drop 0 = dktX1_outs_0 := by decide +kernel
theorem dksX1_outs_1 : cX1_outs.data.toList.drop 22 = dktX1_outs_1 := dk_seg dksX1_outs_0 22 rfl rfl
theorem dX1_outs_0 : decode cX1_outs 0 = .ok (.iload_n 1, 1) := dk_27 (dk_at dksX1_outs_0 0 rfl rfl)
theorem dX1_outs_1 : decode cX1_outs 1 = .ok (.iconst 0, 1) := dk_3 (dk_at dksX1_outs_0 1 rfl rfl)
theorem dX1_outs_2 : decode cX1_outs 2 = .ok (.iconst 1, 1) := dk_4 (dk_at dksX1_outs_0 2 rfl rfl)
theorem dX1_outs_3 : decode cX1_outs 3 = .ok (.invokestatic 156, 3) := dk_184 0 156 (dk_at dksX1_outs_0 3 rfl rfl)
theorem dX1_outs_6 : decode cX1_outs 6 = .ok (.invokestatic 104, 3) := dk_184 0 104 (dk_at dksX1_outs_0 6 rfl rfl)
theorem dX1_outs_9 : decode cX1_outs 9 = .ok (.aload_n 0, 1) := dk_42 (dk_at dksX1_outs_0 9 rfl rfl)
theorem dX1_outs_10 : decode cX1_outs 10 = .ok (.aload_n 0, 1) := dk_42 (dk_at dksX1_outs_0 10 rfl rfl)
theorem dX1_outs_11 : decode cX1_outs 11 = .ok (.getfield 30, 3) := dk_180 0 30 (dk_at dksX1_outs_0 11 rfl rfl)
theorem dX1_outs_14 : decode cX1_outs 14 = .ok (.getfield 290, 3) := dk_180 1 34 (dk_at dksX1_outs_0 14 rfl rfl)
theorem dX1_outs_17 : decode cX1_outs 17 = .ok (.invokevirtual 311, 3) := dk_182 1 55 (dk_at dksX1_outs_0 17 rfl rfl)
theorem dX1_outs_20 : decode cX1_outs 20 = .ok (.istore_n 2, 1) := dk_61 (dk_at dksX1_outs_0 20 rfl rfl)
theorem dX1_outs_21 : decode cX1_outs 21 = .ok (.iload_n 1, 1) := dk_27 (dk_at dksX1_outs_0 21 rfl rfl)
theorem dX1_outs_22 : decode cX1_outs 22 = .ok (.ifCond .ne 7, 3) := dk_154 0 7 (dk_at dksX1_outs_1 0 rfl rfl)
theorem dX1_outs_25 : decode cX1_outs 25 = .ok (.iload_n 2, 1) := dk_28 (dk_at dksX1_outs_1 3 rfl rfl)
theorem dX1_outs_26 : decode cX1_outs 26 = .ok (.goto 5, 3) := dk_167 0 5 (dk_at dksX1_outs_1 4 rfl rfl)
theorem dX1_outs_29 : decode cX1_outs 29 = .ok (.bipush 10, 2) := dk_16 10 (dk_at dksX1_outs_1 7 rfl rfl)
theorem dX1_outs_31 : decode cX1_outs 31 = .ok (.bipush 10, 2) := dk_16 10 (dk_at dksX1_outs_1 9 rfl rfl)
theorem dX1_outs_33 : decode cX1_outs 33 = .ok (.iload_n 2, 1) := dk_28 (dk_at dksX1_outs_1 11 rfl rfl)
theorem dX1_outs_34 : decode cX1_outs 34 = .ok (.invokestatic 315, 3) := dk_184 1 59 (dk_at dksX1_outs_1 12 rfl rfl)
theorem dX1_outs_37 : decode cX1_outs 37 = .ok (.idiv, 1) := dk_108 (dk_at dksX1_outs_1 15 rfl rfl)
theorem dX1_outs_38 : decode cX1_outs 38 = .ok (.ireturn, 1) := dk_172 (dk_at dksX1_outs_1 16 rfl rfl)
abbrev cX1_common : ByteArray := prog_1_method_37_code
def yX1_common : MethodName := ⟨RX1, "common", "(II)I"⟩
def dkwX1_common_0 : List UInt8 := [26, 61, 27, 62, 29, 153, 0, 16, 28, 29, 112, 54, 4, 29, 61, 21, 4, 62, 167, 255, 242, 28, 172]
abbrev dktX1_common_0 : List UInt8 := dkwX1_common_0 ++ []
theorem dksX1_common_0 : cX1_common.data.toList.drop 0 = dktX1_common_0 := by decide +kernel
theorem dX1_common_0 : decode cX1_common 0 = .ok (.iload_n 0, 1) := dk_26 (dk_at dksX1_common_0 0 rfl rfl)
theorem dX1_common_1 : decode cX1_common 1 = .ok (.istore_n 2, 1) := dk_61 (dk_at dksX1_common_0 1 rfl rfl)
theorem dX1_common_2 : decode cX1_common 2 = .ok (.iload_n 1, 1) := dk_27 (dk_at dksX1_common_0 2 rfl rfl)
theorem dX1_common_3 : decode cX1_common 3 = .ok (.istore_n 3, 1) := dk_62 (dk_at dksX1_common_0 3 rfl rfl)
theorem dX1_common_4 : decode cX1_common 4 = .ok (.iload_n 3, 1) := dk_29 (dk_at dksX1_common_0 4 rfl rfl)
theorem dX1_common_5 : decode cX1_common 5 = .ok (.ifCond .eq 16, 3) := dk_153 0 16 (dk_at dksX1_common_0 5 rfl rfl)
theorem dX1_common_8 : decode cX1_common 8 = .ok (.iload_n 2, 1) := dk_28 (dk_at dksX1_common_0 8 rfl rfl)
theorem dX1_common_9 : decode cX1_common 9 = .ok (.iload_n 3, 1) := dk_29 (dk_at dksX1_common_0 9 rfl rfl)
theorem dX1_common_10 : decode cX1_common 10 = .ok (.irem, 1) := dk_112 (dk_at dksX1_common_0 10 rfl rfl)
theorem dX1_common_11 : decode cX1_common 11 = .ok (.istore 4, 2) := dk_54 4 (dk_at dksX1_common_0 11 rfl rfl)
theorem dX1_common_13 : decode cX1_common 13 = .ok (.iload_n 3, 1) := dk_29 (dk_at dksX1_common_0 13 rfl rfl)
theorem dX1_common_14 : decode cX1_common 14 = .ok (.istore_n 2, 1) := dk_61 (dk_at dksX1_common_0 14 rfl rfl)
theorem dX1_common_15 : decode cX1_common 15 = .ok (.iload 4, 2) := dk_21 4 (dk_at dksX1_common_0 15 rfl rfl)
theorem dX1_common_17 : decode cX1_common 17 = .ok (.istore_n 3, 1) := dk_62 (dk_at dksX1_common_0 17 rfl rfl)
theorem dX1_common_18 : decode cX1_common 18 = .ok (.goto (-14), 3) := dk_167 255 242 (dk_at dksX1_common_0 18 rfl rfl)
theorem dX1_common_21 : decode cX1_common 21 = .ok (.iload_n 2, 1) := dk_28 (dk_at dksX1_common_0 21 rfl rfl)
theorem dX1_common_22 : decode cX1_common 22 = .ok (.ireturn, 1) := dk_172 (dk_at dksX1_common_0 22 rfl rfl)
abbrev cX1_fair : ByteArray := prog_1_method_41_code
def yX1_fair : MethodName := ⟨RX1, "fair", "(II)I"⟩
def dkwX1_fair_10 : List UInt8 := [167, 255, 169, 29, 21, 4, 100, 172]
abbrev dktX1_fair_10 : List UInt8 := dkwX1_fair_10 ++ []
def dkwX1_fair_9 : List UInt8 := [180, 0, 79, 21, 5, 46, 21, 4, 162, 0, 12, 42, 180, 0, 79, 21, 5, 46, 54, 4, 132, 5, 1]
abbrev dktX1_fair_9 : List UInt8 := dkwX1_fair_9 ++ dktX1_fair_10
def dkwX1_fair_8 : List UInt8 := [21, 5, 46, 29, 164, 0, 11, 42, 180, 0, 79, 21, 5, 46, 62, 21, 4, 2, 159, 0, 15, 42]
abbrev dktX1_fair_8 : List UInt8 := dkwX1_fair_8 ++ dktX1_fair_9
def dkwX1_fair_7 : List UInt8 := [182, 0, 108, 192, 0, 112, 182, 1, 52, 154, 0, 6, 167, 0, 54, 29, 2, 159, 0, 14, 42, 180, 0, 79]
abbrev dktX1_fair_7 : List UInt8 := dkwX1_fair_7 ++ dktX1_fair_8
def dkwX1_fair_6 : List UInt8 := [54, 4, 3, 54, 5, 21, 5, 42, 182, 0, 102, 162, 0, 84, 42, 180, 0, 10, 180, 0, 92, 21, 5]
abbrev dktX1_fair_6 : List UInt8 := dkwX1_fair_6 ++ dktX1_fair_7
def dkwX1_fair_5 : List UInt8 := [182, 1, 62, 132, 3, 1, 167, 255, 196, 28, 2, 159, 0, 10, 42, 180, 0, 79, 28, 46, 172, 2, 62, 2]
abbrev dktX1_fair_5 : List UInt8 := dkwX1_fair_5 ++ dktX1_fair_6
def dkwX1_fair_4 : List UInt8 := [92, 46, 42, 180, 0, 62, 180, 1, 1, 21, 4, 46, 96, 79, 132, 4, 1, 167, 255, 224, 42, 180, 0, 34]
abbrev dktX1_fair_4 : List UInt8 := dkwX1_fair_4 ++ dktX1_fair_5
def dkwX1_fair_3 : List UInt8 := [180, 0, 62, 182, 0, 245, 3, 54, 4, 21, 4, 42, 182, 0, 102, 162, 0, 29, 42, 180, 0, 79, 21, 4]
abbrev dktX1_fair_3 : List UInt8 := dkwX1_fair_3 ++ dktX1_fair_4
def dkwX1_fair_2 : List UInt8 := [162, 0, 16, 42, 180, 0, 79, 29, 3, 79, 132, 3, 1, 167, 255, 240, 3, 62, 29, 27, 162, 0, 61, 42]
abbrev dktX1_fair_2 : List UInt8 := dkwX1_fair_2 ++ dktX1_fair_3
def dkwX1_fair_1 : List UInt8 := [16, 30, 184, 0, 156, 184, 0, 121, 42, 180, 0, 34, 42, 180, 0, 30, 182, 0, 241, 3, 62, 29, 16, 7]
abbrev dktX1_fair_1 : List UInt8 := dkwX1_fair_1 ++ dktX1_fair_2
def dkwX1_fair_0 : List UInt8 := [28, 2, 161, 0, 15, 28, 42, 182, 0, 102, 162, 0, 7, 4, 167, 0, 4, 3, 184, 0, 104, 27, 3]
abbrev dktX1_fair_0 : List UInt8 := dkwX1_fair_0 ++ dktX1_fair_1
theorem dksX1_fair_0 : cX1_fair.data.toList.drop 0 = dktX1_fair_0 := by decide +kernel
theorem dksX1_fair_1 : cX1_fair.data.toList.drop 23 = dktX1_fair_1 := dk_seg dksX1_fair_0 23 rfl rfl
theorem dksX1_fair_2 : cX1_fair.data.toList.drop 47 = dktX1_fair_2 := dk_seg dksX1_fair_1 24 rfl rfl
theorem dksX1_fair_3 : cX1_fair.data.toList.drop 71 = dktX1_fair_3 := dk_seg dksX1_fair_2 24 rfl rfl
theorem dksX1_fair_4 : cX1_fair.data.toList.drop 95 = dktX1_fair_4 := dk_seg dksX1_fair_3 24 rfl rfl
theorem dksX1_fair_5 : cX1_fair.data.toList.drop 119 = dktX1_fair_5 := dk_seg dksX1_fair_4 24 rfl rfl
theorem dksX1_fair_6 : cX1_fair.data.toList.drop 143 = dktX1_fair_6 := dk_seg dksX1_fair_5 24 rfl rfl
theorem dksX1_fair_7 : cX1_fair.data.toList.drop 166 = dktX1_fair_7 := dk_seg dksX1_fair_6 23 rfl rfl
theorem dksX1_fair_8 : cX1_fair.data.toList.drop 190 = dktX1_fair_8 := dk_seg dksX1_fair_7 24 rfl rfl
theorem dksX1_fair_9 : cX1_fair.data.toList.drop 212 = dktX1_fair_9 := dk_seg dksX1_fair_8 22 rfl rfl
theorem dksX1_fair_10 : cX1_fair.data.toList.drop 235 = dktX1_fair_10 := dk_seg dksX1_fair_9 23 rfl rfl
theorem dX1_fair_0 : decode cX1_fair 0 = .ok (.iload_n 2, 1) := dk_28 (dk_at dksX1_fair_0 0 rfl rfl)
theorem dX1_fair_1 : decode cX1_fair 1 = .ok (.iconst (-1), 1) := dk_2 (dk_at dksX1_fair_0 1 rfl rfl)
theorem dX1_fair_2 : decode cX1_fair 2 = .ok (.if_icmp .lt 15, 3) := dk_161 0 15 (dk_at dksX1_fair_0 2 rfl rfl)
theorem dX1_fair_5 : decode cX1_fair 5 = .ok (.iload_n 2, 1) := dk_28 (dk_at dksX1_fair_0 5 rfl rfl)
theorem dX1_fair_6 : decode cX1_fair 6 = .ok (.aload_n 0, 1) := dk_42 (dk_at dksX1_fair_0 6 rfl rfl)
theorem dX1_fair_7 : decode cX1_fair 7 = .ok (.invokevirtual 102, 3) := dk_182 0 102 (dk_at dksX1_fair_0 7 rfl rfl)
theorem dX1_fair_10 : decode cX1_fair 10 = .ok (.if_icmp .ge 7, 3) := dk_162 0 7 (dk_at dksX1_fair_0 10 rfl rfl)
theorem dX1_fair_13 : decode cX1_fair 13 = .ok (.iconst 1, 1) := dk_4 (dk_at dksX1_fair_0 13 rfl rfl)
theorem dX1_fair_14 : decode cX1_fair 14 = .ok (.goto 4, 3) := dk_167 0 4 (dk_at dksX1_fair_0 14 rfl rfl)
theorem dX1_fair_17 : decode cX1_fair 17 = .ok (.iconst 0, 1) := dk_3 (dk_at dksX1_fair_0 17 rfl rfl)
theorem dX1_fair_18 : decode cX1_fair 18 = .ok (.invokestatic 104, 3) := dk_184 0 104 (dk_at dksX1_fair_0 18 rfl rfl)
theorem dX1_fair_21 : decode cX1_fair 21 = .ok (.iload_n 1, 1) := dk_27 (dk_at dksX1_fair_0 21 rfl rfl)
theorem dX1_fair_22 : decode cX1_fair 22 = .ok (.iconst 0, 1) := dk_3 (dk_at dksX1_fair_0 22 rfl rfl)
theorem dX1_fair_23 : decode cX1_fair 23 = .ok (.bipush 30, 2) := dk_16 30 (dk_at dksX1_fair_1 0 rfl rfl)
theorem dX1_fair_25 : decode cX1_fair 25 = .ok (.invokestatic 156, 3) := dk_184 0 156 (dk_at dksX1_fair_1 2 rfl rfl)
theorem dX1_fair_28 : decode cX1_fair 28 = .ok (.invokestatic 121, 3) := dk_184 0 121 (dk_at dksX1_fair_1 5 rfl rfl)
theorem dX1_fair_31 : decode cX1_fair 31 = .ok (.aload_n 0, 1) := dk_42 (dk_at dksX1_fair_1 8 rfl rfl)
theorem dX1_fair_32 : decode cX1_fair 32 = .ok (.getfield 34, 3) := dk_180 0 34 (dk_at dksX1_fair_1 9 rfl rfl)
theorem dX1_fair_35 : decode cX1_fair 35 = .ok (.aload_n 0, 1) := dk_42 (dk_at dksX1_fair_1 12 rfl rfl)
theorem dX1_fair_36 : decode cX1_fair 36 = .ok (.getfield 30, 3) := dk_180 0 30 (dk_at dksX1_fair_1 13 rfl rfl)
theorem dX1_fair_39 : decode cX1_fair 39 = .ok (.invokevirtual 241, 3) := dk_182 0 241 (dk_at dksX1_fair_1 16 rfl rfl)
theorem dX1_fair_42 : decode cX1_fair 42 = .ok (.iconst 0, 1) := dk_3 (dk_at dksX1_fair_1 19 rfl rfl)
theorem dX1_fair_43 : decode cX1_fair 43 = .ok (.istore_n 3, 1) := dk_62 (dk_at dksX1_fair_1 20 rfl rfl)
theorem dX1_fair_44 : decode cX1_fair 44 = .ok (.iload_n 3, 1) := dk_29 (dk_at dksX1_fair_1 21 rfl rfl)
theorem dX1_fair_45 : decode cX1_fair 45 = .ok (.bipush 7, 2) := dk_16 7 (dk_at dksX1_fair_1 22 rfl rfl)
theorem dX1_fair_47 : decode cX1_fair 47 = .ok (.if_icmp .ge 16, 3) := dk_162 0 16 (dk_at dksX1_fair_2 0 rfl rfl)
theorem dX1_fair_50 : decode cX1_fair 50 = .ok (.aload_n 0, 1) := dk_42 (dk_at dksX1_fair_2 3 rfl rfl)
theorem dX1_fair_51 : decode cX1_fair 51 = .ok (.getfield 79, 3) := dk_180 0 79 (dk_at dksX1_fair_2 4 rfl rfl)
theorem dX1_fair_54 : decode cX1_fair 54 = .ok (.iload_n 3, 1) := dk_29 (dk_at dksX1_fair_2 7 rfl rfl)
theorem dX1_fair_55 : decode cX1_fair 55 = .ok (.iconst 0, 1) := dk_3 (dk_at dksX1_fair_2 8 rfl rfl)
theorem dX1_fair_56 : decode cX1_fair 56 = .ok (.iastore, 1) := dk_79 (dk_at dksX1_fair_2 9 rfl rfl)
theorem dX1_fair_57 : decode cX1_fair 57 = .ok (.iinc 3 1, 3) := dk_132 3 1 (dk_at dksX1_fair_2 10 rfl rfl)
theorem dX1_fair_60 : decode cX1_fair 60 = .ok (.goto (-16), 3) := dk_167 255 240 (dk_at dksX1_fair_2 13 rfl rfl)
theorem dX1_fair_63 : decode cX1_fair 63 = .ok (.iconst 0, 1) := dk_3 (dk_at dksX1_fair_2 16 rfl rfl)
theorem dX1_fair_64 : decode cX1_fair 64 = .ok (.istore_n 3, 1) := dk_62 (dk_at dksX1_fair_2 17 rfl rfl)
theorem dX1_fair_65 : decode cX1_fair 65 = .ok (.iload_n 3, 1) := dk_29 (dk_at dksX1_fair_2 18 rfl rfl)
theorem dX1_fair_66 : decode cX1_fair 66 = .ok (.iload_n 1, 1) := dk_27 (dk_at dksX1_fair_2 19 rfl rfl)
theorem dX1_fair_67 : decode cX1_fair 67 = .ok (.if_icmp .ge 61, 3) := dk_162 0 61 (dk_at dksX1_fair_2 20 rfl rfl)
theorem dX1_fair_70 : decode cX1_fair 70 = .ok (.aload_n 0, 1) := dk_42 (dk_at dksX1_fair_2 23 rfl rfl)
theorem dX1_fair_71 : decode cX1_fair 71 = .ok (.getfield 62, 3) := dk_180 0 62 (dk_at dksX1_fair_3 0 rfl rfl)
theorem dX1_fair_74 : decode cX1_fair 74 = .ok (.invokevirtual 245, 3) := dk_182 0 245 (dk_at dksX1_fair_3 3 rfl rfl)
theorem dX1_fair_77 : decode cX1_fair 77 = .ok (.iconst 0, 1) := dk_3 (dk_at dksX1_fair_3 6 rfl rfl)
theorem dX1_fair_78 : decode cX1_fair 78 = .ok (.istore 4, 2) := dk_54 4 (dk_at dksX1_fair_3 7 rfl rfl)
theorem dX1_fair_80 : decode cX1_fair 80 = .ok (.iload 4, 2) := dk_21 4 (dk_at dksX1_fair_3 9 rfl rfl)
theorem dX1_fair_82 : decode cX1_fair 82 = .ok (.aload_n 0, 1) := dk_42 (dk_at dksX1_fair_3 11 rfl rfl)
theorem dX1_fair_83 : decode cX1_fair 83 = .ok (.invokevirtual 102, 3) := dk_182 0 102 (dk_at dksX1_fair_3 12 rfl rfl)
theorem dX1_fair_86 : decode cX1_fair 86 = .ok (.if_icmp .ge 29, 3) := dk_162 0 29 (dk_at dksX1_fair_3 15 rfl rfl)
theorem dX1_fair_89 : decode cX1_fair 89 = .ok (.aload_n 0, 1) := dk_42 (dk_at dksX1_fair_3 18 rfl rfl)
theorem dX1_fair_90 : decode cX1_fair 90 = .ok (.getfield 79, 3) := dk_180 0 79 (dk_at dksX1_fair_3 19 rfl rfl)
theorem dX1_fair_93 : decode cX1_fair 93 = .ok (.iload 4, 2) := dk_21 4 (dk_at dksX1_fair_3 22 rfl rfl)
theorem dX1_fair_95 : decode cX1_fair 95 = .ok (.dup2, 1) := dk_92 (dk_at dksX1_fair_4 0 rfl rfl)
theorem dX1_fair_96 : decode cX1_fair 96 = .ok (.iaload, 1) := dk_46 (dk_at dksX1_fair_4 1 rfl rfl)
theorem dX1_fair_97 : decode cX1_fair 97 = .ok (.aload_n 0, 1) := dk_42 (dk_at dksX1_fair_4 2 rfl rfl)
theorem dX1_fair_98 : decode cX1_fair 98 = .ok (.getfield 62, 3) := dk_180 0 62 (dk_at dksX1_fair_4 3 rfl rfl)
theorem dX1_fair_101 : decode cX1_fair 101 = .ok (.getfield 257, 3) := dk_180 1 1 (dk_at dksX1_fair_4 6 rfl rfl)
theorem dX1_fair_104 : decode cX1_fair 104 = .ok (.iload 4, 2) := dk_21 4 (dk_at dksX1_fair_4 9 rfl rfl)
theorem dX1_fair_106 : decode cX1_fair 106 = .ok (.iaload, 1) := dk_46 (dk_at dksX1_fair_4 11 rfl rfl)
theorem dX1_fair_107 : decode cX1_fair 107 = .ok (.iadd, 1) := dk_96 (dk_at dksX1_fair_4 12 rfl rfl)
theorem dX1_fair_108 : decode cX1_fair 108 = .ok (.iastore, 1) := dk_79 (dk_at dksX1_fair_4 13 rfl rfl)
theorem dX1_fair_109 : decode cX1_fair 109 = .ok (.iinc 4 1, 3) := dk_132 4 1 (dk_at dksX1_fair_4 14 rfl rfl)
theorem dX1_fair_112 : decode cX1_fair 112 = .ok (.goto (-32), 3) := dk_167 255 224 (dk_at dksX1_fair_4 17 rfl rfl)
theorem dX1_fair_115 : decode cX1_fair 115 = .ok (.aload_n 0, 1) := dk_42 (dk_at dksX1_fair_4 20 rfl rfl)
theorem dX1_fair_116 : decode cX1_fair 116 = .ok (.getfield 34, 3) := dk_180 0 34 (dk_at dksX1_fair_4 21 rfl rfl)
theorem dX1_fair_119 : decode cX1_fair 119 = .ok (.invokevirtual 318, 3) := dk_182 1 62 (dk_at dksX1_fair_5 0 rfl rfl)
theorem dX1_fair_122 : decode cX1_fair 122 = .ok (.iinc 3 1, 3) := dk_132 3 1 (dk_at dksX1_fair_5 3 rfl rfl)
theorem dX1_fair_125 : decode cX1_fair 125 = .ok (.goto (-60), 3) := dk_167 255 196 (dk_at dksX1_fair_5 6 rfl rfl)
theorem dX1_fair_128 : decode cX1_fair 128 = .ok (.iload_n 2, 1) := dk_28 (dk_at dksX1_fair_5 9 rfl rfl)
theorem dX1_fair_129 : decode cX1_fair 129 = .ok (.iconst (-1), 1) := dk_2 (dk_at dksX1_fair_5 10 rfl rfl)
theorem dX1_fair_130 : decode cX1_fair 130 = .ok (.if_icmp .eq 10, 3) := dk_159 0 10 (dk_at dksX1_fair_5 11 rfl rfl)
theorem dX1_fair_133 : decode cX1_fair 133 = .ok (.aload_n 0, 1) := dk_42 (dk_at dksX1_fair_5 14 rfl rfl)
theorem dX1_fair_134 : decode cX1_fair 134 = .ok (.getfield 79, 3) := dk_180 0 79 (dk_at dksX1_fair_5 15 rfl rfl)
theorem dX1_fair_137 : decode cX1_fair 137 = .ok (.iload_n 2, 1) := dk_28 (dk_at dksX1_fair_5 18 rfl rfl)
theorem dX1_fair_138 : decode cX1_fair 138 = .ok (.iaload, 1) := dk_46 (dk_at dksX1_fair_5 19 rfl rfl)
theorem dX1_fair_139 : decode cX1_fair 139 = .ok (.ireturn, 1) := dk_172 (dk_at dksX1_fair_5 20 rfl rfl)
theorem dX1_fair_140 : decode cX1_fair 140 = .ok (.iconst (-1), 1) := dk_2 (dk_at dksX1_fair_5 21 rfl rfl)
theorem dX1_fair_141 : decode cX1_fair 141 = .ok (.istore_n 3, 1) := dk_62 (dk_at dksX1_fair_5 22 rfl rfl)
theorem dX1_fair_142 : decode cX1_fair 142 = .ok (.iconst (-1), 1) := dk_2 (dk_at dksX1_fair_5 23 rfl rfl)
theorem dX1_fair_143 : decode cX1_fair 143 = .ok (.istore 4, 2) := dk_54 4 (dk_at dksX1_fair_6 0 rfl rfl)
theorem dX1_fair_145 : decode cX1_fair 145 = .ok (.iconst 0, 1) := dk_3 (dk_at dksX1_fair_6 2 rfl rfl)
theorem dX1_fair_146 : decode cX1_fair 146 = .ok (.istore 5, 2) := dk_54 5 (dk_at dksX1_fair_6 3 rfl rfl)
theorem dX1_fair_148 : decode cX1_fair 148 = .ok (.iload 5, 2) := dk_21 5 (dk_at dksX1_fair_6 5 rfl rfl)
theorem dX1_fair_150 : decode cX1_fair 150 = .ok (.aload_n 0, 1) := dk_42 (dk_at dksX1_fair_6 7 rfl rfl)
theorem dX1_fair_151 : decode cX1_fair 151 = .ok (.invokevirtual 102, 3) := dk_182 0 102 (dk_at dksX1_fair_6 8 rfl rfl)
theorem dX1_fair_154 : decode cX1_fair 154 = .ok (.if_icmp .ge 84, 3) := dk_162 0 84 (dk_at dksX1_fair_6 11 rfl rfl)
theorem dX1_fair_157 : decode cX1_fair 157 = .ok (.aload_n 0, 1) := dk_42 (dk_at dksX1_fair_6 14 rfl rfl)
theorem dX1_fair_158 : decode cX1_fair 158 = .ok (.getfield 10, 3) := dk_180 0 10 (dk_at dksX1_fair_6 15 rfl rfl)
theorem dX1_fair_161 : decode cX1_fair 161 = .ok (.getfield 92, 3) := dk_180 0 92 (dk_at dksX1_fair_6 18 rfl rfl)
theorem dX1_fair_164 : decode cX1_fair 164 = .ok (.iload 5, 2) := dk_21 5 (dk_at dksX1_fair_6 21 rfl rfl)
theorem dX1_fair_166 : decode cX1_fair 166 = .ok (.invokevirtual 108, 3) := dk_182 0 108 (dk_at dksX1_fair_7 0 rfl rfl)
theorem dX1_fair_169 : decode cX1_fair 169 = .ok (.checkcast 112, 3) := dk_192 0 112 (dk_at dksX1_fair_7 3 rfl rfl)
theorem dX1_fair_172 : decode cX1_fair 172 = .ok (.invokevirtual 308, 3) := dk_182 1 52 (dk_at dksX1_fair_7 6 rfl rfl)
theorem dX1_fair_175 : decode cX1_fair 175 = .ok (.ifCond .ne 6, 3) := dk_154 0 6 (dk_at dksX1_fair_7 9 rfl rfl)
theorem dX1_fair_178 : decode cX1_fair 178 = .ok (.goto 54, 3) := dk_167 0 54 (dk_at dksX1_fair_7 12 rfl rfl)
theorem dX1_fair_181 : decode cX1_fair 181 = .ok (.iload_n 3, 1) := dk_29 (dk_at dksX1_fair_7 15 rfl rfl)
theorem dX1_fair_182 : decode cX1_fair 182 = .ok (.iconst (-1), 1) := dk_2 (dk_at dksX1_fair_7 16 rfl rfl)
theorem dX1_fair_183 : decode cX1_fair 183 = .ok (.if_icmp .eq 14, 3) := dk_159 0 14 (dk_at dksX1_fair_7 17 rfl rfl)
theorem dX1_fair_186 : decode cX1_fair 186 = .ok (.aload_n 0, 1) := dk_42 (dk_at dksX1_fair_7 20 rfl rfl)
theorem dX1_fair_187 : decode cX1_fair 187 = .ok (.getfield 79, 3) := dk_180 0 79 (dk_at dksX1_fair_7 21 rfl rfl)
theorem dX1_fair_190 : decode cX1_fair 190 = .ok (.iload 5, 2) := dk_21 5 (dk_at dksX1_fair_8 0 rfl rfl)
theorem dX1_fair_192 : decode cX1_fair 192 = .ok (.iaload, 1) := dk_46 (dk_at dksX1_fair_8 2 rfl rfl)
theorem dX1_fair_193 : decode cX1_fair 193 = .ok (.iload_n 3, 1) := dk_29 (dk_at dksX1_fair_8 3 rfl rfl)
theorem dX1_fair_194 : decode cX1_fair 194 = .ok (.if_icmp .le 11, 3) := dk_164 0 11 (dk_at dksX1_fair_8 4 rfl rfl)
theorem dX1_fair_197 : decode cX1_fair 197 = .ok (.aload_n 0, 1) := dk_42 (dk_at dksX1_fair_8 7 rfl rfl)
theorem dX1_fair_198 : decode cX1_fair 198 = .ok (.getfield 79, 3) := dk_180 0 79 (dk_at dksX1_fair_8 8 rfl rfl)
theorem dX1_fair_201 : decode cX1_fair 201 = .ok (.iload 5, 2) := dk_21 5 (dk_at dksX1_fair_8 11 rfl rfl)
theorem dX1_fair_203 : decode cX1_fair 203 = .ok (.iaload, 1) := dk_46 (dk_at dksX1_fair_8 13 rfl rfl)
theorem dX1_fair_204 : decode cX1_fair 204 = .ok (.istore_n 3, 1) := dk_62 (dk_at dksX1_fair_8 14 rfl rfl)
theorem dX1_fair_205 : decode cX1_fair 205 = .ok (.iload 4, 2) := dk_21 4 (dk_at dksX1_fair_8 15 rfl rfl)
theorem dX1_fair_207 : decode cX1_fair 207 = .ok (.iconst (-1), 1) := dk_2 (dk_at dksX1_fair_8 17 rfl rfl)
theorem dX1_fair_208 : decode cX1_fair 208 = .ok (.if_icmp .eq 15, 3) := dk_159 0 15 (dk_at dksX1_fair_8 18 rfl rfl)
theorem dX1_fair_211 : decode cX1_fair 211 = .ok (.aload_n 0, 1) := dk_42 (dk_at dksX1_fair_8 21 rfl rfl)
theorem dX1_fair_212 : decode cX1_fair 212 = .ok (.getfield 79, 3) := dk_180 0 79 (dk_at dksX1_fair_9 0 rfl rfl)
theorem dX1_fair_215 : decode cX1_fair 215 = .ok (.iload 5, 2) := dk_21 5 (dk_at dksX1_fair_9 3 rfl rfl)
theorem dX1_fair_217 : decode cX1_fair 217 = .ok (.iaload, 1) := dk_46 (dk_at dksX1_fair_9 5 rfl rfl)
theorem dX1_fair_218 : decode cX1_fair 218 = .ok (.iload 4, 2) := dk_21 4 (dk_at dksX1_fair_9 6 rfl rfl)
theorem dX1_fair_220 : decode cX1_fair 220 = .ok (.if_icmp .ge 12, 3) := dk_162 0 12 (dk_at dksX1_fair_9 8 rfl rfl)
theorem dX1_fair_223 : decode cX1_fair 223 = .ok (.aload_n 0, 1) := dk_42 (dk_at dksX1_fair_9 11 rfl rfl)
theorem dX1_fair_224 : decode cX1_fair 224 = .ok (.getfield 79, 3) := dk_180 0 79 (dk_at dksX1_fair_9 12 rfl rfl)
theorem dX1_fair_227 : decode cX1_fair 227 = .ok (.iload 5, 2) := dk_21 5 (dk_at dksX1_fair_9 15 rfl rfl)
theorem dX1_fair_229 : decode cX1_fair 229 = .ok (.iaload, 1) := dk_46 (dk_at dksX1_fair_9 17 rfl rfl)
theorem dX1_fair_230 : decode cX1_fair 230 = .ok (.istore 4, 2) := dk_54 4 (dk_at dksX1_fair_9 18 rfl rfl)
theorem dX1_fair_232 : decode cX1_fair 232 = .ok (.iinc 5 1, 3) := dk_132 5 1 (dk_at dksX1_fair_9 20 rfl rfl)
theorem dX1_fair_235 : decode cX1_fair 235 = .ok (.goto (-87), 3) := dk_167 255 169 (dk_at dksX1_fair_10 0 rfl rfl)
theorem dX1_fair_238 : decode cX1_fair 238 = .ok (.iload_n 3, 1) := dk_29 (dk_at dksX1_fair_10 3 rfl rfl)
theorem dX1_fair_239 : decode cX1_fair 239 = .ok (.iload 4, 2) := dk_21 4 (dk_at dksX1_fair_10 4 rfl rfl)
theorem dX1_fair_241 : decode cX1_fair 241 = .ok (.isub, 1) := dk_100 (dk_at dksX1_fair_10 6 rfl rfl)
theorem dX1_fair_242 : decode cX1_fair 242 = .ok (.ireturn, 1) := dk_172 (dk_at dksX1_fair_10 7 rfl rfl)
abbrev cX1_see : ByteArray := prog_1_method_42_code
def yX1_see : MethodName := ⟨RX1, "see", "(III)I"⟩
def dkwX1_see_4 : List UInt8 := [180, 0, 146, 4, 96, 181, 0, 146, 42, 180, 0, 19, 180, 0, 146, 172]
abbrev dktX1_see_4 : List UInt8 := dkwX1_see_4 ++ []
def dkwX1_see_3 : List UInt8 := [180, 1, 68, 21, 5, 28, 79, 42, 180, 0, 19, 180, 1, 71, 21, 5, 29, 79, 42, 180, 0, 19, 89]
abbrev dktX1_see_3 : List UInt8 := dkwX1_see_3 ++ dktX1_see_4
def dkwX1_see_2 : List UInt8 := [154, 0, 9, 42, 5, 182, 0, 224, 172, 42, 180, 0, 19, 180, 1, 65, 21, 5, 27, 79, 42, 180, 0, 19]
abbrev dktX1_see_2 : List UInt8 := dkwX1_see_2 ++ dktX1_see_3
def dkwX1_see_1 : List UInt8 := [3, 4, 184, 0, 156, 153, 0, 22, 28, 3, 17, 2, 88, 184, 0, 156, 153, 0, 11, 25, 4, 182, 0, 234]
abbrev dktX1_see_1 : List UInt8 := dkwX1_see_1 ++ dktX1_see_2
def dkwX1_see_0 : List UInt8 := [42, 27, 182, 0, 190, 58, 4, 42, 180, 0, 19, 180, 0, 146, 54, 5, 21, 5, 16, 8, 159, 0, 31, 29]
abbrev dktX1_see_0 : List UInt8 := dkwX1_see_0 ++ dktX1_see_1
theorem dksX1_see_0 : cX1_see.data.toList.drop 0 = dktX1_see_0 := by decide +kernel
theorem dksX1_see_1 : cX1_see.data.toList.drop 24 = dktX1_see_1 := dk_seg dksX1_see_0 24 rfl rfl
theorem dksX1_see_2 : cX1_see.data.toList.drop 48 = dktX1_see_2 := dk_seg dksX1_see_1 24 rfl rfl
theorem dksX1_see_3 : cX1_see.data.toList.drop 72 = dktX1_see_3 := dk_seg dksX1_see_2 24 rfl rfl
theorem dksX1_see_4 : cX1_see.data.toList.drop 95 = dktX1_see_4 := dk_seg dksX1_see_3 23 rfl rfl
theorem dX1_see_0 : decode cX1_see 0 = .ok (.aload_n 0, 1) := dk_42 (dk_at dksX1_see_0 0 rfl rfl)
theorem dX1_see_1 : decode cX1_see 1 = .ok (.iload_n 1, 1) := dk_27 (dk_at dksX1_see_0 1 rfl rfl)
theorem dX1_see_2 : decode cX1_see 2 = .ok (.invokevirtual 190, 3) := dk_182 0 190 (dk_at dksX1_see_0 2 rfl rfl)
theorem dX1_see_5 : decode cX1_see 5 = .ok (.astore 4, 2) := dk_58 4 (dk_at dksX1_see_0 5 rfl rfl)
theorem dX1_see_7 : decode cX1_see 7 = .ok (.aload_n 0, 1) := dk_42 (dk_at dksX1_see_0 7 rfl rfl)
theorem dX1_see_8 : decode cX1_see 8 = .ok (.getfield 19, 3) := dk_180 0 19 (dk_at dksX1_see_0 8 rfl rfl)
theorem dX1_see_11 : decode cX1_see 11 = .ok (.getfield 146, 3) := dk_180 0 146 (dk_at dksX1_see_0 11 rfl rfl)
theorem dX1_see_14 : decode cX1_see 14 = .ok (.istore 5, 2) := dk_54 5 (dk_at dksX1_see_0 14 rfl rfl)
theorem dX1_see_16 : decode cX1_see 16 = .ok (.iload 5, 2) := dk_21 5 (dk_at dksX1_see_0 16 rfl rfl)
theorem dX1_see_18 : decode cX1_see 18 = .ok (.bipush 8, 2) := dk_16 8 (dk_at dksX1_see_0 18 rfl rfl)
theorem dX1_see_20 : decode cX1_see 20 = .ok (.if_icmp .eq 31, 3) := dk_159 0 31 (dk_at dksX1_see_0 20 rfl rfl)
theorem dX1_see_23 : decode cX1_see 23 = .ok (.iload_n 3, 1) := dk_29 (dk_at dksX1_see_0 23 rfl rfl)
theorem dX1_see_24 : decode cX1_see 24 = .ok (.iconst 0, 1) := dk_3 (dk_at dksX1_see_1 0 rfl rfl)
theorem dX1_see_25 : decode cX1_see 25 = .ok (.iconst 1, 1) := dk_4 (dk_at dksX1_see_1 1 rfl rfl)
theorem dX1_see_26 : decode cX1_see 26 = .ok (.invokestatic 156, 3) := dk_184 0 156 (dk_at dksX1_see_1 2 rfl rfl)
theorem dX1_see_29 : decode cX1_see 29 = .ok (.ifCond .eq 22, 3) := dk_153 0 22 (dk_at dksX1_see_1 5 rfl rfl)
theorem dX1_see_32 : decode cX1_see 32 = .ok (.iload_n 2, 1) := dk_28 (dk_at dksX1_see_1 8 rfl rfl)
theorem dX1_see_33 : decode cX1_see 33 = .ok (.iconst 0, 1) := dk_3 (dk_at dksX1_see_1 9 rfl rfl)
theorem dX1_see_34 : decode cX1_see 34 = .ok (.sipush 600, 3) := dk_17 2 88 (dk_at dksX1_see_1 10 rfl rfl)
theorem dX1_see_37 : decode cX1_see 37 = .ok (.invokestatic 156, 3) := dk_184 0 156 (dk_at dksX1_see_1 13 rfl rfl)
theorem dX1_see_40 : decode cX1_see 40 = .ok (.ifCond .eq 11, 3) := dk_153 0 11 (dk_at dksX1_see_1 16 rfl rfl)
theorem dX1_see_43 : decode cX1_see 43 = .ok (.aload 4, 2) := dk_25 4 (dk_at dksX1_see_1 19 rfl rfl)
theorem dX1_see_45 : decode cX1_see 45 = .ok (.invokevirtual 234, 3) := dk_182 0 234 (dk_at dksX1_see_1 21 rfl rfl)
theorem dX1_see_48 : decode cX1_see 48 = .ok (.ifCond .ne 9, 3) := dk_154 0 9 (dk_at dksX1_see_2 0 rfl rfl)
theorem dX1_see_51 : decode cX1_see 51 = .ok (.aload_n 0, 1) := dk_42 (dk_at dksX1_see_2 3 rfl rfl)
theorem dX1_see_52 : decode cX1_see 52 = .ok (.iconst 2, 1) := dk_5 (dk_at dksX1_see_2 4 rfl rfl)
theorem dX1_see_53 : decode cX1_see 53 = .ok (.invokevirtual 224, 3) := dk_182 0 224 (dk_at dksX1_see_2 5 rfl rfl)
theorem dX1_see_56 : decode cX1_see 56 = .ok (.ireturn, 1) := dk_172 (dk_at dksX1_see_2 8 rfl rfl)
theorem dX1_see_57 : decode cX1_see 57 = .ok (.aload_n 0, 1) := dk_42 (dk_at dksX1_see_2 9 rfl rfl)
theorem dX1_see_58 : decode cX1_see 58 = .ok (.getfield 19, 3) := dk_180 0 19 (dk_at dksX1_see_2 10 rfl rfl)
theorem dX1_see_61 : decode cX1_see 61 = .ok (.getfield 321, 3) := dk_180 1 65 (dk_at dksX1_see_2 13 rfl rfl)
theorem dX1_see_64 : decode cX1_see 64 = .ok (.iload 5, 2) := dk_21 5 (dk_at dksX1_see_2 16 rfl rfl)
theorem dX1_see_66 : decode cX1_see 66 = .ok (.iload_n 1, 1) := dk_27 (dk_at dksX1_see_2 18 rfl rfl)
theorem dX1_see_67 : decode cX1_see 67 = .ok (.iastore, 1) := dk_79 (dk_at dksX1_see_2 19 rfl rfl)
theorem dX1_see_68 : decode cX1_see 68 = .ok (.aload_n 0, 1) := dk_42 (dk_at dksX1_see_2 20 rfl rfl)
theorem dX1_see_69 : decode cX1_see 69 = .ok (.getfield 19, 3) := dk_180 0 19 (dk_at dksX1_see_2 21 rfl rfl)
theorem dX1_see_72 : decode cX1_see 72 = .ok (.getfield 324, 3) := dk_180 1 68 (dk_at dksX1_see_3 0 rfl rfl)
theorem dX1_see_75 : decode cX1_see 75 = .ok (.iload 5, 2) := dk_21 5 (dk_at dksX1_see_3 3 rfl rfl)
theorem dX1_see_77 : decode cX1_see 77 = .ok (.iload_n 2, 1) := dk_28 (dk_at dksX1_see_3 5 rfl rfl)
theorem dX1_see_78 : decode cX1_see 78 = .ok (.iastore, 1) := dk_79 (dk_at dksX1_see_3 6 rfl rfl)
theorem dX1_see_79 : decode cX1_see 79 = .ok (.aload_n 0, 1) := dk_42 (dk_at dksX1_see_3 7 rfl rfl)
theorem dX1_see_80 : decode cX1_see 80 = .ok (.getfield 19, 3) := dk_180 0 19 (dk_at dksX1_see_3 8 rfl rfl)
theorem dX1_see_83 : decode cX1_see 83 = .ok (.getfield 327, 3) := dk_180 1 71 (dk_at dksX1_see_3 11 rfl rfl)
theorem dX1_see_86 : decode cX1_see 86 = .ok (.iload 5, 2) := dk_21 5 (dk_at dksX1_see_3 14 rfl rfl)
theorem dX1_see_88 : decode cX1_see 88 = .ok (.iload_n 3, 1) := dk_29 (dk_at dksX1_see_3 16 rfl rfl)
theorem dX1_see_89 : decode cX1_see 89 = .ok (.iastore, 1) := dk_79 (dk_at dksX1_see_3 17 rfl rfl)
theorem dX1_see_90 : decode cX1_see 90 = .ok (.aload_n 0, 1) := dk_42 (dk_at dksX1_see_3 18 rfl rfl)
theorem dX1_see_91 : decode cX1_see 91 = .ok (.getfield 19, 3) := dk_180 0 19 (dk_at dksX1_see_3 19 rfl rfl)
theorem dX1_see_94 : decode cX1_see 94 = .ok (.dup, 1) := dk_89 (dk_at dksX1_see_3 22 rfl rfl)
theorem dX1_see_95 : decode cX1_see 95 = .ok (.getfield 146, 3) := dk_180 0 146 (dk_at dksX1_see_4 0 rfl rfl)
theorem dX1_see_98 : decode cX1_see 98 = .ok (.iconst 1, 1) := dk_4 (dk_at dksX1_see_4 3 rfl rfl)
theorem dX1_see_99 : decode cX1_see 99 = .ok (.iadd, 1) := dk_96 (dk_at dksX1_see_4 4 rfl rfl)
theorem dX1_see_100 : decode cX1_see 100 = .ok (.putfield 146, 3) := dk_181 0 146 (dk_at dksX1_see_4 5 rfl rfl)
theorem dX1_see_103 : decode cX1_see 103 = .ok (.aload_n 0, 1) := dk_42 (dk_at dksX1_see_4 8 rfl rfl)
theorem dX1_see_104 : decode cX1_see 104 = .ok (.getfield 19, 3) := dk_180 0 19 (dk_at dksX1_see_4 9 rfl rfl)
theorem dX1_see_107 : decode cX1_see 107 = .ok (.getfield 146, 3) := dk_180 0 146 (dk_at dksX1_see_4 12 rfl rfl)
theorem dX1_see_110 : decode cX1_see 110 = .ok (.ireturn, 1) := dk_172 (dk_at dksX1_see_4 15 rfl rfl)
abbrev cX1_fits : ByteArray := prog_1_method_46_code
def yX1_fits : MethodName := ⟨RX1, "fits", "(I)I"⟩
def dkwX1_fits_6 : List UInt8 := [167, 255, 152, 132, 4, 1, 167, 255, 137, 27, 154, 0, 7, 28, 167, 0, 4, 29, 172]
abbrev dktX1_fits_6 : List UInt8 := dkwX1_fits_6 ++ []
def dkwX1_fits_5 : List UInt8 := [167, 0, 20, 132, 2, 1, 29, 2, 160, 0, 12, 16, 100, 21, 4, 104, 21, 5, 96, 62, 132, 5, 1]
abbrev dktX1_fits_5 : List UInt8 := dkwX1_fits_5 ++ dktX1_fits_6
def dkwX1_fits_4 : List UInt8 := [160, 0, 7, 3, 167, 0, 10, 42, 180, 0, 30, 180, 0, 181, 181, 0, 181, 42, 182, 1, 85, 154, 0, 6]
abbrev dktX1_fits_4 : List UInt8 := dkwX1_fits_4 ++ dktX1_fits_5
def dkwX1_fits_3 : List UInt8 := [181, 0, 184, 42, 180, 0, 34, 21, 5, 154, 0, 7, 2, 167, 0, 25, 42, 180, 0, 30, 180, 0, 181, 2]
abbrev dktX1_fits_3 : List UInt8 := dkwX1_fits_3 ++ dktX1_fits_4
def dkwX1_fits_2 : List UInt8 := [21, 4, 181, 0, 178, 42, 180, 0, 34, 42, 182, 0, 102, 154, 0, 7, 3, 167, 0, 5, 21, 5]
abbrev dktX1_fits_2 : List UInt8 := dkwX1_fits_2 ++ dktX1_fits_3
def dkwX1_fits_1 : List UInt8 := [3, 54, 4, 21, 4, 5, 162, 0, 119, 3, 54, 5, 21, 5, 16, 60, 163, 0, 103, 42, 180, 0, 34]
abbrev dktX1_fits_1 : List UInt8 := dkwX1_fits_1 ++ dktX1_fits_2
def dkwX1_fits_0 : List UInt8 := [27, 3, 4, 184, 0, 156, 184, 0, 104, 42, 180, 0, 34, 42, 180, 0, 30, 182, 0, 241, 3, 61, 2, 62]
abbrev dktX1_fits_0 : List UInt8 := dkwX1_fits_0 ++ dktX1_fits_1
theorem dksX1_fits_0 : cX1_fits.data.toList.drop 0 = dktX1_fits_0 := by decide +kernel
theorem dksX1_fits_1 : cX1_fits.data.toList.drop 24 = dktX1_fits_1 := dk_seg dksX1_fits_0 24 rfl rfl
theorem dksX1_fits_2 : cX1_fits.data.toList.drop 47 = dktX1_fits_2 := dk_seg dksX1_fits_1 23 rfl rfl
theorem dksX1_fits_3 : cX1_fits.data.toList.drop 69 = dktX1_fits_3 := dk_seg dksX1_fits_2 22 rfl rfl
theorem dksX1_fits_4 : cX1_fits.data.toList.drop 93 = dktX1_fits_4 := dk_seg dksX1_fits_3 24 rfl rfl
theorem dksX1_fits_5 : cX1_fits.data.toList.drop 117 = dktX1_fits_5 := dk_seg dksX1_fits_4 24 rfl rfl
theorem dksX1_fits_6 : cX1_fits.data.toList.drop 140 = dktX1_fits_6 := dk_seg dksX1_fits_5 23 rfl rfl
theorem dX1_fits_0 : decode cX1_fits 0 = .ok (.iload_n 1, 1) := dk_27 (dk_at dksX1_fits_0 0 rfl rfl)
theorem dX1_fits_1 : decode cX1_fits 1 = .ok (.iconst 0, 1) := dk_3 (dk_at dksX1_fits_0 1 rfl rfl)
theorem dX1_fits_2 : decode cX1_fits 2 = .ok (.iconst 1, 1) := dk_4 (dk_at dksX1_fits_0 2 rfl rfl)
theorem dX1_fits_3 : decode cX1_fits 3 = .ok (.invokestatic 156, 3) := dk_184 0 156 (dk_at dksX1_fits_0 3 rfl rfl)
theorem dX1_fits_6 : decode cX1_fits 6 = .ok (.invokestatic 104, 3) := dk_184 0 104 (dk_at dksX1_fits_0 6 rfl rfl)
theorem dX1_fits_9 : decode cX1_fits 9 = .ok (.aload_n 0, 1) := dk_42 (dk_at dksX1_fits_0 9 rfl rfl)
theorem dX1_fits_10 : decode cX1_fits 10 = .ok (.getfield 34, 3) := dk_180 0 34 (dk_at dksX1_fits_0 10 rfl rfl)
theorem dX1_fits_13 : decode cX1_fits 13 = .ok (.aload_n 0, 1) := dk_42 (dk_at dksX1_fits_0 13 rfl rfl)
theorem dX1_fits_14 : decode cX1_fits 14 = .ok (.getfield 30, 3) := dk_180 0 30 (dk_at dksX1_fits_0 14 rfl rfl)
theorem dX1_fits_17 : decode cX1_fits 17 = .ok (.invokevirtual 241, 3) := dk_182 0 241 (dk_at dksX1_fits_0 17 rfl rfl)
theorem dX1_fits_20 : decode cX1_fits 20 = .ok (.iconst 0, 1) := dk_3 (dk_at dksX1_fits_0 20 rfl rfl)
theorem dX1_fits_21 : decode cX1_fits 21 = .ok (.istore_n 2, 1) := dk_61 (dk_at dksX1_fits_0 21 rfl rfl)
theorem dX1_fits_22 : decode cX1_fits 22 = .ok (.iconst (-1), 1) := dk_2 (dk_at dksX1_fits_0 22 rfl rfl)
theorem dX1_fits_23 : decode cX1_fits 23 = .ok (.istore_n 3, 1) := dk_62 (dk_at dksX1_fits_0 23 rfl rfl)
theorem dX1_fits_24 : decode cX1_fits 24 = .ok (.iconst 0, 1) := dk_3 (dk_at dksX1_fits_1 0 rfl rfl)
theorem dX1_fits_25 : decode cX1_fits 25 = .ok (.istore 4, 2) := dk_54 4 (dk_at dksX1_fits_1 1 rfl rfl)
theorem dX1_fits_27 : decode cX1_fits 27 = .ok (.iload 4, 2) := dk_21 4 (dk_at dksX1_fits_1 3 rfl rfl)
theorem dX1_fits_29 : decode cX1_fits 29 = .ok (.iconst 2, 1) := dk_5 (dk_at dksX1_fits_1 5 rfl rfl)
theorem dX1_fits_30 : decode cX1_fits 30 = .ok (.if_icmp .ge 119, 3) := dk_162 0 119 (dk_at dksX1_fits_1 6 rfl rfl)
theorem dX1_fits_33 : decode cX1_fits 33 = .ok (.iconst 0, 1) := dk_3 (dk_at dksX1_fits_1 9 rfl rfl)
theorem dX1_fits_34 : decode cX1_fits 34 = .ok (.istore 5, 2) := dk_54 5 (dk_at dksX1_fits_1 10 rfl rfl)
theorem dX1_fits_36 : decode cX1_fits 36 = .ok (.iload 5, 2) := dk_21 5 (dk_at dksX1_fits_1 12 rfl rfl)
theorem dX1_fits_38 : decode cX1_fits 38 = .ok (.bipush 60, 2) := dk_16 60 (dk_at dksX1_fits_1 14 rfl rfl)
theorem dX1_fits_40 : decode cX1_fits 40 = .ok (.if_icmp .gt 103, 3) := dk_163 0 103 (dk_at dksX1_fits_1 16 rfl rfl)
theorem dX1_fits_43 : decode cX1_fits 43 = .ok (.aload_n 0, 1) := dk_42 (dk_at dksX1_fits_1 19 rfl rfl)
theorem dX1_fits_44 : decode cX1_fits 44 = .ok (.getfield 34, 3) := dk_180 0 34 (dk_at dksX1_fits_1 20 rfl rfl)
theorem dX1_fits_47 : decode cX1_fits 47 = .ok (.iload 4, 2) := dk_21 4 (dk_at dksX1_fits_2 0 rfl rfl)
theorem dX1_fits_49 : decode cX1_fits 49 = .ok (.putfield 178, 3) := dk_181 0 178 (dk_at dksX1_fits_2 2 rfl rfl)
theorem dX1_fits_52 : decode cX1_fits 52 = .ok (.aload_n 0, 1) := dk_42 (dk_at dksX1_fits_2 5 rfl rfl)
theorem dX1_fits_53 : decode cX1_fits 53 = .ok (.getfield 34, 3) := dk_180 0 34 (dk_at dksX1_fits_2 6 rfl rfl)
theorem dX1_fits_56 : decode cX1_fits 56 = .ok (.aload_n 0, 1) := dk_42 (dk_at dksX1_fits_2 9 rfl rfl)
theorem dX1_fits_57 : decode cX1_fits 57 = .ok (.invokevirtual 102, 3) := dk_182 0 102 (dk_at dksX1_fits_2 10 rfl rfl)
theorem dX1_fits_60 : decode cX1_fits 60 = .ok (.ifCond .ne 7, 3) := dk_154 0 7 (dk_at dksX1_fits_2 13 rfl rfl)
theorem dX1_fits_63 : decode cX1_fits 63 = .ok (.iconst 0, 1) := dk_3 (dk_at dksX1_fits_2 16 rfl rfl)
theorem dX1_fits_64 : decode cX1_fits 64 = .ok (.goto 5, 3) := dk_167 0 5 (dk_at dksX1_fits_2 17 rfl rfl)
theorem dX1_fits_67 : decode cX1_fits 67 = .ok (.iload 5, 2) := dk_21 5 (dk_at dksX1_fits_2 20 rfl rfl)
theorem dX1_fits_69 : decode cX1_fits 69 = .ok (.putfield 184, 3) := dk_181 0 184 (dk_at dksX1_fits_3 0 rfl rfl)
theorem dX1_fits_72 : decode cX1_fits 72 = .ok (.aload_n 0, 1) := dk_42 (dk_at dksX1_fits_3 3 rfl rfl)
theorem dX1_fits_73 : decode cX1_fits 73 = .ok (.getfield 34, 3) := dk_180 0 34 (dk_at dksX1_fits_3 4 rfl rfl)
theorem dX1_fits_76 : decode cX1_fits 76 = .ok (.iload 5, 2) := dk_21 5 (dk_at dksX1_fits_3 7 rfl rfl)
theorem dX1_fits_78 : decode cX1_fits 78 = .ok (.ifCond .ne 7, 3) := dk_154 0 7 (dk_at dksX1_fits_3 9 rfl rfl)
theorem dX1_fits_81 : decode cX1_fits 81 = .ok (.iconst (-1), 1) := dk_2 (dk_at dksX1_fits_3 12 rfl rfl)
theorem dX1_fits_82 : decode cX1_fits 82 = .ok (.goto 25, 3) := dk_167 0 25 (dk_at dksX1_fits_3 13 rfl rfl)
theorem dX1_fits_85 : decode cX1_fits 85 = .ok (.aload_n 0, 1) := dk_42 (dk_at dksX1_fits_3 16 rfl rfl)
theorem dX1_fits_86 : decode cX1_fits 86 = .ok (.getfield 30, 3) := dk_180 0 30 (dk_at dksX1_fits_3 17 rfl rfl)
theorem dX1_fits_89 : decode cX1_fits 89 = .ok (.getfield 181, 3) := dk_180 0 181 (dk_at dksX1_fits_3 20 rfl rfl)
theorem dX1_fits_92 : decode cX1_fits 92 = .ok (.iconst (-1), 1) := dk_2 (dk_at dksX1_fits_3 23 rfl rfl)
theorem dX1_fits_93 : decode cX1_fits 93 = .ok (.if_icmp .ne 7, 3) := dk_160 0 7 (dk_at dksX1_fits_4 0 rfl rfl)
theorem dX1_fits_96 : decode cX1_fits 96 = .ok (.iconst 0, 1) := dk_3 (dk_at dksX1_fits_4 3 rfl rfl)
theorem dX1_fits_97 : decode cX1_fits 97 = .ok (.goto 10, 3) := dk_167 0 10 (dk_at dksX1_fits_4 4 rfl rfl)
theorem dX1_fits_100 : decode cX1_fits 100 = .ok (.aload_n 0, 1) := dk_42 (dk_at dksX1_fits_4 7 rfl rfl)
theorem dX1_fits_101 : decode cX1_fits 101 = .ok (.getfield 30, 3) := dk_180 0 30 (dk_at dksX1_fits_4 8 rfl rfl)
theorem dX1_fits_104 : decode cX1_fits 104 = .ok (.getfield 181, 3) := dk_180 0 181 (dk_at dksX1_fits_4 11 rfl rfl)
theorem dX1_fits_107 : decode cX1_fits 107 = .ok (.putfield 181, 3) := dk_181 0 181 (dk_at dksX1_fits_4 14 rfl rfl)
theorem dX1_fits_110 : decode cX1_fits 110 = .ok (.aload_n 0, 1) := dk_42 (dk_at dksX1_fits_4 17 rfl rfl)
theorem dX1_fits_111 : decode cX1_fits 111 = .ok (.invokevirtual 341, 3) := dk_182 1 85 (dk_at dksX1_fits_4 18 rfl rfl)
theorem dX1_fits_114 : decode cX1_fits 114 = .ok (.ifCond .ne 6, 3) := dk_154 0 6 (dk_at dksX1_fits_4 21 rfl rfl)
theorem dX1_fits_117 : decode cX1_fits 117 = .ok (.goto 20, 3) := dk_167 0 20 (dk_at dksX1_fits_5 0 rfl rfl)
theorem dX1_fits_120 : decode cX1_fits 120 = .ok (.iinc 2 1, 3) := dk_132 2 1 (dk_at dksX1_fits_5 3 rfl rfl)
theorem dX1_fits_123 : decode cX1_fits 123 = .ok (.iload_n 3, 1) := dk_29 (dk_at dksX1_fits_5 6 rfl rfl)
theorem dX1_fits_124 : decode cX1_fits 124 = .ok (.iconst (-1), 1) := dk_2 (dk_at dksX1_fits_5 7 rfl rfl)
theorem dX1_fits_125 : decode cX1_fits 125 = .ok (.if_icmp .ne 12, 3) := dk_160 0 12 (dk_at dksX1_fits_5 8 rfl rfl)
theorem dX1_fits_128 : decode cX1_fits 128 = .ok (.bipush 100, 2) := dk_16 100 (dk_at dksX1_fits_5 11 rfl rfl)
theorem dX1_fits_130 : decode cX1_fits 130 = .ok (.iload 4, 2) := dk_21 4 (dk_at dksX1_fits_5 13 rfl rfl)
theorem dX1_fits_132 : decode cX1_fits 132 = .ok (.imul, 1) := dk_104 (dk_at dksX1_fits_5 15 rfl rfl)
theorem dX1_fits_133 : decode cX1_fits 133 = .ok (.iload 5, 2) := dk_21 5 (dk_at dksX1_fits_5 16 rfl rfl)
theorem dX1_fits_135 : decode cX1_fits 135 = .ok (.iadd, 1) := dk_96 (dk_at dksX1_fits_5 18 rfl rfl)
theorem dX1_fits_136 : decode cX1_fits 136 = .ok (.istore_n 3, 1) := dk_62 (dk_at dksX1_fits_5 19 rfl rfl)
theorem dX1_fits_137 : decode cX1_fits 137 = .ok (.iinc 5 1, 3) := dk_132 5 1 (dk_at dksX1_fits_5 20 rfl rfl)
theorem dX1_fits_140 : decode cX1_fits 140 = .ok (.goto (-104), 3) := dk_167 255 152 (dk_at dksX1_fits_6 0 rfl rfl)
theorem dX1_fits_143 : decode cX1_fits 143 = .ok (.iinc 4 1, 3) := dk_132 4 1 (dk_at dksX1_fits_6 3 rfl rfl)
theorem dX1_fits_146 : decode cX1_fits 146 = .ok (.goto (-119), 3) := dk_167 255 137 (dk_at dksX1_fits_6 6 rfl rfl)
theorem dX1_fits_149 : decode cX1_fits 149 = .ok (.iload_n 1, 1) := dk_27 (dk_at dksX1_fits_6 9 rfl rfl)
theorem dX1_fits_150 : decode cX1_fits 150 = .ok (.ifCond .ne 7, 3) := dk_154 0 7 (dk_at dksX1_fits_6 10 rfl rfl)
theorem dX1_fits_153 : decode cX1_fits 153 = .ok (.iload_n 2, 1) := dk_28 (dk_at dksX1_fits_6 13 rfl rfl)
theorem dX1_fits_154 : decode cX1_fits 154 = .ok (.goto 4, 3) := dk_167 0 4 (dk_at dksX1_fits_6 14 rfl rfl)
theorem dX1_fits_157 : decode cX1_fits 157 = .ok (.iload_n 3, 1) := dk_29 (dk_at dksX1_fits_6 17 rfl rfl)
theorem dX1_fits_158 : decode cX1_fits 158 = .ok (.ireturn, 1) := dk_172 (dk_at dksX1_fits_6 18 rfl rfl)
abbrev cX1_fits_2 : ByteArray := prog_1_method_45_code
def yX1_fits_2 : MethodName := ⟨RX1, "fits", "()Z"⟩
def dkwX1_fits_2_2 : List UInt8 := [27, 172]
abbrev dktX1_fits_2_2 : List UInt8 := dkwX1_fits_2_2 ++ []
def dkwX1_fits_2_1 : List UInt8 := [180, 0, 10, 180, 0, 166, 162, 0, 18, 42, 180, 0, 62, 182, 1, 82, 42, 182, 1, 79, 60, 167, 255, 223]
abbrev dktX1_fits_2_1 : List UInt8 := dkwX1_fits_2_1 ++ dktX1_fits_2_2
def dkwX1_fits_2_0 : List UInt8 := [42, 180, 0, 62, 182, 1, 77, 42, 182, 1, 79, 60, 27, 153, 0, 35, 42, 180, 0, 62, 180, 1, 72, 42]
abbrev dktX1_fits_2_0 : List UInt8 := dkwX1_fits_2_0 ++ dktX1_fits_2_1
theorem dksX1_fits_2_0 : cX1_fits_2.data.toList.drop 0 = dktX1_fits_2_0 := by decide +kernel
theorem dksX1_fits_2_1 : cX1_fits_2.data.toList.drop 24 = dktX1_fits_2_1 := dk_seg dksX1_fits_2_0 24 rfl rfl
theorem dksX1_fits_2_2 : cX1_fits_2.data.toList.drop 48 = dktX1_fits_2_2 := dk_seg dksX1_fits_2_1 24 rfl rfl
theorem dX1_fits_2_0 : decode cX1_fits_2 0 = .ok (.aload_n 0, 1) := dk_42 (dk_at dksX1_fits_2_0 0 rfl rfl)
theorem dX1_fits_2_1 : decode cX1_fits_2 1 = .ok (.getfield 62, 3) := dk_180 0 62 (dk_at dksX1_fits_2_0 1 rfl rfl)
theorem dX1_fits_2_4 : decode cX1_fits_2 4 = .ok (.invokevirtual 333, 3) := dk_182 1 77 (dk_at dksX1_fits_2_0 4 rfl rfl)
theorem dX1_fits_2_7 : decode cX1_fits_2 7 = .ok (.aload_n 0, 1) := dk_42 (dk_at dksX1_fits_2_0 7 rfl rfl)
theorem dX1_fits_2_8 : decode cX1_fits_2 8 = .ok (.invokevirtual 335, 3) := dk_182 1 79 (dk_at dksX1_fits_2_0 8 rfl rfl)
theorem dX1_fits_2_11 : decode cX1_fits_2 11 = .ok (.istore_n 1, 1) := dk_60 (dk_at dksX1_fits_2_0 11 rfl rfl)
theorem dX1_fits_2_12 : decode cX1_fits_2 12 = .ok (.iload_n 1, 1) := dk_27 (dk_at dksX1_fits_2_0 12 rfl rfl)
theorem dX1_fits_2_13 : decode cX1_fits_2 13 = .ok (.ifCond .eq 35, 3) := dk_153 0 35 (dk_at dksX1_fits_2_0 13 rfl rfl)
theorem dX1_fits_2_16 : decode cX1_fits_2 16 = .ok (.aload_n 0, 1) := dk_42 (dk_at dksX1_fits_2_0 16 rfl rfl)
theorem dX1_fits_2_17 : decode cX1_fits_2 17 = .ok (.getfield 62, 3) := dk_180 0 62 (dk_at dksX1_fits_2_0 17 rfl rfl)
theorem dX1_fits_2_20 : decode cX1_fits_2 20 = .ok (.getfield 328, 3) := dk_180 1 72 (dk_at dksX1_fits_2_0 20 rfl rfl)
theorem dX1_fits_2_23 : decode cX1_fits_2 23 = .ok (.aload_n 0, 1) := dk_42 (dk_at dksX1_fits_2_0 23 rfl rfl)
theorem dX1_fits_2_24 : decode cX1_fits_2 24 = .ok (.getfield 10, 3) := dk_180 0 10 (dk_at dksX1_fits_2_1 0 rfl rfl)
theorem dX1_fits_2_27 : decode cX1_fits_2 27 = .ok (.getfield 166, 3) := dk_180 0 166 (dk_at dksX1_fits_2_1 3 rfl rfl)
theorem dX1_fits_2_30 : decode cX1_fits_2 30 = .ok (.if_icmp .ge 18, 3) := dk_162 0 18 (dk_at dksX1_fits_2_1 6 rfl rfl)
theorem dX1_fits_2_33 : decode cX1_fits_2 33 = .ok (.aload_n 0, 1) := dk_42 (dk_at dksX1_fits_2_1 9 rfl rfl)
theorem dX1_fits_2_34 : decode cX1_fits_2 34 = .ok (.getfield 62, 3) := dk_180 0 62 (dk_at dksX1_fits_2_1 10 rfl rfl)
theorem dX1_fits_2_37 : decode cX1_fits_2 37 = .ok (.invokevirtual 338, 3) := dk_182 1 82 (dk_at dksX1_fits_2_1 13 rfl rfl)
theorem dX1_fits_2_40 : decode cX1_fits_2 40 = .ok (.aload_n 0, 1) := dk_42 (dk_at dksX1_fits_2_1 16 rfl rfl)
theorem dX1_fits_2_41 : decode cX1_fits_2 41 = .ok (.invokevirtual 335, 3) := dk_182 1 79 (dk_at dksX1_fits_2_1 17 rfl rfl)
theorem dX1_fits_2_44 : decode cX1_fits_2 44 = .ok (.istore_n 1, 1) := dk_60 (dk_at dksX1_fits_2_1 20 rfl rfl)
theorem dX1_fits_2_45 : decode cX1_fits_2 45 = .ok (.goto (-33), 3) := dk_167 255 223 (dk_at dksX1_fits_2_1 21 rfl rfl)
theorem dX1_fits_2_48 : decode cX1_fits_2 48 = .ok (.iload_n 1, 1) := dk_27 (dk_at dksX1_fits_2_2 0 rfl rfl)
theorem dX1_fits_2_49 : decode cX1_fits_2 49 = .ok (.ireturn, 1) := dk_172 (dk_at dksX1_fits_2_2 1 rfl rfl)
abbrev cX1_isSeen : ByteArray := prog_1_method_44_code
def yX1_isSeen : MethodName := ⟨RX1, "isSeen", "()Z"⟩
def dkwX1_isSeen_3 : List UInt8 := [159, 0, 5, 3, 172, 132, 1, 1, 167, 255, 182, 4, 172]
abbrev dktX1_isSeen_3 : List UInt8 := dkwX1_isSeen_3 ++ []
def dkwX1_isSeen_2 : List UInt8 := [180, 1, 10, 42, 180, 0, 19, 180, 1, 65, 27, 46, 46, 42, 180, 0, 19, 180, 1, 71, 27, 46]
abbrev dktX1_isSeen_2 : List UInt8 := dkwX1_isSeen_2 ++ dktX1_isSeen_3
def dkwX1_isSeen_1 : List UInt8 := [180, 0, 166, 42, 180, 0, 19, 180, 1, 68, 27, 46, 184, 1, 74, 160, 0, 34, 42, 180, 0, 62]
abbrev dktX1_isSeen_1 : List UInt8 := dkwX1_isSeen_1 ++ dktX1_isSeen_2
def dkwX1_isSeen_0 : List UInt8 := [3, 60, 27, 42, 180, 0, 19, 180, 0, 146, 162, 0, 69, 42, 180, 0, 62, 180, 1, 72, 42, 180, 0, 10]
abbrev dktX1_isSeen_0 : List UInt8 := dkwX1_isSeen_0 ++ dktX1_isSeen_1
theorem dksX1_isSeen_0 : cX1_isSeen.data.toList.drop 0 = dktX1_isSeen_0 := by decide +kernel
theorem dksX1_isSeen_1 : cX1_isSeen.data.toList.drop 24 = dktX1_isSeen_1 := dk_seg dksX1_isSeen_0 24 rfl rfl
theorem dksX1_isSeen_2 : cX1_isSeen.data.toList.drop 46 = dktX1_isSeen_2 := dk_seg dksX1_isSeen_1 22 rfl rfl
theorem dksX1_isSeen_3 : cX1_isSeen.data.toList.drop 68 = dktX1_isSeen_3 := dk_seg dksX1_isSeen_2 22 rfl rfl
theorem dX1_isSeen_0 : decode cX1_isSeen 0 = .ok (.iconst 0, 1) := dk_3 (dk_at dksX1_isSeen_0 0 rfl rfl)
theorem dX1_isSeen_1 : decode cX1_isSeen 1 = .ok (.istore_n 1, 1) := dk_60 (dk_at dksX1_isSeen_0 1 rfl rfl)
theorem dX1_isSeen_2 : decode cX1_isSeen 2 = .ok (.iload_n 1, 1) := dk_27 (dk_at dksX1_isSeen_0 2 rfl rfl)
theorem dX1_isSeen_3 : decode cX1_isSeen 3 = .ok (.aload_n 0, 1) := dk_42 (dk_at dksX1_isSeen_0 3 rfl rfl)
theorem dX1_isSeen_4 : decode cX1_isSeen 4 = .ok (.getfield 19, 3) := dk_180 0 19 (dk_at dksX1_isSeen_0 4 rfl rfl)
theorem dX1_isSeen_7 : decode cX1_isSeen 7 = .ok (.getfield 146, 3) := dk_180 0 146 (dk_at dksX1_isSeen_0 7 rfl rfl)
theorem dX1_isSeen_10 : decode cX1_isSeen 10 = .ok (.if_icmp .ge 69, 3) := dk_162 0 69 (dk_at dksX1_isSeen_0 10 rfl rfl)
theorem dX1_isSeen_13 : decode cX1_isSeen 13 = .ok (.aload_n 0, 1) := dk_42 (dk_at dksX1_isSeen_0 13 rfl rfl)
theorem dX1_isSeen_14 : decode cX1_isSeen 14 = .ok (.getfield 62, 3) := dk_180 0 62 (dk_at dksX1_isSeen_0 14 rfl rfl)
theorem dX1_isSeen_17 : decode cX1_isSeen 17 = .ok (.getfield 328, 3) := dk_180 1 72 (dk_at dksX1_isSeen_0 17 rfl rfl)
theorem dX1_isSeen_20 : decode cX1_isSeen 20 = .ok (.aload_n 0, 1) := dk_42 (dk_at dksX1_isSeen_0 20 rfl rfl)
theorem dX1_isSeen_21 : decode cX1_isSeen 21 = .ok (.getfield 10, 3) := dk_180 0 10 (dk_at dksX1_isSeen_0 21 rfl rfl)
theorem dX1_isSeen_24 : decode cX1_isSeen 24 = .ok (.getfield 166, 3) := dk_180 0 166 (dk_at dksX1_isSeen_1 0 rfl rfl)
theorem dX1_isSeen_27 : decode cX1_isSeen 27 = .ok (.aload_n 0, 1) := dk_42 (dk_at dksX1_isSeen_1 3 rfl rfl)
theorem dX1_isSeen_28 : decode cX1_isSeen 28 = .ok (.getfield 19, 3) := dk_180 0 19 (dk_at dksX1_isSeen_1 4 rfl rfl)
theorem dX1_isSeen_31 : decode cX1_isSeen 31 = .ok (.getfield 324, 3) := dk_180 1 68 (dk_at dksX1_isSeen_1 7 rfl rfl)
theorem dX1_isSeen_34 : decode cX1_isSeen 34 = .ok (.iload_n 1, 1) := dk_27 (dk_at dksX1_isSeen_1 10 rfl rfl)
theorem dX1_isSeen_35 : decode cX1_isSeen 35 = .ok (.iaload, 1) := dk_46 (dk_at dksX1_isSeen_1 11 rfl rfl)
theorem dX1_isSeen_36 : decode cX1_isSeen 36 = .ok (.invokestatic 330, 3) := dk_184 1 74 (dk_at dksX1_isSeen_1 12 rfl rfl)
theorem dX1_isSeen_39 : decode cX1_isSeen 39 = .ok (.if_icmp .ne 34, 3) := dk_160 0 34 (dk_at dksX1_isSeen_1 15 rfl rfl)
theorem dX1_isSeen_42 : decode cX1_isSeen 42 = .ok (.aload_n 0, 1) := dk_42 (dk_at dksX1_isSeen_1 18 rfl rfl)
theorem dX1_isSeen_43 : decode cX1_isSeen 43 = .ok (.getfield 62, 3) := dk_180 0 62 (dk_at dksX1_isSeen_1 19 rfl rfl)
theorem dX1_isSeen_46 : decode cX1_isSeen 46 = .ok (.getfield 266, 3) := dk_180 1 10 (dk_at dksX1_isSeen_2 0 rfl rfl)
theorem dX1_isSeen_49 : decode cX1_isSeen 49 = .ok (.aload_n 0, 1) := dk_42 (dk_at dksX1_isSeen_2 3 rfl rfl)
theorem dX1_isSeen_50 : decode cX1_isSeen 50 = .ok (.getfield 19, 3) := dk_180 0 19 (dk_at dksX1_isSeen_2 4 rfl rfl)
theorem dX1_isSeen_53 : decode cX1_isSeen 53 = .ok (.getfield 321, 3) := dk_180 1 65 (dk_at dksX1_isSeen_2 7 rfl rfl)
theorem dX1_isSeen_56 : decode cX1_isSeen 56 = .ok (.iload_n 1, 1) := dk_27 (dk_at dksX1_isSeen_2 10 rfl rfl)
theorem dX1_isSeen_57 : decode cX1_isSeen 57 = .ok (.iaload, 1) := dk_46 (dk_at dksX1_isSeen_2 11 rfl rfl)
theorem dX1_isSeen_58 : decode cX1_isSeen 58 = .ok (.iaload, 1) := dk_46 (dk_at dksX1_isSeen_2 12 rfl rfl)
theorem dX1_isSeen_59 : decode cX1_isSeen 59 = .ok (.aload_n 0, 1) := dk_42 (dk_at dksX1_isSeen_2 13 rfl rfl)
theorem dX1_isSeen_60 : decode cX1_isSeen 60 = .ok (.getfield 19, 3) := dk_180 0 19 (dk_at dksX1_isSeen_2 14 rfl rfl)
theorem dX1_isSeen_63 : decode cX1_isSeen 63 = .ok (.getfield 327, 3) := dk_180 1 71 (dk_at dksX1_isSeen_2 17 rfl rfl)
theorem dX1_isSeen_66 : decode cX1_isSeen 66 = .ok (.iload_n 1, 1) := dk_27 (dk_at dksX1_isSeen_2 20 rfl rfl)
theorem dX1_isSeen_67 : decode cX1_isSeen 67 = .ok (.iaload, 1) := dk_46 (dk_at dksX1_isSeen_2 21 rfl rfl)
theorem dX1_isSeen_68 : decode cX1_isSeen 68 = .ok (.if_icmp .eq 5, 3) := dk_159 0 5 (dk_at dksX1_isSeen_3 0 rfl rfl)
theorem dX1_isSeen_71 : decode cX1_isSeen 71 = .ok (.iconst 0, 1) := dk_3 (dk_at dksX1_isSeen_3 3 rfl rfl)
theorem dX1_isSeen_72 : decode cX1_isSeen 72 = .ok (.ireturn, 1) := dk_172 (dk_at dksX1_isSeen_3 4 rfl rfl)
theorem dX1_isSeen_73 : decode cX1_isSeen 73 = .ok (.iinc 1 1, 3) := dk_132 1 1 (dk_at dksX1_isSeen_3 5 rfl rfl)
theorem dX1_isSeen_76 : decode cX1_isSeen 76 = .ok (.goto (-74), 3) := dk_167 255 182 (dk_at dksX1_isSeen_3 8 rfl rfl)
theorem dX1_isSeen_79 : decode cX1_isSeen 79 = .ok (.iconst 1, 1) := dk_4 (dk_at dksX1_isSeen_3 11 rfl rfl)
theorem dX1_isSeen_80 : decode cX1_isSeen 80 = .ok (.ireturn, 1) := dk_172 (dk_at dksX1_isSeen_3 12 rfl rfl)
abbrev cX1_without : ByteArray := prog_1_method_47_code
def yX1_without : MethodName := ⟨RX1, "without", "(I)I"⟩
def dkwX1_without_4 : List UInt8 := [180, 0, 34, 3, 181, 0, 184, 28, 42, 182, 1, 37, 100, 172]
abbrev dktX1_without_4 : List UInt8 := dkwX1_without_4 ++ []
def dkwX1_without_3 : List UInt8 := [181, 0, 187, 42, 180, 0, 30, 180, 0, 181, 27, 160, 0, 19, 42, 180, 0, 34, 2, 181, 0, 181, 42]
abbrev dktX1_without_3 : List UInt8 := dkwX1_without_3 ++ dktX1_without_4
def dkwX1_without_2 : List UInt8 := [180, 0, 30, 27, 182, 0, 213, 182, 1, 88, 42, 180, 0, 34, 42, 180, 0, 10, 27, 182, 1, 91]
abbrev dktX1_without_2 : List UInt8 := dkwX1_without_2 ++ dktX1_without_3
def dkwX1_without_1 : List UInt8 := [180, 1, 1, 27, 46, 100, 61, 42, 180, 0, 34, 42, 180, 0, 30, 182, 0, 241, 42, 180, 0, 34, 42]
abbrev dktX1_without_1 : List UInt8 := dkwX1_without_1 ++ dktX1_without_2
def dkwX1_without_0 : List UInt8 := [42, 27, 182, 0, 190, 87, 42, 180, 0, 58, 182, 0, 245, 42, 180, 0, 58, 182, 0, 251, 42, 180, 0, 58]
abbrev dktX1_without_0 : List UInt8 := dkwX1_without_0 ++ dktX1_without_1
theorem dksX1_without_0 : cX1_without.data.toList.drop 0 = dktX1_without_0 := by decide +kernel
theorem dksX1_without_1 : cX1_without.data.toList.drop 24 = dktX1_without_1 := dk_seg dksX1_without_0 24 rfl rfl
theorem dksX1_without_2 : cX1_without.data.toList.drop 47 = dktX1_without_2 := dk_seg dksX1_without_1 23 rfl rfl
theorem dksX1_without_3 : cX1_without.data.toList.drop 69 = dktX1_without_3 := dk_seg dksX1_without_2 22 rfl rfl
theorem dksX1_without_4 : cX1_without.data.toList.drop 92 = dktX1_without_4 := dk_seg dksX1_without_3 23 rfl rfl
theorem dX1_without_0 : decode cX1_without 0 = .ok (.aload_n 0, 1) := dk_42 (dk_at dksX1_without_0 0 rfl rfl)
theorem dX1_without_1 : decode cX1_without 1 = .ok (.iload_n 1, 1) := dk_27 (dk_at dksX1_without_0 1 rfl rfl)
theorem dX1_without_2 : decode cX1_without 2 = .ok (.invokevirtual 190, 3) := dk_182 0 190 (dk_at dksX1_without_0 2 rfl rfl)
theorem dX1_without_5 : decode cX1_without 5 = .ok (.pop, 1) := dk_87 (dk_at dksX1_without_0 5 rfl rfl)
theorem dX1_without_6 : decode cX1_without 6 = .ok (.aload_n 0, 1) := dk_42 (dk_at dksX1_without_0 6 rfl rfl)
theorem dX1_without_7 : decode cX1_without 7 = .ok (.getfield 58, 3) := dk_180 0 58 (dk_at dksX1_without_0 7 rfl rfl)
theorem dX1_without_10 : decode cX1_without 10 = .ok (.invokevirtual 245, 3) := dk_182 0 245 (dk_at dksX1_without_0 10 rfl rfl)
theorem dX1_without_13 : decode cX1_without 13 = .ok (.aload_n 0, 1) := dk_42 (dk_at dksX1_without_0 13 rfl rfl)
theorem dX1_without_14 : decode cX1_without 14 = .ok (.getfield 58, 3) := dk_180 0 58 (dk_at dksX1_without_0 14 rfl rfl)
theorem dX1_without_17 : decode cX1_without 17 = .ok (.invokevirtual 251, 3) := dk_182 0 251 (dk_at dksX1_without_0 17 rfl rfl)
theorem dX1_without_20 : decode cX1_without 20 = .ok (.aload_n 0, 1) := dk_42 (dk_at dksX1_without_0 20 rfl rfl)
theorem dX1_without_21 : decode cX1_without 21 = .ok (.getfield 58, 3) := dk_180 0 58 (dk_at dksX1_without_0 21 rfl rfl)
theorem dX1_without_24 : decode cX1_without 24 = .ok (.getfield 257, 3) := dk_180 1 1 (dk_at dksX1_without_1 0 rfl rfl)
theorem dX1_without_27 : decode cX1_without 27 = .ok (.iload_n 1, 1) := dk_27 (dk_at dksX1_without_1 3 rfl rfl)
theorem dX1_without_28 : decode cX1_without 28 = .ok (.iaload, 1) := dk_46 (dk_at dksX1_without_1 4 rfl rfl)
theorem dX1_without_29 : decode cX1_without 29 = .ok (.isub, 1) := dk_100 (dk_at dksX1_without_1 5 rfl rfl)
theorem dX1_without_30 : decode cX1_without 30 = .ok (.istore_n 2, 1) := dk_61 (dk_at dksX1_without_1 6 rfl rfl)
theorem dX1_without_31 : decode cX1_without 31 = .ok (.aload_n 0, 1) := dk_42 (dk_at dksX1_without_1 7 rfl rfl)
theorem dX1_without_32 : decode cX1_without 32 = .ok (.getfield 34, 3) := dk_180 0 34 (dk_at dksX1_without_1 8 rfl rfl)
theorem dX1_without_35 : decode cX1_without 35 = .ok (.aload_n 0, 1) := dk_42 (dk_at dksX1_without_1 11 rfl rfl)
theorem dX1_without_36 : decode cX1_without 36 = .ok (.getfield 30, 3) := dk_180 0 30 (dk_at dksX1_without_1 12 rfl rfl)
theorem dX1_without_39 : decode cX1_without 39 = .ok (.invokevirtual 241, 3) := dk_182 0 241 (dk_at dksX1_without_1 15 rfl rfl)
theorem dX1_without_42 : decode cX1_without 42 = .ok (.aload_n 0, 1) := dk_42 (dk_at dksX1_without_1 18 rfl rfl)
theorem dX1_without_43 : decode cX1_without 43 = .ok (.getfield 34, 3) := dk_180 0 34 (dk_at dksX1_without_1 19 rfl rfl)
theorem dX1_without_46 : decode cX1_without 46 = .ok (.aload_n 0, 1) := dk_42 (dk_at dksX1_without_1 22 rfl rfl)
theorem dX1_without_47 : decode cX1_without 47 = .ok (.getfield 30, 3) := dk_180 0 30 (dk_at dksX1_without_2 0 rfl rfl)
theorem dX1_without_50 : decode cX1_without 50 = .ok (.iload_n 1, 1) := dk_27 (dk_at dksX1_without_2 3 rfl rfl)
theorem dX1_without_51 : decode cX1_without 51 = .ok (.invokevirtual 213, 3) := dk_182 0 213 (dk_at dksX1_without_2 4 rfl rfl)
theorem dX1_without_54 : decode cX1_without 54 = .ok (.invokevirtual 344, 3) := dk_182 1 88 (dk_at dksX1_without_2 7 rfl rfl)
theorem dX1_without_57 : decode cX1_without 57 = .ok (.aload_n 0, 1) := dk_42 (dk_at dksX1_without_2 10 rfl rfl)
theorem dX1_without_58 : decode cX1_without 58 = .ok (.getfield 34, 3) := dk_180 0 34 (dk_at dksX1_without_2 11 rfl rfl)
theorem dX1_without_61 : decode cX1_without 61 = .ok (.aload_n 0, 1) := dk_42 (dk_at dksX1_without_2 14 rfl rfl)
theorem dX1_without_62 : decode cX1_without 62 = .ok (.getfield 10, 3) := dk_180 0 10 (dk_at dksX1_without_2 15 rfl rfl)
theorem dX1_without_65 : decode cX1_without 65 = .ok (.iload_n 1, 1) := dk_27 (dk_at dksX1_without_2 18 rfl rfl)
theorem dX1_without_66 : decode cX1_without 66 = .ok (.invokevirtual 347, 3) := dk_182 1 91 (dk_at dksX1_without_2 19 rfl rfl)
theorem dX1_without_69 : decode cX1_without 69 = .ok (.putfield 187, 3) := dk_181 0 187 (dk_at dksX1_without_3 0 rfl rfl)
theorem dX1_without_72 : decode cX1_without 72 = .ok (.aload_n 0, 1) := dk_42 (dk_at dksX1_without_3 3 rfl rfl)
theorem dX1_without_73 : decode cX1_without 73 = .ok (.getfield 30, 3) := dk_180 0 30 (dk_at dksX1_without_3 4 rfl rfl)
theorem dX1_without_76 : decode cX1_without 76 = .ok (.getfield 181, 3) := dk_180 0 181 (dk_at dksX1_without_3 7 rfl rfl)
theorem dX1_without_79 : decode cX1_without 79 = .ok (.iload_n 1, 1) := dk_27 (dk_at dksX1_without_3 10 rfl rfl)
theorem dX1_without_80 : decode cX1_without 80 = .ok (.if_icmp .ne 19, 3) := dk_160 0 19 (dk_at dksX1_without_3 11 rfl rfl)
theorem dX1_without_83 : decode cX1_without 83 = .ok (.aload_n 0, 1) := dk_42 (dk_at dksX1_without_3 14 rfl rfl)
theorem dX1_without_84 : decode cX1_without 84 = .ok (.getfield 34, 3) := dk_180 0 34 (dk_at dksX1_without_3 15 rfl rfl)
theorem dX1_without_87 : decode cX1_without 87 = .ok (.iconst (-1), 1) := dk_2 (dk_at dksX1_without_3 18 rfl rfl)
theorem dX1_without_88 : decode cX1_without 88 = .ok (.putfield 181, 3) := dk_181 0 181 (dk_at dksX1_without_3 19 rfl rfl)
theorem dX1_without_91 : decode cX1_without 91 = .ok (.aload_n 0, 1) := dk_42 (dk_at dksX1_without_3 22 rfl rfl)
theorem dX1_without_92 : decode cX1_without 92 = .ok (.getfield 34, 3) := dk_180 0 34 (dk_at dksX1_without_4 0 rfl rfl)
theorem dX1_without_95 : decode cX1_without 95 = .ok (.iconst 0, 1) := dk_3 (dk_at dksX1_without_4 3 rfl rfl)
theorem dX1_without_96 : decode cX1_without 96 = .ok (.putfield 184, 3) := dk_181 0 184 (dk_at dksX1_without_4 4 rfl rfl)
theorem dX1_without_99 : decode cX1_without 99 = .ok (.iload_n 2, 1) := dk_28 (dk_at dksX1_without_4 7 rfl rfl)
theorem dX1_without_100 : decode cX1_without 100 = .ok (.aload_n 0, 1) := dk_42 (dk_at dksX1_without_4 8 rfl rfl)
theorem dX1_without_101 : decode cX1_without 101 = .ok (.invokevirtual 293, 3) := dk_182 1 37 (dk_at dksX1_without_4 9 rfl rfl)
theorem dX1_without_104 : decode cX1_without 104 = .ok (.isub, 1) := dk_100 (dk_at dksX1_without_4 12 rfl rfl)
theorem dX1_without_105 : decode cX1_without 105 = .ok (.ireturn, 1) := dk_172 (dk_at dksX1_without_4 13 rfl rfl)
abbrev cX1_year : ByteArray := prog_1_method_49_code
def yX1_year : MethodName := ⟨RX1, "year", "(III)I"⟩
def dkwX1_year_8 : List UInt8 := [154, 0, 8, 21, 4, 167, 0, 15, 29, 4, 160, 0, 8, 21, 5, 167, 0, 5, 21, 6, 172]
abbrev dktX1_year_8 : List UInt8 := dkwX1_year_8 ++ []
def dkwX1_year_7 : List UInt8 := [21, 5, 21, 8, 184, 1, 41, 54, 5, 21, 8, 154, 0, 6, 132, 6, 1, 132, 7, 1, 167, 255, 121, 29]
abbrev dktX1_year_7 : List UInt8 := dkwX1_year_7 ++ dktX1_year_8
def dkwX1_year_6 : List UInt8 := [167, 0, 4, 3, 79, 132, 8, 1, 167, 255, 166, 42, 182, 1, 37, 54, 8, 21, 4, 21, 8, 96, 54, 4]
abbrev dktX1_year_6 : List UInt8 := dkwX1_year_6 ++ dktX1_year_7
def dkwX1_year_5 : List UInt8 := [192, 0, 112, 180, 0, 210, 162, 0, 19, 4, 42, 42, 180, 0, 10, 180, 0, 166, 182, 1, 98, 96]
abbrev dktX1_year_5 : List UInt8 := dkwX1_year_5 ++ dktX1_year_6
def dkwX1_year_4 : List UInt8 := [180, 0, 207, 21, 8, 42, 16, 10, 182, 1, 98, 42, 180, 0, 10, 180, 0, 92, 21, 8, 182, 0, 108]
abbrev dktX1_year_4 : List UInt8 := dkwX1_year_4 ++ dktX1_year_5
def dkwX1_year_3 : List UInt8 := [180, 0, 92, 21, 8, 182, 0, 108, 192, 0, 112, 182, 0, 234, 154, 0, 6, 167, 0, 57, 42, 180, 0, 34]
abbrev dktX1_year_3 : List UInt8 := dkwX1_year_3 ++ dktX1_year_4
def dkwX1_year_2 : List UInt8 := [21, 7, 28, 162, 0, 135, 3, 54, 8, 21, 8, 42, 182, 0, 102, 162, 0, 87, 42, 180, 0, 10]
abbrev dktX1_year_2 : List UInt8 := dkwX1_year_2 ++ dktX1_year_3
def dkwX1_year_1 : List UInt8 := [180, 0, 30, 182, 0, 241, 42, 27, 181, 1, 94, 3, 54, 4, 3, 54, 5, 3, 54, 6, 3, 54, 7]
abbrev dktX1_year_1 : List UInt8 := dkwX1_year_1 ++ dktX1_year_2
def dkwX1_year_0 : List UInt8 := [29, 3, 5, 184, 0, 156, 184, 0, 104, 28, 3, 16, 40, 184, 0, 156, 184, 0, 121, 42, 180, 0, 34, 42]
abbrev dktX1_year_0 : List UInt8 := dkwX1_year_0 ++ dktX1_year_1
theorem dksX1_year_0 : cX1_year.data.toList.drop 0 = dktX1_year_0 := by decide +kernel
theorem dksX1_year_1 : cX1_year.data.toList.drop 24 = dktX1_year_1 := dk_seg dksX1_year_0 24 rfl rfl
theorem dksX1_year_2 : cX1_year.data.toList.drop 47 = dktX1_year_2 := dk_seg dksX1_year_1 23 rfl rfl
theorem dksX1_year_3 : cX1_year.data.toList.drop 69 = dktX1_year_3 := dk_seg dksX1_year_2 22 rfl rfl
theorem dksX1_year_4 : cX1_year.data.toList.drop 93 = dktX1_year_4 := dk_seg dksX1_year_3 24 rfl rfl
theorem dksX1_year_5 : cX1_year.data.toList.drop 116 = dktX1_year_5 := dk_seg dksX1_year_4 23 rfl rfl
theorem dksX1_year_6 : cX1_year.data.toList.drop 138 = dktX1_year_6 := dk_seg dksX1_year_5 22 rfl rfl
theorem dksX1_year_7 : cX1_year.data.toList.drop 162 = dktX1_year_7 := dk_seg dksX1_year_6 24 rfl rfl
theorem dksX1_year_8 : cX1_year.data.toList.drop 186 = dktX1_year_8 := dk_seg dksX1_year_7 24 rfl rfl
theorem dX1_year_0 : decode cX1_year 0 = .ok (.iload_n 3, 1) := dk_29 (dk_at dksX1_year_0 0 rfl rfl)
theorem dX1_year_1 : decode cX1_year 1 = .ok (.iconst 0, 1) := dk_3 (dk_at dksX1_year_0 1 rfl rfl)
theorem dX1_year_2 : decode cX1_year 2 = .ok (.iconst 2, 1) := dk_5 (dk_at dksX1_year_0 2 rfl rfl)
theorem dX1_year_3 : decode cX1_year 3 = .ok (.invokestatic 156, 3) := dk_184 0 156 (dk_at dksX1_year_0 3 rfl rfl)
theorem dX1_year_6 : decode cX1_year 6 = .ok (.invokestatic 104, 3) := dk_184 0 104 (dk_at dksX1_year_0 6 rfl rfl)
theorem dX1_year_9 : decode cX1_year 9 = .ok (.iload_n 2, 1) := dk_28 (dk_at dksX1_year_0 9 rfl rfl)
theorem dX1_year_10 : decode cX1_year 10 = .ok (.iconst 0, 1) := dk_3 (dk_at dksX1_year_0 10 rfl rfl)
theorem dX1_year_11 : decode cX1_year 11 = .ok (.bipush 40, 2) := dk_16 40 (dk_at dksX1_year_0 11 rfl rfl)
theorem dX1_year_13 : decode cX1_year 13 = .ok (.invokestatic 156, 3) := dk_184 0 156 (dk_at dksX1_year_0 13 rfl rfl)
theorem dX1_year_16 : decode cX1_year 16 = .ok (.invokestatic 121, 3) := dk_184 0 121 (dk_at dksX1_year_0 16 rfl rfl)
theorem dX1_year_19 : decode cX1_year 19 = .ok (.aload_n 0, 1) := dk_42 (dk_at dksX1_year_0 19 rfl rfl)
theorem dX1_year_20 : decode cX1_year 20 = .ok (.getfield 34, 3) := dk_180 0 34 (dk_at dksX1_year_0 20 rfl rfl)
theorem dX1_year_23 : decode cX1_year 23 = .ok (.aload_n 0, 1) := dk_42 (dk_at dksX1_year_0 23 rfl rfl)
theorem dX1_year_24 : decode cX1_year 24 = .ok (.getfield 30, 3) := dk_180 0 30 (dk_at dksX1_year_1 0 rfl rfl)
theorem dX1_year_27 : decode cX1_year 27 = .ok (.invokevirtual 241, 3) := dk_182 0 241 (dk_at dksX1_year_1 3 rfl rfl)
theorem dX1_year_30 : decode cX1_year 30 = .ok (.aload_n 0, 1) := dk_42 (dk_at dksX1_year_1 6 rfl rfl)
theorem dX1_year_31 : decode cX1_year 31 = .ok (.iload_n 1, 1) := dk_27 (dk_at dksX1_year_1 7 rfl rfl)
theorem dX1_year_32 : decode cX1_year 32 = .ok (.putfield 350, 3) := dk_181 1 94 (dk_at dksX1_year_1 8 rfl rfl)
theorem dX1_year_35 : decode cX1_year 35 = .ok (.iconst 0, 1) := dk_3 (dk_at dksX1_year_1 11 rfl rfl)
theorem dX1_year_36 : decode cX1_year 36 = .ok (.istore 4, 2) := dk_54 4 (dk_at dksX1_year_1 12 rfl rfl)
theorem dX1_year_38 : decode cX1_year 38 = .ok (.iconst 0, 1) := dk_3 (dk_at dksX1_year_1 14 rfl rfl)
theorem dX1_year_39 : decode cX1_year 39 = .ok (.istore 5, 2) := dk_54 5 (dk_at dksX1_year_1 15 rfl rfl)
theorem dX1_year_41 : decode cX1_year 41 = .ok (.iconst 0, 1) := dk_3 (dk_at dksX1_year_1 17 rfl rfl)
theorem dX1_year_42 : decode cX1_year 42 = .ok (.istore 6, 2) := dk_54 6 (dk_at dksX1_year_1 18 rfl rfl)
theorem dX1_year_44 : decode cX1_year 44 = .ok (.iconst 0, 1) := dk_3 (dk_at dksX1_year_1 20 rfl rfl)
theorem dX1_year_45 : decode cX1_year 45 = .ok (.istore 7, 2) := dk_54 7 (dk_at dksX1_year_1 21 rfl rfl)
theorem dX1_year_47 : decode cX1_year 47 = .ok (.iload 7, 2) := dk_21 7 (dk_at dksX1_year_2 0 rfl rfl)
theorem dX1_year_49 : decode cX1_year 49 = .ok (.iload_n 2, 1) := dk_28 (dk_at dksX1_year_2 2 rfl rfl)
theorem dX1_year_50 : decode cX1_year 50 = .ok (.if_icmp .ge 135, 3) := dk_162 0 135 (dk_at dksX1_year_2 3 rfl rfl)
theorem dX1_year_53 : decode cX1_year 53 = .ok (.iconst 0, 1) := dk_3 (dk_at dksX1_year_2 6 rfl rfl)
theorem dX1_year_54 : decode cX1_year 54 = .ok (.istore 8, 2) := dk_54 8 (dk_at dksX1_year_2 7 rfl rfl)
theorem dX1_year_56 : decode cX1_year 56 = .ok (.iload 8, 2) := dk_21 8 (dk_at dksX1_year_2 9 rfl rfl)
theorem dX1_year_58 : decode cX1_year 58 = .ok (.aload_n 0, 1) := dk_42 (dk_at dksX1_year_2 11 rfl rfl)
theorem dX1_year_59 : decode cX1_year 59 = .ok (.invokevirtual 102, 3) := dk_182 0 102 (dk_at dksX1_year_2 12 rfl rfl)
theorem dX1_year_62 : decode cX1_year 62 = .ok (.if_icmp .ge 87, 3) := dk_162 0 87 (dk_at dksX1_year_2 15 rfl rfl)
theorem dX1_year_65 : decode cX1_year 65 = .ok (.aload_n 0, 1) := dk_42 (dk_at dksX1_year_2 18 rfl rfl)
theorem dX1_year_66 : decode cX1_year 66 = .ok (.getfield 10, 3) := dk_180 0 10 (dk_at dksX1_year_2 19 rfl rfl)
theorem dX1_year_69 : decode cX1_year 69 = .ok (.getfield 92, 3) := dk_180 0 92 (dk_at dksX1_year_3 0 rfl rfl)
theorem dX1_year_72 : decode cX1_year 72 = .ok (.iload 8, 2) := dk_21 8 (dk_at dksX1_year_3 3 rfl rfl)
theorem dX1_year_74 : decode cX1_year 74 = .ok (.invokevirtual 108, 3) := dk_182 0 108 (dk_at dksX1_year_3 5 rfl rfl)
theorem dX1_year_77 : decode cX1_year 77 = .ok (.checkcast 112, 3) := dk_192 0 112 (dk_at dksX1_year_3 8 rfl rfl)
theorem dX1_year_80 : decode cX1_year 80 = .ok (.invokevirtual 234, 3) := dk_182 0 234 (dk_at dksX1_year_3 11 rfl rfl)
theorem dX1_year_83 : decode cX1_year 83 = .ok (.ifCond .ne 6, 3) := dk_154 0 6 (dk_at dksX1_year_3 14 rfl rfl)
theorem dX1_year_86 : decode cX1_year 86 = .ok (.goto 57, 3) := dk_167 0 57 (dk_at dksX1_year_3 17 rfl rfl)
theorem dX1_year_89 : decode cX1_year 89 = .ok (.aload_n 0, 1) := dk_42 (dk_at dksX1_year_3 20 rfl rfl)
theorem dX1_year_90 : decode cX1_year 90 = .ok (.getfield 34, 3) := dk_180 0 34 (dk_at dksX1_year_3 21 rfl rfl)
theorem dX1_year_93 : decode cX1_year 93 = .ok (.getfield 207, 3) := dk_180 0 207 (dk_at dksX1_year_4 0 rfl rfl)
theorem dX1_year_96 : decode cX1_year 96 = .ok (.iload 8, 2) := dk_21 8 (dk_at dksX1_year_4 3 rfl rfl)
theorem dX1_year_98 : decode cX1_year 98 = .ok (.aload_n 0, 1) := dk_42 (dk_at dksX1_year_4 5 rfl rfl)
theorem dX1_year_99 : decode cX1_year 99 = .ok (.bipush 10, 2) := dk_16 10 (dk_at dksX1_year_4 6 rfl rfl)
theorem dX1_year_101 : decode cX1_year 101 = .ok (.invokevirtual 354, 3) := dk_182 1 98 (dk_at dksX1_year_4 8 rfl rfl)
theorem dX1_year_104 : decode cX1_year 104 = .ok (.aload_n 0, 1) := dk_42 (dk_at dksX1_year_4 11 rfl rfl)
theorem dX1_year_105 : decode cX1_year 105 = .ok (.getfield 10, 3) := dk_180 0 10 (dk_at dksX1_year_4 12 rfl rfl)
theorem dX1_year_108 : decode cX1_year 108 = .ok (.getfield 92, 3) := dk_180 0 92 (dk_at dksX1_year_4 15 rfl rfl)
theorem dX1_year_111 : decode cX1_year 111 = .ok (.iload 8, 2) := dk_21 8 (dk_at dksX1_year_4 18 rfl rfl)
theorem dX1_year_113 : decode cX1_year 113 = .ok (.invokevirtual 108, 3) := dk_182 0 108 (dk_at dksX1_year_4 20 rfl rfl)
theorem dX1_year_116 : decode cX1_year 116 = .ok (.checkcast 112, 3) := dk_192 0 112 (dk_at dksX1_year_5 0 rfl rfl)
theorem dX1_year_119 : decode cX1_year 119 = .ok (.getfield 210, 3) := dk_180 0 210 (dk_at dksX1_year_5 3 rfl rfl)
theorem dX1_year_122 : decode cX1_year 122 = .ok (.if_icmp .ge 19, 3) := dk_162 0 19 (dk_at dksX1_year_5 6 rfl rfl)
theorem dX1_year_125 : decode cX1_year 125 = .ok (.iconst 1, 1) := dk_4 (dk_at dksX1_year_5 9 rfl rfl)
theorem dX1_year_126 : decode cX1_year 126 = .ok (.aload_n 0, 1) := dk_42 (dk_at dksX1_year_5 10 rfl rfl)
theorem dX1_year_127 : decode cX1_year 127 = .ok (.aload_n 0, 1) := dk_42 (dk_at dksX1_year_5 11 rfl rfl)
theorem dX1_year_128 : decode cX1_year 128 = .ok (.getfield 10, 3) := dk_180 0 10 (dk_at dksX1_year_5 12 rfl rfl)
theorem dX1_year_131 : decode cX1_year 131 = .ok (.getfield 166, 3) := dk_180 0 166 (dk_at dksX1_year_5 15 rfl rfl)
theorem dX1_year_134 : decode cX1_year 134 = .ok (.invokevirtual 354, 3) := dk_182 1 98 (dk_at dksX1_year_5 18 rfl rfl)
theorem dX1_year_137 : decode cX1_year 137 = .ok (.iadd, 1) := dk_96 (dk_at dksX1_year_5 21 rfl rfl)
theorem dX1_year_138 : decode cX1_year 138 = .ok (.goto 4, 3) := dk_167 0 4 (dk_at dksX1_year_6 0 rfl rfl)
theorem dX1_year_141 : decode cX1_year 141 = .ok (.iconst 0, 1) := dk_3 (dk_at dksX1_year_6 3 rfl rfl)
theorem dX1_year_142 : decode cX1_year 142 = .ok (.iastore, 1) := dk_79 (dk_at dksX1_year_6 4 rfl rfl)
theorem dX1_year_143 : decode cX1_year 143 = .ok (.iinc 8 1, 3) := dk_132 8 1 (dk_at dksX1_year_6 5 rfl rfl)
theorem dX1_year_146 : decode cX1_year 146 = .ok (.goto (-90), 3) := dk_167 255 166 (dk_at dksX1_year_6 8 rfl rfl)
theorem dX1_year_149 : decode cX1_year 149 = .ok (.aload_n 0, 1) := dk_42 (dk_at dksX1_year_6 11 rfl rfl)
theorem dX1_year_150 : decode cX1_year 150 = .ok (.invokevirtual 293, 3) := dk_182 1 37 (dk_at dksX1_year_6 12 rfl rfl)
theorem dX1_year_153 : decode cX1_year 153 = .ok (.istore 8, 2) := dk_54 8 (dk_at dksX1_year_6 15 rfl rfl)
theorem dX1_year_155 : decode cX1_year 155 = .ok (.iload 4, 2) := dk_21 4 (dk_at dksX1_year_6 17 rfl rfl)
theorem dX1_year_157 : decode cX1_year 157 = .ok (.iload 8, 2) := dk_21 8 (dk_at dksX1_year_6 19 rfl rfl)
theorem dX1_year_159 : decode cX1_year 159 = .ok (.iadd, 1) := dk_96 (dk_at dksX1_year_6 21 rfl rfl)
theorem dX1_year_160 : decode cX1_year 160 = .ok (.istore 4, 2) := dk_54 4 (dk_at dksX1_year_6 22 rfl rfl)
theorem dX1_year_162 : decode cX1_year 162 = .ok (.iload 5, 2) := dk_21 5 (dk_at dksX1_year_7 0 rfl rfl)
theorem dX1_year_164 : decode cX1_year 164 = .ok (.iload 8, 2) := dk_21 8 (dk_at dksX1_year_7 2 rfl rfl)
theorem dX1_year_166 : decode cX1_year 166 = .ok (.invokestatic 297, 3) := dk_184 1 41 (dk_at dksX1_year_7 4 rfl rfl)
theorem dX1_year_169 : decode cX1_year 169 = .ok (.istore 5, 2) := dk_54 5 (dk_at dksX1_year_7 7 rfl rfl)
theorem dX1_year_171 : decode cX1_year 171 = .ok (.iload 8, 2) := dk_21 8 (dk_at dksX1_year_7 9 rfl rfl)
theorem dX1_year_173 : decode cX1_year 173 = .ok (.ifCond .ne 6, 3) := dk_154 0 6 (dk_at dksX1_year_7 11 rfl rfl)
theorem dX1_year_176 : decode cX1_year 176 = .ok (.iinc 6 1, 3) := dk_132 6 1 (dk_at dksX1_year_7 14 rfl rfl)
theorem dX1_year_179 : decode cX1_year 179 = .ok (.iinc 7 1, 3) := dk_132 7 1 (dk_at dksX1_year_7 17 rfl rfl)
theorem dX1_year_182 : decode cX1_year 182 = .ok (.goto (-135), 3) := dk_167 255 121 (dk_at dksX1_year_7 20 rfl rfl)
theorem dX1_year_185 : decode cX1_year 185 = .ok (.iload_n 3, 1) := dk_29 (dk_at dksX1_year_7 23 rfl rfl)
theorem dX1_year_186 : decode cX1_year 186 = .ok (.ifCond .ne 8, 3) := dk_154 0 8 (dk_at dksX1_year_8 0 rfl rfl)
theorem dX1_year_189 : decode cX1_year 189 = .ok (.iload 4, 2) := dk_21 4 (dk_at dksX1_year_8 3 rfl rfl)
theorem dX1_year_191 : decode cX1_year 191 = .ok (.goto 15, 3) := dk_167 0 15 (dk_at dksX1_year_8 5 rfl rfl)
theorem dX1_year_194 : decode cX1_year 194 = .ok (.iload_n 3, 1) := dk_29 (dk_at dksX1_year_8 8 rfl rfl)
theorem dX1_year_195 : decode cX1_year 195 = .ok (.iconst 1, 1) := dk_4 (dk_at dksX1_year_8 9 rfl rfl)
theorem dX1_year_196 : decode cX1_year 196 = .ok (.if_icmp .ne 8, 3) := dk_160 0 8 (dk_at dksX1_year_8 10 rfl rfl)
theorem dX1_year_199 : decode cX1_year 199 = .ok (.iload 5, 2) := dk_21 5 (dk_at dksX1_year_8 13 rfl rfl)
theorem dX1_year_201 : decode cX1_year 201 = .ok (.goto 5, 3) := dk_167 0 5 (dk_at dksX1_year_8 15 rfl rfl)
theorem dX1_year_204 : decode cX1_year 204 = .ok (.iload 6, 2) := dk_21 6 (dk_at dksX1_year_8 18 rfl rfl)
theorem dX1_year_206 : decode cX1_year 206 = .ok (.ireturn, 1) := dk_172 (dk_at dksX1_year_8 20 rfl rfl)
abbrev cX1_draw : ByteArray := prog_1_method_48_code
def yX1_draw : MethodName := ⟨RX1, "draw", "(I)I"⟩
def dkwX1_draw_1 : List UInt8 := [17, 127, 255, 126, 27, 112, 172]
abbrev dktX1_draw_1 : List UInt8 := dkwX1_draw_1 ++ []
def dkwX1_draw_0 : List UInt8 := [42, 42, 180, 1, 94, 19, 1, 97, 104, 17, 48, 57, 96, 181, 1, 94, 42, 180, 1, 94, 16, 16, 122]
abbrev dktX1_draw_0 : List UInt8 := dkwX1_draw_0 ++ dktX1_draw_1
theorem dksX1_draw_0 : cX1_draw.data.toList.drop 0 = dktX1_draw_0 := by decide +kernel
theorem dksX1_draw_1 : cX1_draw.data.toList.drop 23 = dktX1_draw_1 := dk_seg dksX1_draw_0 23 rfl rfl
theorem dX1_draw_0 : decode cX1_draw 0 = .ok (.aload_n 0, 1) := dk_42 (dk_at dksX1_draw_0 0 rfl rfl)
theorem dX1_draw_1 : decode cX1_draw 1 = .ok (.aload_n 0, 1) := dk_42 (dk_at dksX1_draw_0 1 rfl rfl)
theorem dX1_draw_2 : decode cX1_draw 2 = .ok (.getfield 350, 3) := dk_180 1 94 (dk_at dksX1_draw_0 2 rfl rfl)
theorem dX1_draw_5 : decode cX1_draw 5 = .ok (.ldc_w 353, 3) := dk_19 1 97 (dk_at dksX1_draw_0 5 rfl rfl)
theorem dX1_draw_8 : decode cX1_draw 8 = .ok (.imul, 1) := dk_104 (dk_at dksX1_draw_0 8 rfl rfl)
theorem dX1_draw_9 : decode cX1_draw 9 = .ok (.sipush 12345, 3) := dk_17 48 57 (dk_at dksX1_draw_0 9 rfl rfl)
theorem dX1_draw_12 : decode cX1_draw 12 = .ok (.iadd, 1) := dk_96 (dk_at dksX1_draw_0 12 rfl rfl)
theorem dX1_draw_13 : decode cX1_draw 13 = .ok (.putfield 350, 3) := dk_181 1 94 (dk_at dksX1_draw_0 13 rfl rfl)
theorem dX1_draw_16 : decode cX1_draw 16 = .ok (.aload_n 0, 1) := dk_42 (dk_at dksX1_draw_0 16 rfl rfl)
theorem dX1_draw_17 : decode cX1_draw 17 = .ok (.getfield 350, 3) := dk_180 1 94 (dk_at dksX1_draw_0 17 rfl rfl)
theorem dX1_draw_20 : decode cX1_draw 20 = .ok (.bipush 16, 2) := dk_16 16 (dk_at dksX1_draw_0 20 rfl rfl)
theorem dX1_draw_22 : decode cX1_draw 22 = .ok (.ishr, 1) := dk_122 (dk_at dksX1_draw_0 22 rfl rfl)
theorem dX1_draw_23 : decode cX1_draw 23 = .ok (.sipush 32767, 3) := dk_17 127 255 (dk_at dksX1_draw_1 0 rfl rfl)
theorem dX1_draw_26 : decode cX1_draw 26 = .ok (.iand, 1) := dk_126 (dk_at dksX1_draw_1 3 rfl rfl)
theorem dX1_draw_27 : decode cX1_draw 27 = .ok (.iload_n 1, 1) := dk_27 (dk_at dksX1_draw_1 4 rfl rfl)
theorem dX1_draw_28 : decode cX1_draw 28 = .ok (.irem, 1) := dk_112 (dk_at dksX1_draw_1 5 rfl rfl)
theorem dX1_draw_29 : decode cX1_draw 29 = .ok (.ireturn, 1) := dk_172 (dk_at dksX1_draw_1 6 rfl rfl)
/-! SpoonRowLaw: codes (from claim/names) -/
abbrev cX0_bed : ByteArray := method_3_code
def yX0_bed : MethodName := ⟨RX0, "bed", "(LSpoonRow;I[J)I"⟩
def dkwX0_bed_0 : List UInt8 := [44, 3, 42, 27, 182, 0, 7, 133, 80, 167, 0, 6, 78, 4, 172, 3, 172]
abbrev dktX0_bed_0 : List UInt8 := dkwX0_bed_0 ++ []
theorem dksX0_bed_0 : cX0_bed.data.toList.drop 0 = dktX0_bed_0 := by decide +kernel
theorem dX0_bed_0 : decode cX0_bed 0 = .ok (.aload_n 2, 1) := dk_44 (dk_at dksX0_bed_0 0 rfl rfl)
theorem dX0_bed_1 : decode cX0_bed 1 = .ok (.iconst 0, 1) := dk_3 (dk_at dksX0_bed_0 1 rfl rfl)
theorem dX0_bed_2 : decode cX0_bed 2 = .ok (.aload_n 0, 1) := dk_42 (dk_at dksX0_bed_0 2 rfl rfl)
theorem dX0_bed_3 : decode cX0_bed 3 = .ok (.iload_n 1, 1) := dk_27 (dk_at dksX0_bed_0 3 rfl rfl)
theorem dX0_bed_4 : decode cX0_bed 4 = .ok (.invokevirtual 7, 3) := dk_182 0 7 (dk_at dksX0_bed_0 4 rfl rfl)
theorem dX0_bed_7 : decode cX0_bed 7 = .ok (.i2l, 1) := dk_133 (dk_at dksX0_bed_0 7 rfl rfl)
theorem dX0_bed_8 : decode cX0_bed 8 = .ok (.lastore, 1) := dk_80 (dk_at dksX0_bed_0 8 rfl rfl)
theorem dX0_bed_9 : decode cX0_bed 9 = .ok (.goto 6, 3) := dk_167 0 6 (dk_at dksX0_bed_0 9 rfl rfl)
theorem dX0_bed_12 : decode cX0_bed 12 = .ok (.astore_n 3, 1) := dk_78 (dk_at dksX0_bed_0 12 rfl rfl)
theorem dX0_bed_13 : decode cX0_bed 13 = .ok (.iconst 1, 1) := dk_4 (dk_at dksX0_bed_0 13 rfl rfl)
theorem dX0_bed_14 : decode cX0_bed 14 = .ok (.ireturn, 1) := dk_172 (dk_at dksX0_bed_0 14 rfl rfl)
theorem dX0_bed_15 : decode cX0_bed 15 = .ok (.iconst 0, 1) := dk_3 (dk_at dksX0_bed_0 15 rfl rfl)
theorem dX0_bed_16 : decode cX0_bed 16 = .ok (.ireturn, 1) := dk_172 (dk_at dksX0_bed_0 16 rfl rfl)
abbrev cX0_count : ByteArray := method_4_code
def yX0_count : MethodName := ⟨RX0, "count", "(LSpoonRow;I[J)I"⟩
def dkwX0_count_0 : List UInt8 := [44, 3, 42, 27, 182, 0, 15, 133, 80, 167, 0, 6, 78, 4, 172, 3, 172]
abbrev dktX0_count_0 : List UInt8 := dkwX0_count_0 ++ []
theorem dksX0_count_0 : cX0_count.data.toList.drop 0 = dktX0_count_0 := by decide +kernel
theorem dX0_count_0 : decode cX0_count 0 = .ok (.aload_n 2, 1) := dk_44 (dk_at dksX0_count_0 0 rfl rfl)
theorem dX0_count_1 : decode cX0_count 1 = .ok (.iconst 0, 1) := dk_3 (dk_at dksX0_count_0 1 rfl rfl)
theorem dX0_count_2 : decode cX0_count 2 = .ok (.aload_n 0, 1) := dk_42 (dk_at dksX0_count_0 2 rfl rfl)
theorem dX0_count_3 : decode cX0_count 3 = .ok (.iload_n 1, 1) := dk_27 (dk_at dksX0_count_0 3 rfl rfl)
theorem dX0_count_4 : decode cX0_count 4 = .ok (.invokevirtual 15, 3) := dk_182 0 15 (dk_at dksX0_count_0 4 rfl rfl)
theorem dX0_count_7 : decode cX0_count 7 = .ok (.i2l, 1) := dk_133 (dk_at dksX0_count_0 7 rfl rfl)
theorem dX0_count_8 : decode cX0_count 8 = .ok (.lastore, 1) := dk_80 (dk_at dksX0_count_0 8 rfl rfl)
theorem dX0_count_9 : decode cX0_count 9 = .ok (.goto 6, 3) := dk_167 0 6 (dk_at dksX0_count_0 9 rfl rfl)
theorem dX0_count_12 : decode cX0_count 12 = .ok (.astore_n 3, 1) := dk_78 (dk_at dksX0_count_0 12 rfl rfl)
theorem dX0_count_13 : decode cX0_count 13 = .ok (.iconst 1, 1) := dk_4 (dk_at dksX0_count_0 13 rfl rfl)
theorem dX0_count_14 : decode cX0_count 14 = .ok (.ireturn, 1) := dk_172 (dk_at dksX0_count_0 14 rfl rfl)
theorem dX0_count_15 : decode cX0_count 15 = .ok (.iconst 0, 1) := dk_3 (dk_at dksX0_count_0 15 rfl rfl)
theorem dX0_count_16 : decode cX0_count 16 = .ok (.ireturn, 1) := dk_172 (dk_at dksX0_count_0 16 rfl rfl)
abbrev cX0_sleeper : ByteArray := method_5_code
def yX0_sleeper : MethodName := ⟨RX0, "sleeper", "(LSpoonRow;II[J)I"⟩
def dkwX0_sleeper_0 : List UInt8 := [45, 3, 42, 27, 28, 182, 0, 20, 133, 80, 167, 0, 7, 58, 4, 4, 172, 3, 172]
abbrev dktX0_sleeper_0 : List UInt8 := dkwX0_sleeper_0 ++ []
theorem dksX0_sleeper_0 : cX0_sleeper.data.toList.drop 0 = dktX0_sleeper_0 := by decide +kernel
theorem dX0_sleeper_0 : decode cX0_sleeper 0 = .ok (.aload_n 3, 1) := dk_45 (dk_at dksX0_sleeper_0 0 rfl rfl)
theorem dX0_sleeper_1 : decode cX0_sleeper 1 = .ok (.iconst 0, 1) := dk_3 (dk_at dksX0_sleeper_0 1 rfl rfl)
theorem dX0_sleeper_2 : decode cX0_sleeper 2 = .ok (.aload_n 0, 1) := dk_42 (dk_at dksX0_sleeper_0 2 rfl rfl)
theorem dX0_sleeper_3 : decode cX0_sleeper 3 = .ok (.iload_n 1, 1) := dk_27 (dk_at dksX0_sleeper_0 3 rfl rfl)
theorem dX0_sleeper_4 : decode cX0_sleeper 4 = .ok (.iload_n 2, 1) := dk_28 (dk_at dksX0_sleeper_0 4 rfl rfl)
theorem dX0_sleeper_5 : decode cX0_sleeper 5 = .ok (.invokevirtual 20, 3) := dk_182 0 20 (dk_at dksX0_sleeper_0 5 rfl rfl)
theorem dX0_sleeper_8 : decode cX0_sleeper 8 = .ok (.i2l, 1) := dk_133 (dk_at dksX0_sleeper_0 8 rfl rfl)
theorem dX0_sleeper_9 : decode cX0_sleeper 9 = .ok (.lastore, 1) := dk_80 (dk_at dksX0_sleeper_0 9 rfl rfl)
theorem dX0_sleeper_10 : decode cX0_sleeper 10 = .ok (.goto 7, 3) := dk_167 0 7 (dk_at dksX0_sleeper_0 10 rfl rfl)
theorem dX0_sleeper_13 : decode cX0_sleeper 13 = .ok (.astore 4, 2) := dk_58 4 (dk_at dksX0_sleeper_0 13 rfl rfl)
theorem dX0_sleeper_15 : decode cX0_sleeper 15 = .ok (.iconst 1, 1) := dk_4 (dk_at dksX0_sleeper_0 15 rfl rfl)
theorem dX0_sleeper_16 : decode cX0_sleeper 16 = .ok (.ireturn, 1) := dk_172 (dk_at dksX0_sleeper_0 16 rfl rfl)
theorem dX0_sleeper_17 : decode cX0_sleeper 17 = .ok (.iconst 0, 1) := dk_3 (dk_at dksX0_sleeper_0 17 rfl rfl)
theorem dX0_sleeper_18 : decode cX0_sleeper 18 = .ok (.ireturn, 1) := dk_172 (dk_at dksX0_sleeper_0 18 rfl rfl)
abbrev cX0_word : ByteArray := method_6_code
def yX0_word : MethodName := ⟨RX0, "word", "(LSpoonRow;II[J)I"⟩
def dkwX0_word_0 : List UInt8 := [45, 3, 42, 27, 28, 182, 0, 24, 133, 80, 167, 0, 7, 58, 4, 4, 172, 3, 172]
abbrev dktX0_word_0 : List UInt8 := dkwX0_word_0 ++ []
theorem dksX0_word_0 : cX0_word.data.toList.drop 0 = dktX0_word_0 := by decide +kernel
theorem dX0_word_0 : decode cX0_word 0 = .ok (.aload_n 3, 1) := dk_45 (dk_at dksX0_word_0 0 rfl rfl)
theorem dX0_word_1 : decode cX0_word 1 = .ok (.iconst 0, 1) := dk_3 (dk_at dksX0_word_0 1 rfl rfl)
theorem dX0_word_2 : decode cX0_word 2 = .ok (.aload_n 0, 1) := dk_42 (dk_at dksX0_word_0 2 rfl rfl)
theorem dX0_word_3 : decode cX0_word 3 = .ok (.iload_n 1, 1) := dk_27 (dk_at dksX0_word_0 3 rfl rfl)
theorem dX0_word_4 : decode cX0_word 4 = .ok (.iload_n 2, 1) := dk_28 (dk_at dksX0_word_0 4 rfl rfl)
theorem dX0_word_5 : decode cX0_word 5 = .ok (.invokevirtual 24, 3) := dk_182 0 24 (dk_at dksX0_word_0 5 rfl rfl)
theorem dX0_word_8 : decode cX0_word 8 = .ok (.i2l, 1) := dk_133 (dk_at dksX0_word_0 8 rfl rfl)
theorem dX0_word_9 : decode cX0_word 9 = .ok (.lastore, 1) := dk_80 (dk_at dksX0_word_0 9 rfl rfl)
theorem dX0_word_10 : decode cX0_word 10 = .ok (.goto 7, 3) := dk_167 0 7 (dk_at dksX0_word_0 10 rfl rfl)
theorem dX0_word_13 : decode cX0_word 13 = .ok (.astore 4, 2) := dk_58 4 (dk_at dksX0_word_0 13 rfl rfl)
theorem dX0_word_15 : decode cX0_word 15 = .ok (.iconst 1, 1) := dk_4 (dk_at dksX0_word_0 15 rfl rfl)
theorem dX0_word_16 : decode cX0_word 16 = .ok (.ireturn, 1) := dk_172 (dk_at dksX0_word_0 16 rfl rfl)
theorem dX0_word_17 : decode cX0_word 17 = .ok (.iconst 0, 1) := dk_3 (dk_at dksX0_word_0 17 rfl rfl)
theorem dX0_word_18 : decode cX0_word 18 = .ok (.ireturn, 1) := dk_172 (dk_at dksX0_word_0 18 rfl rfl)
abbrev cX0_out : ByteArray := method_7_code
def yX0_out : MethodName := ⟨RX0, "out", "(LSpoonRow;II[J)I"⟩
def dkwX0_out_0 : List UInt8 := [45, 3, 42, 27, 28, 182, 0, 27, 133, 80, 167, 0, 7, 58, 4, 4, 172, 3, 172]
abbrev dktX0_out_0 : List UInt8 := dkwX0_out_0 ++ []
theorem dksX0_out_0 : cX0_out.data.toList.drop 0 = dktX0_out_0 := by decide +kernel
theorem dX0_out_0 : decode cX0_out 0 = .ok (.aload_n 3, 1) := dk_45 (dk_at dksX0_out_0 0 rfl rfl)
theorem dX0_out_1 : decode cX0_out 1 = .ok (.iconst 0, 1) := dk_3 (dk_at dksX0_out_0 1 rfl rfl)
theorem dX0_out_2 : decode cX0_out 2 = .ok (.aload_n 0, 1) := dk_42 (dk_at dksX0_out_0 2 rfl rfl)
theorem dX0_out_3 : decode cX0_out 3 = .ok (.iload_n 1, 1) := dk_27 (dk_at dksX0_out_0 3 rfl rfl)
theorem dX0_out_4 : decode cX0_out 4 = .ok (.iload_n 2, 1) := dk_28 (dk_at dksX0_out_0 4 rfl rfl)
theorem dX0_out_5 : decode cX0_out 5 = .ok (.invokevirtual 27, 3) := dk_182 0 27 (dk_at dksX0_out_0 5 rfl rfl)
theorem dX0_out_8 : decode cX0_out 8 = .ok (.i2l, 1) := dk_133 (dk_at dksX0_out_0 8 rfl rfl)
theorem dX0_out_9 : decode cX0_out 9 = .ok (.lastore, 1) := dk_80 (dk_at dksX0_out_0 9 rfl rfl)
theorem dX0_out_10 : decode cX0_out 10 = .ok (.goto 7, 3) := dk_167 0 7 (dk_at dksX0_out_0 10 rfl rfl)
theorem dX0_out_13 : decode cX0_out 13 = .ok (.astore 4, 2) := dk_58 4 (dk_at dksX0_out_0 13 rfl rfl)
theorem dX0_out_15 : decode cX0_out 15 = .ok (.iconst 1, 1) := dk_4 (dk_at dksX0_out_0 15 rfl rfl)
theorem dX0_out_16 : decode cX0_out 16 = .ok (.ireturn, 1) := dk_172 (dk_at dksX0_out_0 16 rfl rfl)
theorem dX0_out_17 : decode cX0_out 17 = .ok (.iconst 0, 1) := dk_3 (dk_at dksX0_out_0 17 rfl rfl)
theorem dX0_out_18 : decode cX0_out 18 = .ok (.ireturn, 1) := dk_172 (dk_at dksX0_out_0 18 rfl rfl)
abbrev cX0_night : ByteArray := method_8_code
def yX0_night : MethodName := ⟨RX0, "night", "(LSpoonRow;I[J)I"⟩
def dkwX0_night_0 : List UInt8 := [44, 3, 42, 27, 182, 0, 30, 133, 80, 167, 0, 6, 78, 4, 172, 3, 172]
abbrev dktX0_night_0 : List UInt8 := dkwX0_night_0 ++ []
theorem dksX0_night_0 : cX0_night.data.toList.drop 0 = dktX0_night_0 := by decide +kernel
theorem dX0_night_0 : decode cX0_night 0 = .ok (.aload_n 2, 1) := dk_44 (dk_at dksX0_night_0 0 rfl rfl)
theorem dX0_night_1 : decode cX0_night 1 = .ok (.iconst 0, 1) := dk_3 (dk_at dksX0_night_0 1 rfl rfl)
theorem dX0_night_2 : decode cX0_night 2 = .ok (.aload_n 0, 1) := dk_42 (dk_at dksX0_night_0 2 rfl rfl)
theorem dX0_night_3 : decode cX0_night 3 = .ok (.iload_n 1, 1) := dk_27 (dk_at dksX0_night_0 3 rfl rfl)
theorem dX0_night_4 : decode cX0_night 4 = .ok (.invokevirtual 30, 3) := dk_182 0 30 (dk_at dksX0_night_0 4 rfl rfl)
theorem dX0_night_7 : decode cX0_night 7 = .ok (.i2l, 1) := dk_133 (dk_at dksX0_night_0 7 rfl rfl)
theorem dX0_night_8 : decode cX0_night 8 = .ok (.lastore, 1) := dk_80 (dk_at dksX0_night_0 8 rfl rfl)
theorem dX0_night_9 : decode cX0_night 9 = .ok (.goto 6, 3) := dk_167 0 6 (dk_at dksX0_night_0 9 rfl rfl)
theorem dX0_night_12 : decode cX0_night 12 = .ok (.astore_n 3, 1) := dk_78 (dk_at dksX0_night_0 12 rfl rfl)
theorem dX0_night_13 : decode cX0_night 13 = .ok (.iconst 1, 1) := dk_4 (dk_at dksX0_night_0 13 rfl rfl)
theorem dX0_night_14 : decode cX0_night 14 = .ok (.ireturn, 1) := dk_172 (dk_at dksX0_night_0 14 rfl rfl)
theorem dX0_night_15 : decode cX0_night 15 = .ok (.iconst 0, 1) := dk_3 (dk_at dksX0_night_0 15 rfl rfl)
theorem dX0_night_16 : decode cX0_night 16 = .ok (.ireturn, 1) := dk_172 (dk_at dksX0_night_0 16 rfl rfl)
abbrev cX0_woken : ByteArray := method_9_code
def yX0_woken : MethodName := ⟨RX0, "woken", "(LSpoonRow;II[J)I"⟩
def dkwX0_woken_0 : List UInt8 := [45, 3, 42, 27, 28, 182, 0, 33, 133, 80, 167, 0, 7, 58, 4, 4, 172, 3, 172]
abbrev dktX0_woken_0 : List UInt8 := dkwX0_woken_0 ++ []
theorem dksX0_woken_0 : cX0_woken.data.toList.drop 0 = dktX0_woken_0 := by decide +kernel
theorem dX0_woken_0 : decode cX0_woken 0 = .ok (.aload_n 3, 1) := dk_45 (dk_at dksX0_woken_0 0 rfl rfl)
theorem dX0_woken_1 : decode cX0_woken 1 = .ok (.iconst 0, 1) := dk_3 (dk_at dksX0_woken_0 1 rfl rfl)
theorem dX0_woken_2 : decode cX0_woken 2 = .ok (.aload_n 0, 1) := dk_42 (dk_at dksX0_woken_0 2 rfl rfl)
theorem dX0_woken_3 : decode cX0_woken 3 = .ok (.iload_n 1, 1) := dk_27 (dk_at dksX0_woken_0 3 rfl rfl)
theorem dX0_woken_4 : decode cX0_woken 4 = .ok (.iload_n 2, 1) := dk_28 (dk_at dksX0_woken_0 4 rfl rfl)
theorem dX0_woken_5 : decode cX0_woken 5 = .ok (.invokevirtual 33, 3) := dk_182 0 33 (dk_at dksX0_woken_0 5 rfl rfl)
theorem dX0_woken_8 : decode cX0_woken 8 = .ok (.i2l, 1) := dk_133 (dk_at dksX0_woken_0 8 rfl rfl)
theorem dX0_woken_9 : decode cX0_woken 9 = .ok (.lastore, 1) := dk_80 (dk_at dksX0_woken_0 9 rfl rfl)
theorem dX0_woken_10 : decode cX0_woken 10 = .ok (.goto 7, 3) := dk_167 0 7 (dk_at dksX0_woken_0 10 rfl rfl)
theorem dX0_woken_13 : decode cX0_woken 13 = .ok (.astore 4, 2) := dk_58 4 (dk_at dksX0_woken_0 13 rfl rfl)
theorem dX0_woken_15 : decode cX0_woken 15 = .ok (.iconst 1, 1) := dk_4 (dk_at dksX0_woken_0 15 rfl rfl)
theorem dX0_woken_16 : decode cX0_woken 16 = .ok (.ireturn, 1) := dk_172 (dk_at dksX0_woken_0 16 rfl rfl)
theorem dX0_woken_17 : decode cX0_woken 17 = .ok (.iconst 0, 1) := dk_3 (dk_at dksX0_woken_0 17 rfl rfl)
theorem dX0_woken_18 : decode cX0_woken 18 = .ok (.ireturn, 1) := dk_172 (dk_at dksX0_woken_0 18 rfl rfl)
abbrev cX0_lies : ByteArray := method_10_code
def yX0_lies : MethodName := ⟨RX0, "lies", "(LSpoonRow;III[J)I"⟩
def dkwX0_lies_1 : List UInt8 := [172]
abbrev dktX0_lies_1 : List UInt8 := dkwX0_lies_1 ++ []
def dkwX0_lies_0 : List UInt8 := [25, 4, 3, 42, 27, 28, 29, 182, 0, 36, 133, 80, 167, 0, 11, 58, 5, 4, 172, 58, 5, 5, 172, 3]
abbrev dktX0_lies_0 : List UInt8 := dkwX0_lies_0 ++ dktX0_lies_1
theorem dksX0_lies_0 : cX0_lies.data.toList.drop 0 = dktX0_lies_0 := by decide +kernel
theorem dksX0_lies_1 : cX0_lies.data.toList.drop 24 = dktX0_lies_1 := dk_seg dksX0_lies_0 24 rfl rfl
theorem dX0_lies_0 : decode cX0_lies 0 = .ok (.aload 4, 2) := dk_25 4 (dk_at dksX0_lies_0 0 rfl rfl)
theorem dX0_lies_2 : decode cX0_lies 2 = .ok (.iconst 0, 1) := dk_3 (dk_at dksX0_lies_0 2 rfl rfl)
theorem dX0_lies_3 : decode cX0_lies 3 = .ok (.aload_n 0, 1) := dk_42 (dk_at dksX0_lies_0 3 rfl rfl)
theorem dX0_lies_4 : decode cX0_lies 4 = .ok (.iload_n 1, 1) := dk_27 (dk_at dksX0_lies_0 4 rfl rfl)
theorem dX0_lies_5 : decode cX0_lies 5 = .ok (.iload_n 2, 1) := dk_28 (dk_at dksX0_lies_0 5 rfl rfl)
theorem dX0_lies_6 : decode cX0_lies 6 = .ok (.iload_n 3, 1) := dk_29 (dk_at dksX0_lies_0 6 rfl rfl)
theorem dX0_lies_7 : decode cX0_lies 7 = .ok (.invokevirtual 36, 3) := dk_182 0 36 (dk_at dksX0_lies_0 7 rfl rfl)
theorem dX0_lies_10 : decode cX0_lies 10 = .ok (.i2l, 1) := dk_133 (dk_at dksX0_lies_0 10 rfl rfl)
theorem dX0_lies_11 : decode cX0_lies 11 = .ok (.lastore, 1) := dk_80 (dk_at dksX0_lies_0 11 rfl rfl)
theorem dX0_lies_12 : decode cX0_lies 12 = .ok (.goto 11, 3) := dk_167 0 11 (dk_at dksX0_lies_0 12 rfl rfl)
theorem dX0_lies_15 : decode cX0_lies 15 = .ok (.astore 5, 2) := dk_58 5 (dk_at dksX0_lies_0 15 rfl rfl)
theorem dX0_lies_17 : decode cX0_lies 17 = .ok (.iconst 1, 1) := dk_4 (dk_at dksX0_lies_0 17 rfl rfl)
theorem dX0_lies_18 : decode cX0_lies 18 = .ok (.ireturn, 1) := dk_172 (dk_at dksX0_lies_0 18 rfl rfl)
theorem dX0_lies_19 : decode cX0_lies 19 = .ok (.astore 5, 2) := dk_58 5 (dk_at dksX0_lies_0 19 rfl rfl)
theorem dX0_lies_21 : decode cX0_lies 21 = .ok (.iconst 2, 1) := dk_5 (dk_at dksX0_lies_0 21 rfl rfl)
theorem dX0_lies_22 : decode cX0_lies 22 = .ok (.ireturn, 1) := dk_172 (dk_at dksX0_lies_0 22 rfl rfl)
theorem dX0_lies_23 : decode cX0_lies 23 = .ok (.iconst 0, 1) := dk_3 (dk_at dksX0_lies_0 23 rfl rfl)
theorem dX0_lies_24 : decode cX0_lies 24 = .ok (.ireturn, 1) := dk_172 (dk_at dksX0_lies_1 0 rfl rfl)
abbrev cX0_turn : ByteArray := method_11_code
def yX0_turn : MethodName := ⟨RX0, "turn", "(LSpoonRow;II[J)I"⟩
def dkwX0_turn_0 : List UInt8 := [45, 3, 42, 27, 28, 182, 0, 40, 133, 80, 167, 0, 7, 58, 4, 4, 172, 3, 172]
abbrev dktX0_turn_0 : List UInt8 := dkwX0_turn_0 ++ []
theorem dksX0_turn_0 : cX0_turn.data.toList.drop 0 = dktX0_turn_0 := by decide +kernel
theorem dX0_turn_0 : decode cX0_turn 0 = .ok (.aload_n 3, 1) := dk_45 (dk_at dksX0_turn_0 0 rfl rfl)
theorem dX0_turn_1 : decode cX0_turn 1 = .ok (.iconst 0, 1) := dk_3 (dk_at dksX0_turn_0 1 rfl rfl)
theorem dX0_turn_2 : decode cX0_turn 2 = .ok (.aload_n 0, 1) := dk_42 (dk_at dksX0_turn_0 2 rfl rfl)
theorem dX0_turn_3 : decode cX0_turn 3 = .ok (.iload_n 1, 1) := dk_27 (dk_at dksX0_turn_0 3 rfl rfl)
theorem dX0_turn_4 : decode cX0_turn 4 = .ok (.iload_n 2, 1) := dk_28 (dk_at dksX0_turn_0 4 rfl rfl)
theorem dX0_turn_5 : decode cX0_turn 5 = .ok (.invokevirtual 40, 3) := dk_182 0 40 (dk_at dksX0_turn_0 5 rfl rfl)
theorem dX0_turn_8 : decode cX0_turn 8 = .ok (.i2l, 1) := dk_133 (dk_at dksX0_turn_0 8 rfl rfl)
theorem dX0_turn_9 : decode cX0_turn 9 = .ok (.lastore, 1) := dk_80 (dk_at dksX0_turn_0 9 rfl rfl)
theorem dX0_turn_10 : decode cX0_turn 10 = .ok (.goto 7, 3) := dk_167 0 7 (dk_at dksX0_turn_0 10 rfl rfl)
theorem dX0_turn_13 : decode cX0_turn 13 = .ok (.astore 4, 2) := dk_58 4 (dk_at dksX0_turn_0 13 rfl rfl)
theorem dX0_turn_15 : decode cX0_turn 15 = .ok (.iconst 1, 1) := dk_4 (dk_at dksX0_turn_0 15 rfl rfl)
theorem dX0_turn_16 : decode cX0_turn 16 = .ok (.ireturn, 1) := dk_172 (dk_at dksX0_turn_0 16 rfl rfl)
theorem dX0_turn_17 : decode cX0_turn 17 = .ok (.iconst 0, 1) := dk_3 (dk_at dksX0_turn_0 17 rfl rfl)
theorem dX0_turn_18 : decode cX0_turn 18 = .ok (.ireturn, 1) := dk_172 (dk_at dksX0_turn_0 18 rfl rfl)
abbrev cX0_kept : ByteArray := method_12_code
def yX0_kept : MethodName := ⟨RX0, "kept", "(LSpoonRow;I[J)I"⟩
def dkwX0_kept_0 : List UInt8 := [44, 3, 42, 27, 182, 0, 43, 133, 80, 167, 0, 6, 78, 4, 172, 3, 172]
abbrev dktX0_kept_0 : List UInt8 := dkwX0_kept_0 ++ []
theorem dksX0_kept_0 : cX0_kept.data.toList.drop 0 = dktX0_kept_0 := by decide +kernel
theorem dX0_kept_0 : decode cX0_kept 0 = .ok (.aload_n 2, 1) := dk_44 (dk_at dksX0_kept_0 0 rfl rfl)
theorem dX0_kept_1 : decode cX0_kept 1 = .ok (.iconst 0, 1) := dk_3 (dk_at dksX0_kept_0 1 rfl rfl)
theorem dX0_kept_2 : decode cX0_kept 2 = .ok (.aload_n 0, 1) := dk_42 (dk_at dksX0_kept_0 2 rfl rfl)
theorem dX0_kept_3 : decode cX0_kept 3 = .ok (.iload_n 1, 1) := dk_27 (dk_at dksX0_kept_0 3 rfl rfl)
theorem dX0_kept_4 : decode cX0_kept 4 = .ok (.invokevirtual 43, 3) := dk_182 0 43 (dk_at dksX0_kept_0 4 rfl rfl)
theorem dX0_kept_7 : decode cX0_kept 7 = .ok (.i2l, 1) := dk_133 (dk_at dksX0_kept_0 7 rfl rfl)
theorem dX0_kept_8 : decode cX0_kept 8 = .ok (.lastore, 1) := dk_80 (dk_at dksX0_kept_0 8 rfl rfl)
theorem dX0_kept_9 : decode cX0_kept 9 = .ok (.goto 6, 3) := dk_167 0 6 (dk_at dksX0_kept_0 9 rfl rfl)
theorem dX0_kept_12 : decode cX0_kept 12 = .ok (.astore_n 3, 1) := dk_78 (dk_at dksX0_kept_0 12 rfl rfl)
theorem dX0_kept_13 : decode cX0_kept 13 = .ok (.iconst 1, 1) := dk_4 (dk_at dksX0_kept_0 13 rfl rfl)
theorem dX0_kept_14 : decode cX0_kept 14 = .ok (.ireturn, 1) := dk_172 (dk_at dksX0_kept_0 14 rfl rfl)
theorem dX0_kept_15 : decode cX0_kept 15 = .ok (.iconst 0, 1) := dk_3 (dk_at dksX0_kept_0 15 rfl rfl)
theorem dX0_kept_16 : decode cX0_kept 16 = .ok (.ireturn, 1) := dk_172 (dk_at dksX0_kept_0 16 rfl rfl)
abbrev cX0_every : ByteArray := method_13_code
def yX0_every : MethodName := ⟨RX0, "every", "(LSpoonRow;II[J)I"⟩
def dkwX0_every_0 : List UInt8 := [45, 3, 42, 27, 28, 182, 0, 46, 133, 80, 167, 0, 11, 58, 4, 4, 172, 58, 4, 5, 172, 3, 172]
abbrev dktX0_every_0 : List UInt8 := dkwX0_every_0 ++ []
theorem dksX0_every_0 : cX0_every.data.toList.drop 0 = dktX0_every_0 := by decide +kernel
theorem dX0_every_0 : decode cX0_every 0 = .ok (.aload_n 3, 1) := dk_45 (dk_at dksX0_every_0 0 rfl rfl)
theorem dX0_every_1 : decode cX0_every 1 = .ok (.iconst 0, 1) := dk_3 (dk_at dksX0_every_0 1 rfl rfl)
theorem dX0_every_2 : decode cX0_every 2 = .ok (.aload_n 0, 1) := dk_42 (dk_at dksX0_every_0 2 rfl rfl)
theorem dX0_every_3 : decode cX0_every 3 = .ok (.iload_n 1, 1) := dk_27 (dk_at dksX0_every_0 3 rfl rfl)
theorem dX0_every_4 : decode cX0_every 4 = .ok (.iload_n 2, 1) := dk_28 (dk_at dksX0_every_0 4 rfl rfl)
theorem dX0_every_5 : decode cX0_every 5 = .ok (.invokevirtual 46, 3) := dk_182 0 46 (dk_at dksX0_every_0 5 rfl rfl)
theorem dX0_every_8 : decode cX0_every 8 = .ok (.i2l, 1) := dk_133 (dk_at dksX0_every_0 8 rfl rfl)
theorem dX0_every_9 : decode cX0_every 9 = .ok (.lastore, 1) := dk_80 (dk_at dksX0_every_0 9 rfl rfl)
theorem dX0_every_10 : decode cX0_every 10 = .ok (.goto 11, 3) := dk_167 0 11 (dk_at dksX0_every_0 10 rfl rfl)
theorem dX0_every_13 : decode cX0_every 13 = .ok (.astore 4, 2) := dk_58 4 (dk_at dksX0_every_0 13 rfl rfl)
theorem dX0_every_15 : decode cX0_every 15 = .ok (.iconst 1, 1) := dk_4 (dk_at dksX0_every_0 15 rfl rfl)
theorem dX0_every_16 : decode cX0_every 16 = .ok (.ireturn, 1) := dk_172 (dk_at dksX0_every_0 16 rfl rfl)
theorem dX0_every_17 : decode cX0_every 17 = .ok (.astore 4, 2) := dk_58 4 (dk_at dksX0_every_0 17 rfl rfl)
theorem dX0_every_19 : decode cX0_every 19 = .ok (.iconst 2, 1) := dk_5 (dk_at dksX0_every_0 19 rfl rfl)
theorem dX0_every_20 : decode cX0_every 20 = .ok (.ireturn, 1) := dk_172 (dk_at dksX0_every_0 20 rfl rfl)
theorem dX0_every_21 : decode cX0_every 21 = .ok (.iconst 0, 1) := dk_3 (dk_at dksX0_every_0 21 rfl rfl)
theorem dX0_every_22 : decode cX0_every 22 = .ok (.ireturn, 1) := dk_172 (dk_at dksX0_every_0 22 rfl rfl)
abbrev cX0_bolsters : ByteArray := method_14_code
def yX0_bolsters : MethodName := ⟨RX0, "bolsters", "(LSpoonRow;I[J)I"⟩
def dkwX0_bolsters_0 : List UInt8 := [44, 3, 42, 27, 182, 0, 49, 133, 80, 167, 0, 6, 78, 4, 172, 3, 172]
abbrev dktX0_bolsters_0 : List UInt8 := dkwX0_bolsters_0 ++ []
theorem dksX0_bolsters_0 : cX0_bolsters.data.toList.drop 0 = dktX0_bolsters_0 := by decide +kernel
theorem dX0_bolsters_0 : decode cX0_bolsters 0 = .ok (.aload_n 2, 1) := dk_44 (dk_at dksX0_bolsters_0 0 rfl rfl)
theorem dX0_bolsters_1 : decode cX0_bolsters 1 = .ok (.iconst 0, 1) := dk_3 (dk_at dksX0_bolsters_0 1 rfl rfl)
theorem dX0_bolsters_2 : decode cX0_bolsters 2 = .ok (.aload_n 0, 1) := dk_42 (dk_at dksX0_bolsters_0 2 rfl rfl)
theorem dX0_bolsters_3 : decode cX0_bolsters 3 = .ok (.iload_n 1, 1) := dk_27 (dk_at dksX0_bolsters_0 3 rfl rfl)
theorem dX0_bolsters_4 : decode cX0_bolsters 4 = .ok (.invokevirtual 49, 3) := dk_182 0 49 (dk_at dksX0_bolsters_0 4 rfl rfl)
theorem dX0_bolsters_7 : decode cX0_bolsters 7 = .ok (.i2l, 1) := dk_133 (dk_at dksX0_bolsters_0 7 rfl rfl)
theorem dX0_bolsters_8 : decode cX0_bolsters 8 = .ok (.lastore, 1) := dk_80 (dk_at dksX0_bolsters_0 8 rfl rfl)
theorem dX0_bolsters_9 : decode cX0_bolsters 9 = .ok (.goto 6, 3) := dk_167 0 6 (dk_at dksX0_bolsters_0 9 rfl rfl)
theorem dX0_bolsters_12 : decode cX0_bolsters 12 = .ok (.astore_n 3, 1) := dk_78 (dk_at dksX0_bolsters_0 12 rfl rfl)
theorem dX0_bolsters_13 : decode cX0_bolsters 13 = .ok (.iconst 1, 1) := dk_4 (dk_at dksX0_bolsters_0 13 rfl rfl)
theorem dX0_bolsters_14 : decode cX0_bolsters 14 = .ok (.ireturn, 1) := dk_172 (dk_at dksX0_bolsters_0 14 rfl rfl)
theorem dX0_bolsters_15 : decode cX0_bolsters 15 = .ok (.iconst 0, 1) := dk_3 (dk_at dksX0_bolsters_0 15 rfl rfl)
theorem dX0_bolsters_16 : decode cX0_bolsters 16 = .ok (.ireturn, 1) := dk_172 (dk_at dksX0_bolsters_0 16 rfl rfl)
abbrev cX0_free : ByteArray := method_15_code
def yX0_free : MethodName := ⟨RX0, "free", "(LSpoonRow;I[J)I"⟩
def dkwX0_free_0 : List UInt8 := [44, 3, 42, 27, 182, 0, 52, 133, 80, 167, 0, 6, 78, 4, 172, 3, 172]
abbrev dktX0_free_0 : List UInt8 := dkwX0_free_0 ++ []
theorem dksX0_free_0 : cX0_free.data.toList.drop 0 = dktX0_free_0 := by decide +kernel
theorem dX0_free_0 : decode cX0_free 0 = .ok (.aload_n 2, 1) := dk_44 (dk_at dksX0_free_0 0 rfl rfl)
theorem dX0_free_1 : decode cX0_free 1 = .ok (.iconst 0, 1) := dk_3 (dk_at dksX0_free_0 1 rfl rfl)
theorem dX0_free_2 : decode cX0_free 2 = .ok (.aload_n 0, 1) := dk_42 (dk_at dksX0_free_0 2 rfl rfl)
theorem dX0_free_3 : decode cX0_free 3 = .ok (.iload_n 1, 1) := dk_27 (dk_at dksX0_free_0 3 rfl rfl)
theorem dX0_free_4 : decode cX0_free 4 = .ok (.invokevirtual 52, 3) := dk_182 0 52 (dk_at dksX0_free_0 4 rfl rfl)
theorem dX0_free_7 : decode cX0_free 7 = .ok (.i2l, 1) := dk_133 (dk_at dksX0_free_0 7 rfl rfl)
theorem dX0_free_8 : decode cX0_free 8 = .ok (.lastore, 1) := dk_80 (dk_at dksX0_free_0 8 rfl rfl)
theorem dX0_free_9 : decode cX0_free 9 = .ok (.goto 6, 3) := dk_167 0 6 (dk_at dksX0_free_0 9 rfl rfl)
theorem dX0_free_12 : decode cX0_free 12 = .ok (.astore_n 3, 1) := dk_78 (dk_at dksX0_free_0 12 rfl rfl)
theorem dX0_free_13 : decode cX0_free 13 = .ok (.iconst 1, 1) := dk_4 (dk_at dksX0_free_0 13 rfl rfl)
theorem dX0_free_14 : decode cX0_free 14 = .ok (.ireturn, 1) := dk_172 (dk_at dksX0_free_0 14 rfl rfl)
theorem dX0_free_15 : decode cX0_free 15 = .ok (.iconst 0, 1) := dk_3 (dk_at dksX0_free_0 15 rfl rfl)
theorem dX0_free_16 : decode cX0_free 16 = .ok (.ireturn, 1) := dk_172 (dk_at dksX0_free_0 16 rfl rfl)
abbrev cX0_outs : ByteArray := method_16_code
def yX0_outs : MethodName := ⟨RX0, "outs", "(LSpoonRow;I[J)I"⟩
def dkwX0_outs_0 : List UInt8 := [44, 3, 42, 27, 182, 0, 55, 133, 80, 167, 0, 6, 78, 4, 172, 3, 172]
abbrev dktX0_outs_0 : List UInt8 := dkwX0_outs_0 ++ []
theorem dksX0_outs_0 : cX0_outs.data.toList.drop 0 = dktX0_outs_0 := by decide +kernel
theorem dX0_outs_0 : decode cX0_outs 0 = .ok (.aload_n 2, 1) := dk_44 (dk_at dksX0_outs_0 0 rfl rfl)
theorem dX0_outs_1 : decode cX0_outs 1 = .ok (.iconst 0, 1) := dk_3 (dk_at dksX0_outs_0 1 rfl rfl)
theorem dX0_outs_2 : decode cX0_outs 2 = .ok (.aload_n 0, 1) := dk_42 (dk_at dksX0_outs_0 2 rfl rfl)
theorem dX0_outs_3 : decode cX0_outs 3 = .ok (.iload_n 1, 1) := dk_27 (dk_at dksX0_outs_0 3 rfl rfl)
theorem dX0_outs_4 : decode cX0_outs 4 = .ok (.invokevirtual 55, 3) := dk_182 0 55 (dk_at dksX0_outs_0 4 rfl rfl)
theorem dX0_outs_7 : decode cX0_outs 7 = .ok (.i2l, 1) := dk_133 (dk_at dksX0_outs_0 7 rfl rfl)
theorem dX0_outs_8 : decode cX0_outs 8 = .ok (.lastore, 1) := dk_80 (dk_at dksX0_outs_0 8 rfl rfl)
theorem dX0_outs_9 : decode cX0_outs 9 = .ok (.goto 6, 3) := dk_167 0 6 (dk_at dksX0_outs_0 9 rfl rfl)
theorem dX0_outs_12 : decode cX0_outs 12 = .ok (.astore_n 3, 1) := dk_78 (dk_at dksX0_outs_0 12 rfl rfl)
theorem dX0_outs_13 : decode cX0_outs 13 = .ok (.iconst 1, 1) := dk_4 (dk_at dksX0_outs_0 13 rfl rfl)
theorem dX0_outs_14 : decode cX0_outs 14 = .ok (.ireturn, 1) := dk_172 (dk_at dksX0_outs_0 14 rfl rfl)
theorem dX0_outs_15 : decode cX0_outs 15 = .ok (.iconst 0, 1) := dk_3 (dk_at dksX0_outs_0 15 rfl rfl)
theorem dX0_outs_16 : decode cX0_outs 16 = .ok (.ireturn, 1) := dk_172 (dk_at dksX0_outs_0 16 rfl rfl)
abbrev cX0_fair : ByteArray := method_17_code
def yX0_fair : MethodName := ⟨RX0, "fair", "(LSpoonRow;II[J)I"⟩
def dkwX0_fair_0 : List UInt8 := [45, 3, 42, 27, 28, 182, 0, 58, 133, 80, 167, 0, 11, 58, 4, 4, 172, 58, 4, 5, 172, 3, 172]
abbrev dktX0_fair_0 : List UInt8 := dkwX0_fair_0 ++ []
theorem dksX0_fair_0 : cX0_fair.data.toList.drop 0 = dktX0_fair_0 := by decide +kernel
theorem dX0_fair_0 : decode cX0_fair 0 = .ok (.aload_n 3, 1) := dk_45 (dk_at dksX0_fair_0 0 rfl rfl)
theorem dX0_fair_1 : decode cX0_fair 1 = .ok (.iconst 0, 1) := dk_3 (dk_at dksX0_fair_0 1 rfl rfl)
theorem dX0_fair_2 : decode cX0_fair 2 = .ok (.aload_n 0, 1) := dk_42 (dk_at dksX0_fair_0 2 rfl rfl)
theorem dX0_fair_3 : decode cX0_fair 3 = .ok (.iload_n 1, 1) := dk_27 (dk_at dksX0_fair_0 3 rfl rfl)
theorem dX0_fair_4 : decode cX0_fair 4 = .ok (.iload_n 2, 1) := dk_28 (dk_at dksX0_fair_0 4 rfl rfl)
theorem dX0_fair_5 : decode cX0_fair 5 = .ok (.invokevirtual 58, 3) := dk_182 0 58 (dk_at dksX0_fair_0 5 rfl rfl)
theorem dX0_fair_8 : decode cX0_fair 8 = .ok (.i2l, 1) := dk_133 (dk_at dksX0_fair_0 8 rfl rfl)
theorem dX0_fair_9 : decode cX0_fair 9 = .ok (.lastore, 1) := dk_80 (dk_at dksX0_fair_0 9 rfl rfl)
theorem dX0_fair_10 : decode cX0_fair 10 = .ok (.goto 11, 3) := dk_167 0 11 (dk_at dksX0_fair_0 10 rfl rfl)
theorem dX0_fair_13 : decode cX0_fair 13 = .ok (.astore 4, 2) := dk_58 4 (dk_at dksX0_fair_0 13 rfl rfl)
theorem dX0_fair_15 : decode cX0_fair 15 = .ok (.iconst 1, 1) := dk_4 (dk_at dksX0_fair_0 15 rfl rfl)
theorem dX0_fair_16 : decode cX0_fair 16 = .ok (.ireturn, 1) := dk_172 (dk_at dksX0_fair_0 16 rfl rfl)
theorem dX0_fair_17 : decode cX0_fair 17 = .ok (.astore 4, 2) := dk_58 4 (dk_at dksX0_fair_0 17 rfl rfl)
theorem dX0_fair_19 : decode cX0_fair 19 = .ok (.iconst 2, 1) := dk_5 (dk_at dksX0_fair_0 19 rfl rfl)
theorem dX0_fair_20 : decode cX0_fair 20 = .ok (.ireturn, 1) := dk_172 (dk_at dksX0_fair_0 20 rfl rfl)
theorem dX0_fair_21 : decode cX0_fair 21 = .ok (.iconst 0, 1) := dk_3 (dk_at dksX0_fair_0 21 rfl rfl)
theorem dX0_fair_22 : decode cX0_fair 22 = .ok (.ireturn, 1) := dk_172 (dk_at dksX0_fair_0 22 rfl rfl)
abbrev cX0_see : ByteArray := method_18_code
def yX0_see : MethodName := ⟨RX0, "see", "(LSpoonRow;III[J)I"⟩
def dkwX0_see_0 : List UInt8 := [25, 4, 3, 42, 27, 28, 29, 182, 0, 61, 133, 80, 167, 0, 7, 58, 5, 4, 172, 3, 172]
abbrev dktX0_see_0 : List UInt8 := dkwX0_see_0 ++ []
theorem dksX0_see_0 : cX0_see.data.toList.drop 0 = dktX0_see_0 := by decide +kernel
theorem dX0_see_0 : decode cX0_see 0 = .ok (.aload 4, 2) := dk_25 4 (dk_at dksX0_see_0 0 rfl rfl)
theorem dX0_see_2 : decode cX0_see 2 = .ok (.iconst 0, 1) := dk_3 (dk_at dksX0_see_0 2 rfl rfl)
theorem dX0_see_3 : decode cX0_see 3 = .ok (.aload_n 0, 1) := dk_42 (dk_at dksX0_see_0 3 rfl rfl)
theorem dX0_see_4 : decode cX0_see 4 = .ok (.iload_n 1, 1) := dk_27 (dk_at dksX0_see_0 4 rfl rfl)
theorem dX0_see_5 : decode cX0_see 5 = .ok (.iload_n 2, 1) := dk_28 (dk_at dksX0_see_0 5 rfl rfl)
theorem dX0_see_6 : decode cX0_see 6 = .ok (.iload_n 3, 1) := dk_29 (dk_at dksX0_see_0 6 rfl rfl)
theorem dX0_see_7 : decode cX0_see 7 = .ok (.invokevirtual 61, 3) := dk_182 0 61 (dk_at dksX0_see_0 7 rfl rfl)
theorem dX0_see_10 : decode cX0_see 10 = .ok (.i2l, 1) := dk_133 (dk_at dksX0_see_0 10 rfl rfl)
theorem dX0_see_11 : decode cX0_see 11 = .ok (.lastore, 1) := dk_80 (dk_at dksX0_see_0 11 rfl rfl)
theorem dX0_see_12 : decode cX0_see 12 = .ok (.goto 7, 3) := dk_167 0 7 (dk_at dksX0_see_0 12 rfl rfl)
theorem dX0_see_15 : decode cX0_see 15 = .ok (.astore 5, 2) := dk_58 5 (dk_at dksX0_see_0 15 rfl rfl)
theorem dX0_see_17 : decode cX0_see 17 = .ok (.iconst 1, 1) := dk_4 (dk_at dksX0_see_0 17 rfl rfl)
theorem dX0_see_18 : decode cX0_see 18 = .ok (.ireturn, 1) := dk_172 (dk_at dksX0_see_0 18 rfl rfl)
theorem dX0_see_19 : decode cX0_see 19 = .ok (.iconst 0, 1) := dk_3 (dk_at dksX0_see_0 19 rfl rfl)
theorem dX0_see_20 : decode cX0_see 20 = .ok (.ireturn, 1) := dk_172 (dk_at dksX0_see_0 20 rfl rfl)
abbrev cX0_fits : ByteArray := method_19_code
def yX0_fits : MethodName := ⟨RX0, "fits", "(LSpoonRow;I[J)I"⟩
def dkwX0_fits_0 : List UInt8 := [44, 3, 42, 27, 182, 0, 64, 133, 80, 167, 0, 6, 78, 4, 172, 3, 172]
abbrev dktX0_fits_0 : List UInt8 := dkwX0_fits_0 ++ []
theorem dksX0_fits_0 : cX0_fits.data.toList.drop 0 = dktX0_fits_0 := by decide +kernel
theorem dX0_fits_0 : decode cX0_fits 0 = .ok (.aload_n 2, 1) := dk_44 (dk_at dksX0_fits_0 0 rfl rfl)
theorem dX0_fits_1 : decode cX0_fits 1 = .ok (.iconst 0, 1) := dk_3 (dk_at dksX0_fits_0 1 rfl rfl)
theorem dX0_fits_2 : decode cX0_fits 2 = .ok (.aload_n 0, 1) := dk_42 (dk_at dksX0_fits_0 2 rfl rfl)
theorem dX0_fits_3 : decode cX0_fits 3 = .ok (.iload_n 1, 1) := dk_27 (dk_at dksX0_fits_0 3 rfl rfl)
theorem dX0_fits_4 : decode cX0_fits 4 = .ok (.invokevirtual 64, 3) := dk_182 0 64 (dk_at dksX0_fits_0 4 rfl rfl)
theorem dX0_fits_7 : decode cX0_fits 7 = .ok (.i2l, 1) := dk_133 (dk_at dksX0_fits_0 7 rfl rfl)
theorem dX0_fits_8 : decode cX0_fits 8 = .ok (.lastore, 1) := dk_80 (dk_at dksX0_fits_0 8 rfl rfl)
theorem dX0_fits_9 : decode cX0_fits 9 = .ok (.goto 6, 3) := dk_167 0 6 (dk_at dksX0_fits_0 9 rfl rfl)
theorem dX0_fits_12 : decode cX0_fits 12 = .ok (.astore_n 3, 1) := dk_78 (dk_at dksX0_fits_0 12 rfl rfl)
theorem dX0_fits_13 : decode cX0_fits 13 = .ok (.iconst 1, 1) := dk_4 (dk_at dksX0_fits_0 13 rfl rfl)
theorem dX0_fits_14 : decode cX0_fits 14 = .ok (.ireturn, 1) := dk_172 (dk_at dksX0_fits_0 14 rfl rfl)
theorem dX0_fits_15 : decode cX0_fits 15 = .ok (.iconst 0, 1) := dk_3 (dk_at dksX0_fits_0 15 rfl rfl)
theorem dX0_fits_16 : decode cX0_fits 16 = .ok (.ireturn, 1) := dk_172 (dk_at dksX0_fits_0 16 rfl rfl)
abbrev cX0_without : ByteArray := method_20_code
def yX0_without : MethodName := ⟨RX0, "without", "(LSpoonRow;I[J)I"⟩
def dkwX0_without_0 : List UInt8 := [44, 3, 42, 27, 182, 0, 67, 133, 80, 167, 0, 6, 78, 4, 172, 3, 172]
abbrev dktX0_without_0 : List UInt8 := dkwX0_without_0 ++ []
theorem dksX0_without_0 : cX0_without.data.toList.drop 0 = dktX0_without_0 := by decide +kernel
theorem dX0_without_0 : decode cX0_without 0 = .ok (.aload_n 2, 1) := dk_44 (dk_at dksX0_without_0 0 rfl rfl)
theorem dX0_without_1 : decode cX0_without 1 = .ok (.iconst 0, 1) := dk_3 (dk_at dksX0_without_0 1 rfl rfl)
theorem dX0_without_2 : decode cX0_without 2 = .ok (.aload_n 0, 1) := dk_42 (dk_at dksX0_without_0 2 rfl rfl)
theorem dX0_without_3 : decode cX0_without 3 = .ok (.iload_n 1, 1) := dk_27 (dk_at dksX0_without_0 3 rfl rfl)
theorem dX0_without_4 : decode cX0_without 4 = .ok (.invokevirtual 67, 3) := dk_182 0 67 (dk_at dksX0_without_0 4 rfl rfl)
theorem dX0_without_7 : decode cX0_without 7 = .ok (.i2l, 1) := dk_133 (dk_at dksX0_without_0 7 rfl rfl)
theorem dX0_without_8 : decode cX0_without 8 = .ok (.lastore, 1) := dk_80 (dk_at dksX0_without_0 8 rfl rfl)
theorem dX0_without_9 : decode cX0_without 9 = .ok (.goto 6, 3) := dk_167 0 6 (dk_at dksX0_without_0 9 rfl rfl)
theorem dX0_without_12 : decode cX0_without 12 = .ok (.astore_n 3, 1) := dk_78 (dk_at dksX0_without_0 12 rfl rfl)
theorem dX0_without_13 : decode cX0_without 13 = .ok (.iconst 1, 1) := dk_4 (dk_at dksX0_without_0 13 rfl rfl)
theorem dX0_without_14 : decode cX0_without 14 = .ok (.ireturn, 1) := dk_172 (dk_at dksX0_without_0 14 rfl rfl)
theorem dX0_without_15 : decode cX0_without 15 = .ok (.iconst 0, 1) := dk_3 (dk_at dksX0_without_0 15 rfl rfl)
theorem dX0_without_16 : decode cX0_without 16 = .ok (.ireturn, 1) := dk_172 (dk_at dksX0_without_0 16 rfl rfl)
abbrev cX0_year : ByteArray := method_21_code
def yX0_year : MethodName := ⟨RX0, "year", "(LSpoonRow;III[J)I"⟩
def dkwX0_year_1 : List UInt8 := [172]
abbrev dktX0_year_1 : List UInt8 := dkwX0_year_1 ++ []
def dkwX0_year_0 : List UInt8 := [25, 4, 3, 42, 27, 28, 29, 182, 0, 70, 133, 80, 167, 0, 11, 58, 5, 4, 172, 58, 5, 5, 172, 3]
abbrev dktX0_year_0 : List UInt8 := dkwX0_year_0 ++ dktX0_year_1
theorem dksX0_year_0 : cX0_year.data.toList.drop 0 = dktX0_year_0 := by decide +kernel
theorem dksX0_year_1 : cX0_year.data.toList.drop 24 = dktX0_year_1 := dk_seg dksX0_year_0 24 rfl rfl
theorem dX0_year_0 : decode cX0_year 0 = .ok (.aload 4, 2) := dk_25 4 (dk_at dksX0_year_0 0 rfl rfl)
theorem dX0_year_2 : decode cX0_year 2 = .ok (.iconst 0, 1) := dk_3 (dk_at dksX0_year_0 2 rfl rfl)
theorem dX0_year_3 : decode cX0_year 3 = .ok (.aload_n 0, 1) := dk_42 (dk_at dksX0_year_0 3 rfl rfl)
theorem dX0_year_4 : decode cX0_year 4 = .ok (.iload_n 1, 1) := dk_27 (dk_at dksX0_year_0 4 rfl rfl)
theorem dX0_year_5 : decode cX0_year 5 = .ok (.iload_n 2, 1) := dk_28 (dk_at dksX0_year_0 5 rfl rfl)
theorem dX0_year_6 : decode cX0_year 6 = .ok (.iload_n 3, 1) := dk_29 (dk_at dksX0_year_0 6 rfl rfl)
theorem dX0_year_7 : decode cX0_year 7 = .ok (.invokevirtual 70, 3) := dk_182 0 70 (dk_at dksX0_year_0 7 rfl rfl)
theorem dX0_year_10 : decode cX0_year 10 = .ok (.i2l, 1) := dk_133 (dk_at dksX0_year_0 10 rfl rfl)
theorem dX0_year_11 : decode cX0_year 11 = .ok (.lastore, 1) := dk_80 (dk_at dksX0_year_0 11 rfl rfl)
theorem dX0_year_12 : decode cX0_year 12 = .ok (.goto 11, 3) := dk_167 0 11 (dk_at dksX0_year_0 12 rfl rfl)
theorem dX0_year_15 : decode cX0_year 15 = .ok (.astore 5, 2) := dk_58 5 (dk_at dksX0_year_0 15 rfl rfl)
theorem dX0_year_17 : decode cX0_year 17 = .ok (.iconst 1, 1) := dk_4 (dk_at dksX0_year_0 17 rfl rfl)
theorem dX0_year_18 : decode cX0_year 18 = .ok (.ireturn, 1) := dk_172 (dk_at dksX0_year_0 18 rfl rfl)
theorem dX0_year_19 : decode cX0_year 19 = .ok (.astore 5, 2) := dk_58 5 (dk_at dksX0_year_0 19 rfl rfl)
theorem dX0_year_21 : decode cX0_year 21 = .ok (.iconst 2, 1) := dk_5 (dk_at dksX0_year_0 21 rfl rfl)
theorem dX0_year_22 : decode cX0_year 22 = .ok (.ireturn, 1) := dk_172 (dk_at dksX0_year_0 22 rfl rfl)
theorem dX0_year_23 : decode cX0_year 23 = .ok (.iconst 0, 1) := dk_3 (dk_at dksX0_year_0 23 rfl rfl)
theorem dX0_year_24 : decode cX0_year 24 = .ok (.ireturn, 1) := dk_172 (dk_at dksX0_year_1 0 rfl rfl)
