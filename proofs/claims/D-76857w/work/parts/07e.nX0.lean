set_option maxRecDepth 100000
abbrev cX0_init : ByteArray := prog_1_method_2_code
def yX0_init : MethodName := ⟨RX0, "<init>", "()V"⟩
def dkwX0_init_12 : List UInt8 := [183, 0, 113, 187, 0, 107, 89, 42, 186, 0, 121, 0, 0, 183, 0, 113, 184, 0, 122, 181, 0, 128, 177]
abbrev dktX0_init_12 : List UInt8 := dkwX0_init_12 ++ []
def dkwX0_init_11 : List UInt8 := [187, 0, 107, 89, 42, 186, 0, 119, 0, 0, 183, 0, 113, 187, 0, 107, 89, 42, 186, 0, 120, 0, 0]
abbrev dktX0_init_11 : List UInt8 := dkwX0_init_11 ++ dktX0_init_12
def dkwX0_init_10 : List UInt8 := [89, 42, 186, 0, 117, 0, 0, 183, 0, 113, 187, 0, 107, 89, 42, 186, 0, 118, 0, 0, 183, 0, 113]
abbrev dktX0_init_10 : List UInt8 := dkwX0_init_10 ++ dktX0_init_11
def dkwX0_init_9 : List UInt8 := [186, 0, 109, 0, 0, 183, 0, 113, 187, 0, 107, 89, 42, 186, 0, 116, 0, 0, 183, 0, 113, 187, 0, 107]
abbrev dktX0_init_9 : List UInt8 := dkwX0_init_9 ++ dktX0_init_10
def dkwX0_init_8 : List UInt8 := [16, 9, 188, 10, 181, 0, 101, 42, 16, 9, 188, 10, 181, 0, 104, 42, 187, 0, 107, 89, 42]
abbrev dktX0_init_8 : List UInt8 := dkwX0_init_8 ++ dktX0_init_9
def dkwX0_init_7 : List UInt8 := [89, 183, 0, 21, 181, 0, 92, 42, 16, 24, 188, 10, 181, 0, 95, 42, 16, 8, 188, 10, 181, 0, 98, 42]
abbrev dktX0_init_7 : List UInt8 := dkwX0_init_7 ++ dktX0_init_8
def dkwX0_init_6 : List UInt8 := [16, 8, 188, 10, 181, 0, 82, 42, 187, 0, 85, 89, 16, 8, 183, 0, 87, 181, 0, 88, 42, 187, 0, 19]
abbrev dktX0_init_6 : List UInt8 := dkwX0_init_6 ++ dktX0_init_7
def dkwX0_init_5 : List UInt8 := [181, 0, 72, 42, 187, 0, 26, 89, 183, 0, 28, 181, 0, 76, 42, 16, 64, 188, 10, 181, 0, 79, 42]
abbrev dktX0_init_5 : List UInt8 := dkwX0_init_5 ++ dktX0_init_6
def dkwX0_init_4 : List UInt8 := [188, 10, 181, 0, 58, 42, 187, 0, 61, 89, 42, 183, 0, 63, 181, 0, 66, 42, 7, 189, 0, 70]
abbrev dktX0_init_4 : List UInt8 := dkwX0_init_4 ++ dktX0_init_5
def dkwX0_init_3 : List UInt8 := [181, 0, 45, 42, 18, 49, 181, 0, 51, 42, 187, 0, 19, 89, 183, 0, 21, 181, 0, 55, 42, 16, 8]
abbrev dktX0_init_3 : List UInt8 := dkwX0_init_3 ++ dktX0_init_4
def dkwX0_init_2 : List UInt8 := [183, 0, 28, 181, 0, 33, 42, 187, 0, 36, 89, 16, 14, 183, 0, 38, 181, 0, 41, 42, 16, 120, 188, 8]
abbrev dktX0_init_2 : List UInt8 := dkwX0_init_2 ++ dktX0_init_3
def dkwX0_init_1 : List UInt8 := [183, 0, 21, 181, 0, 22, 42, 187, 0, 26, 89, 183, 0, 28, 181, 0, 29, 42, 187, 0, 26, 89]
abbrev dktX0_init_1 : List UInt8 := dkwX0_init_1 ++ dktX0_init_2
def dkwX0_init_0 : List UInt8 := [42, 183, 0, 3, 42, 5, 181, 0, 11, 42, 16, 8, 188, 10, 181, 0, 15, 42, 187, 0, 19, 89]
abbrev dktX0_init_0 : List UInt8 := dkwX0_init_0 ++ dktX0_init_1
theorem dksX0_init_0 : cX0_init.data.toList.drop 0 = dktX0_init_0 := by decide +kernel
theorem dksX0_init_1 : cX0_init.data.toList.drop 22 = dktX0_init_1 := dk_seg dksX0_init_0 22 rfl rfl
theorem dksX0_init_2 : cX0_init.data.toList.drop 44 = dktX0_init_2 := dk_seg dksX0_init_1 22 rfl rfl
theorem dksX0_init_3 : cX0_init.data.toList.drop 68 = dktX0_init_3 := dk_seg dksX0_init_2 24 rfl rfl
theorem dksX0_init_4 : cX0_init.data.toList.drop 91 = dktX0_init_4 := dk_seg dksX0_init_3 23 rfl rfl
theorem dksX0_init_5 : cX0_init.data.toList.drop 113 = dktX0_init_5 := dk_seg dksX0_init_4 22 rfl rfl
theorem dksX0_init_6 : cX0_init.data.toList.drop 136 = dktX0_init_6 := dk_seg dksX0_init_5 23 rfl rfl
theorem dksX0_init_7 : cX0_init.data.toList.drop 160 = dktX0_init_7 := dk_seg dksX0_init_6 24 rfl rfl
theorem dksX0_init_8 : cX0_init.data.toList.drop 184 = dktX0_init_8 := dk_seg dksX0_init_7 24 rfl rfl
theorem dksX0_init_9 : cX0_init.data.toList.drop 205 = dktX0_init_9 := dk_seg dksX0_init_8 21 rfl rfl
theorem dksX0_init_10 : cX0_init.data.toList.drop 229 = dktX0_init_10 := dk_seg dksX0_init_9 24 rfl rfl
theorem dksX0_init_11 : cX0_init.data.toList.drop 252 = dktX0_init_11 := dk_seg dksX0_init_10 23 rfl rfl
theorem dksX0_init_12 : cX0_init.data.toList.drop 275 = dktX0_init_12 := dk_seg dksX0_init_11 23 rfl rfl
theorem dX0_init_0 : decode cX0_init 0 = .ok (.aload_n 0, 1) := dk_42 (dk_at dksX0_init_0 0 rfl rfl)
theorem dX0_init_1 : decode cX0_init 1 = .ok (.invokespecial 3, 3) := dk_183 0 3 (dk_at dksX0_init_0 1 rfl rfl)
theorem dX0_init_4 : decode cX0_init 4 = .ok (.aload_n 0, 1) := dk_42 (dk_at dksX0_init_0 4 rfl rfl)
theorem dX0_init_5 : decode cX0_init 5 = .ok (.iconst 2, 1) := dk_5 (dk_at dksX0_init_0 5 rfl rfl)
theorem dX0_init_6 : decode cX0_init 6 = .ok (.putfield 11, 3) := dk_181 0 11 (dk_at dksX0_init_0 6 rfl rfl)
theorem dX0_init_9 : decode cX0_init 9 = .ok (.aload_n 0, 1) := dk_42 (dk_at dksX0_init_0 9 rfl rfl)
theorem dX0_init_10 : decode cX0_init 10 = .ok (.bipush 8, 2) := dk_16 8 (dk_at dksX0_init_0 10 rfl rfl)
theorem dX0_init_12 : decode cX0_init 12 = .ok (.newarray .int, 2) := dk_188_10 (dk_at dksX0_init_0 12 rfl rfl)
theorem dX0_init_14 : decode cX0_init 14 = .ok (.putfield 15, 3) := dk_181 0 15 (dk_at dksX0_init_0 14 rfl rfl)
theorem dX0_init_17 : decode cX0_init 17 = .ok (.aload_n 0, 1) := dk_42 (dk_at dksX0_init_0 17 rfl rfl)
theorem dX0_init_18 : decode cX0_init 18 = .ok (.new 19, 3) := dk_187 0 19 (dk_at dksX0_init_0 18 rfl rfl)
theorem dX0_init_21 : decode cX0_init 21 = .ok (.dup, 1) := dk_89 (dk_at dksX0_init_0 21 rfl rfl)
theorem dX0_init_22 : decode cX0_init 22 = .ok (.invokespecial 21, 3) := dk_183 0 21 (dk_at dksX0_init_1 0 rfl rfl)
theorem dX0_init_25 : decode cX0_init 25 = .ok (.putfield 22, 3) := dk_181 0 22 (dk_at dksX0_init_1 3 rfl rfl)
theorem dX0_init_28 : decode cX0_init 28 = .ok (.aload_n 0, 1) := dk_42 (dk_at dksX0_init_1 6 rfl rfl)
theorem dX0_init_29 : decode cX0_init 29 = .ok (.new 26, 3) := dk_187 0 26 (dk_at dksX0_init_1 7 rfl rfl)
theorem dX0_init_32 : decode cX0_init 32 = .ok (.dup, 1) := dk_89 (dk_at dksX0_init_1 10 rfl rfl)
theorem dX0_init_33 : decode cX0_init 33 = .ok (.invokespecial 28, 3) := dk_183 0 28 (dk_at dksX0_init_1 11 rfl rfl)
theorem dX0_init_36 : decode cX0_init 36 = .ok (.putfield 29, 3) := dk_181 0 29 (dk_at dksX0_init_1 14 rfl rfl)
theorem dX0_init_39 : decode cX0_init 39 = .ok (.aload_n 0, 1) := dk_42 (dk_at dksX0_init_1 17 rfl rfl)
theorem dX0_init_40 : decode cX0_init 40 = .ok (.new 26, 3) := dk_187 0 26 (dk_at dksX0_init_1 18 rfl rfl)
theorem dX0_init_43 : decode cX0_init 43 = .ok (.dup, 1) := dk_89 (dk_at dksX0_init_1 21 rfl rfl)
theorem dX0_init_44 : decode cX0_init 44 = .ok (.invokespecial 28, 3) := dk_183 0 28 (dk_at dksX0_init_2 0 rfl rfl)
theorem dX0_init_47 : decode cX0_init 47 = .ok (.putfield 33, 3) := dk_181 0 33 (dk_at dksX0_init_2 3 rfl rfl)
theorem dX0_init_50 : decode cX0_init 50 = .ok (.aload_n 0, 1) := dk_42 (dk_at dksX0_init_2 6 rfl rfl)
theorem dX0_init_51 : decode cX0_init 51 = .ok (.new 36, 3) := dk_187 0 36 (dk_at dksX0_init_2 7 rfl rfl)
theorem dX0_init_54 : decode cX0_init 54 = .ok (.dup, 1) := dk_89 (dk_at dksX0_init_2 10 rfl rfl)
theorem dX0_init_55 : decode cX0_init 55 = .ok (.bipush 14, 2) := dk_16 14 (dk_at dksX0_init_2 11 rfl rfl)
theorem dX0_init_57 : decode cX0_init 57 = .ok (.invokespecial 38, 3) := dk_183 0 38 (dk_at dksX0_init_2 13 rfl rfl)
theorem dX0_init_60 : decode cX0_init 60 = .ok (.putfield 41, 3) := dk_181 0 41 (dk_at dksX0_init_2 16 rfl rfl)
theorem dX0_init_63 : decode cX0_init 63 = .ok (.aload_n 0, 1) := dk_42 (dk_at dksX0_init_2 19 rfl rfl)
theorem dX0_init_64 : decode cX0_init 64 = .ok (.bipush 120, 2) := dk_16 120 (dk_at dksX0_init_2 20 rfl rfl)
theorem dX0_init_66 : decode cX0_init 66 = .ok (.newarray .byte, 2) := dk_188_8 (dk_at dksX0_init_2 22 rfl rfl)
theorem dX0_init_68 : decode cX0_init 68 = .ok (.putfield 45, 3) := dk_181 0 45 (dk_at dksX0_init_3 0 rfl rfl)
theorem dX0_init_71 : decode cX0_init 71 = .ok (.aload_n 0, 1) := dk_42 (dk_at dksX0_init_3 3 rfl rfl)
theorem dX0_init_72 : decode cX0_init 72 = .ok (.ldc 49, 2) := dk_18 49 (dk_at dksX0_init_3 4 rfl rfl)
theorem dX0_init_74 : decode cX0_init 74 = .ok (.putfield 51, 3) := dk_181 0 51 (dk_at dksX0_init_3 6 rfl rfl)
theorem dX0_init_77 : decode cX0_init 77 = .ok (.aload_n 0, 1) := dk_42 (dk_at dksX0_init_3 9 rfl rfl)
theorem dX0_init_78 : decode cX0_init 78 = .ok (.new 19, 3) := dk_187 0 19 (dk_at dksX0_init_3 10 rfl rfl)
theorem dX0_init_81 : decode cX0_init 81 = .ok (.dup, 1) := dk_89 (dk_at dksX0_init_3 13 rfl rfl)
theorem dX0_init_82 : decode cX0_init 82 = .ok (.invokespecial 21, 3) := dk_183 0 21 (dk_at dksX0_init_3 14 rfl rfl)
theorem dX0_init_85 : decode cX0_init 85 = .ok (.putfield 55, 3) := dk_181 0 55 (dk_at dksX0_init_3 17 rfl rfl)
theorem dX0_init_88 : decode cX0_init 88 = .ok (.aload_n 0, 1) := dk_42 (dk_at dksX0_init_3 20 rfl rfl)
theorem dX0_init_89 : decode cX0_init 89 = .ok (.bipush 8, 2) := dk_16 8 (dk_at dksX0_init_3 21 rfl rfl)
theorem dX0_init_91 : decode cX0_init 91 = .ok (.newarray .int, 2) := dk_188_10 (dk_at dksX0_init_4 0 rfl rfl)
theorem dX0_init_93 : decode cX0_init 93 = .ok (.putfield 58, 3) := dk_181 0 58 (dk_at dksX0_init_4 2 rfl rfl)
theorem dX0_init_96 : decode cX0_init 96 = .ok (.aload_n 0, 1) := dk_42 (dk_at dksX0_init_4 5 rfl rfl)
theorem dX0_init_97 : decode cX0_init 97 = .ok (.new 61, 3) := dk_187 0 61 (dk_at dksX0_init_4 6 rfl rfl)
theorem dX0_init_100 : decode cX0_init 100 = .ok (.dup, 1) := dk_89 (dk_at dksX0_init_4 9 rfl rfl)
theorem dX0_init_101 : decode cX0_init 101 = .ok (.aload_n 0, 1) := dk_42 (dk_at dksX0_init_4 10 rfl rfl)
theorem dX0_init_102 : decode cX0_init 102 = .ok (.invokespecial 63, 3) := dk_183 0 63 (dk_at dksX0_init_4 11 rfl rfl)
theorem dX0_init_105 : decode cX0_init 105 = .ok (.putfield 66, 3) := dk_181 0 66 (dk_at dksX0_init_4 14 rfl rfl)
theorem dX0_init_108 : decode cX0_init 108 = .ok (.aload_n 0, 1) := dk_42 (dk_at dksX0_init_4 17 rfl rfl)
theorem dX0_init_109 : decode cX0_init 109 = .ok (.iconst 4, 1) := dk_7 (dk_at dksX0_init_4 18 rfl rfl)
theorem dX0_init_110 : decode cX0_init 110 = .ok (.anewarray 70, 3) := dk_189 0 70 (dk_at dksX0_init_4 19 rfl rfl)
theorem dX0_init_113 : decode cX0_init 113 = .ok (.putfield 72, 3) := dk_181 0 72 (dk_at dksX0_init_5 0 rfl rfl)
theorem dX0_init_116 : decode cX0_init 116 = .ok (.aload_n 0, 1) := dk_42 (dk_at dksX0_init_5 3 rfl rfl)
theorem dX0_init_117 : decode cX0_init 117 = .ok (.new 26, 3) := dk_187 0 26 (dk_at dksX0_init_5 4 rfl rfl)
theorem dX0_init_120 : decode cX0_init 120 = .ok (.dup, 1) := dk_89 (dk_at dksX0_init_5 7 rfl rfl)
theorem dX0_init_121 : decode cX0_init 121 = .ok (.invokespecial 28, 3) := dk_183 0 28 (dk_at dksX0_init_5 8 rfl rfl)
theorem dX0_init_124 : decode cX0_init 124 = .ok (.putfield 76, 3) := dk_181 0 76 (dk_at dksX0_init_5 11 rfl rfl)
theorem dX0_init_127 : decode cX0_init 127 = .ok (.aload_n 0, 1) := dk_42 (dk_at dksX0_init_5 14 rfl rfl)
theorem dX0_init_128 : decode cX0_init 128 = .ok (.bipush 64, 2) := dk_16 64 (dk_at dksX0_init_5 15 rfl rfl)
theorem dX0_init_130 : decode cX0_init 130 = .ok (.newarray .int, 2) := dk_188_10 (dk_at dksX0_init_5 17 rfl rfl)
theorem dX0_init_132 : decode cX0_init 132 = .ok (.putfield 79, 3) := dk_181 0 79 (dk_at dksX0_init_5 19 rfl rfl)
theorem dX0_init_135 : decode cX0_init 135 = .ok (.aload_n 0, 1) := dk_42 (dk_at dksX0_init_5 22 rfl rfl)
theorem dX0_init_136 : decode cX0_init 136 = .ok (.bipush 8, 2) := dk_16 8 (dk_at dksX0_init_6 0 rfl rfl)
theorem dX0_init_138 : decode cX0_init 138 = .ok (.newarray .int, 2) := dk_188_10 (dk_at dksX0_init_6 2 rfl rfl)
theorem dX0_init_140 : decode cX0_init 140 = .ok (.putfield 82, 3) := dk_181 0 82 (dk_at dksX0_init_6 4 rfl rfl)
theorem dX0_init_143 : decode cX0_init 143 = .ok (.aload_n 0, 1) := dk_42 (dk_at dksX0_init_6 7 rfl rfl)
theorem dX0_init_144 : decode cX0_init 144 = .ok (.new 85, 3) := dk_187 0 85 (dk_at dksX0_init_6 8 rfl rfl)
theorem dX0_init_147 : decode cX0_init 147 = .ok (.dup, 1) := dk_89 (dk_at dksX0_init_6 11 rfl rfl)
theorem dX0_init_148 : decode cX0_init 148 = .ok (.bipush 8, 2) := dk_16 8 (dk_at dksX0_init_6 12 rfl rfl)
theorem dX0_init_150 : decode cX0_init 150 = .ok (.invokespecial 87, 3) := dk_183 0 87 (dk_at dksX0_init_6 14 rfl rfl)
theorem dX0_init_153 : decode cX0_init 153 = .ok (.putfield 88, 3) := dk_181 0 88 (dk_at dksX0_init_6 17 rfl rfl)
theorem dX0_init_156 : decode cX0_init 156 = .ok (.aload_n 0, 1) := dk_42 (dk_at dksX0_init_6 20 rfl rfl)
theorem dX0_init_157 : decode cX0_init 157 = .ok (.new 19, 3) := dk_187 0 19 (dk_at dksX0_init_6 21 rfl rfl)
theorem dX0_init_160 : decode cX0_init 160 = .ok (.dup, 1) := dk_89 (dk_at dksX0_init_7 0 rfl rfl)
theorem dX0_init_161 : decode cX0_init 161 = .ok (.invokespecial 21, 3) := dk_183 0 21 (dk_at dksX0_init_7 1 rfl rfl)
theorem dX0_init_164 : decode cX0_init 164 = .ok (.putfield 92, 3) := dk_181 0 92 (dk_at dksX0_init_7 4 rfl rfl)
theorem dX0_init_167 : decode cX0_init 167 = .ok (.aload_n 0, 1) := dk_42 (dk_at dksX0_init_7 7 rfl rfl)
theorem dX0_init_168 : decode cX0_init 168 = .ok (.bipush 24, 2) := dk_16 24 (dk_at dksX0_init_7 8 rfl rfl)
theorem dX0_init_170 : decode cX0_init 170 = .ok (.newarray .int, 2) := dk_188_10 (dk_at dksX0_init_7 10 rfl rfl)
theorem dX0_init_172 : decode cX0_init 172 = .ok (.putfield 95, 3) := dk_181 0 95 (dk_at dksX0_init_7 12 rfl rfl)
theorem dX0_init_175 : decode cX0_init 175 = .ok (.aload_n 0, 1) := dk_42 (dk_at dksX0_init_7 15 rfl rfl)
theorem dX0_init_176 : decode cX0_init 176 = .ok (.bipush 8, 2) := dk_16 8 (dk_at dksX0_init_7 16 rfl rfl)
theorem dX0_init_178 : decode cX0_init 178 = .ok (.newarray .int, 2) := dk_188_10 (dk_at dksX0_init_7 18 rfl rfl)
theorem dX0_init_180 : decode cX0_init 180 = .ok (.putfield 98, 3) := dk_181 0 98 (dk_at dksX0_init_7 20 rfl rfl)
theorem dX0_init_183 : decode cX0_init 183 = .ok (.aload_n 0, 1) := dk_42 (dk_at dksX0_init_7 23 rfl rfl)
theorem dX0_init_184 : decode cX0_init 184 = .ok (.bipush 9, 2) := dk_16 9 (dk_at dksX0_init_8 0 rfl rfl)
theorem dX0_init_186 : decode cX0_init 186 = .ok (.newarray .int, 2) := dk_188_10 (dk_at dksX0_init_8 2 rfl rfl)
theorem dX0_init_188 : decode cX0_init 188 = .ok (.putfield 101, 3) := dk_181 0 101 (dk_at dksX0_init_8 4 rfl rfl)
theorem dX0_init_191 : decode cX0_init 191 = .ok (.aload_n 0, 1) := dk_42 (dk_at dksX0_init_8 7 rfl rfl)
theorem dX0_init_192 : decode cX0_init 192 = .ok (.bipush 9, 2) := dk_16 9 (dk_at dksX0_init_8 8 rfl rfl)
theorem dX0_init_194 : decode cX0_init 194 = .ok (.newarray .int, 2) := dk_188_10 (dk_at dksX0_init_8 10 rfl rfl)
theorem dX0_init_196 : decode cX0_init 196 = .ok (.putfield 104, 3) := dk_181 0 104 (dk_at dksX0_init_8 12 rfl rfl)
theorem dX0_init_199 : decode cX0_init 199 = .ok (.aload_n 0, 1) := dk_42 (dk_at dksX0_init_8 15 rfl rfl)
theorem dX0_init_200 : decode cX0_init 200 = .ok (.new 107, 3) := dk_187 0 107 (dk_at dksX0_init_8 16 rfl rfl)
theorem dX0_init_203 : decode cX0_init 203 = .ok (.dup, 1) := dk_89 (dk_at dksX0_init_8 19 rfl rfl)
theorem dX0_init_204 : decode cX0_init 204 = .ok (.aload_n 0, 1) := dk_42 (dk_at dksX0_init_8 20 rfl rfl)
theorem dX0_init_205 : decode cX0_init 205 = .ok (.invokedynamic 109, 5) := by decide +kernel
theorem dX0_init_210 : decode cX0_init 210 = .ok (.invokespecial 113, 3) := dk_183 0 113 (dk_at dksX0_init_9 5 rfl rfl)
theorem dX0_init_213 : decode cX0_init 213 = .ok (.new 107, 3) := dk_187 0 107 (dk_at dksX0_init_9 8 rfl rfl)
theorem dX0_init_216 : decode cX0_init 216 = .ok (.dup, 1) := dk_89 (dk_at dksX0_init_9 11 rfl rfl)
theorem dX0_init_217 : decode cX0_init 217 = .ok (.aload_n 0, 1) := dk_42 (dk_at dksX0_init_9 12 rfl rfl)
theorem dX0_init_218 : decode cX0_init 218 = .ok (.invokedynamic 116, 5) := by decide +kernel
theorem dX0_init_223 : decode cX0_init 223 = .ok (.invokespecial 113, 3) := dk_183 0 113 (dk_at dksX0_init_9 18 rfl rfl)
theorem dX0_init_226 : decode cX0_init 226 = .ok (.new 107, 3) := dk_187 0 107 (dk_at dksX0_init_9 21 rfl rfl)
theorem dX0_init_229 : decode cX0_init 229 = .ok (.dup, 1) := dk_89 (dk_at dksX0_init_10 0 rfl rfl)
theorem dX0_init_230 : decode cX0_init 230 = .ok (.aload_n 0, 1) := dk_42 (dk_at dksX0_init_10 1 rfl rfl)
theorem dX0_init_231 : decode cX0_init 231 = .ok (.invokedynamic 117, 5) := by decide +kernel
theorem dX0_init_236 : decode cX0_init 236 = .ok (.invokespecial 113, 3) := dk_183 0 113 (dk_at dksX0_init_10 7 rfl rfl)
theorem dX0_init_239 : decode cX0_init 239 = .ok (.new 107, 3) := dk_187 0 107 (dk_at dksX0_init_10 10 rfl rfl)
theorem dX0_init_242 : decode cX0_init 242 = .ok (.dup, 1) := dk_89 (dk_at dksX0_init_10 13 rfl rfl)
theorem dX0_init_243 : decode cX0_init 243 = .ok (.aload_n 0, 1) := dk_42 (dk_at dksX0_init_10 14 rfl rfl)
theorem dX0_init_244 : decode cX0_init 244 = .ok (.invokedynamic 118, 5) := by decide +kernel
theorem dX0_init_249 : decode cX0_init 249 = .ok (.invokespecial 113, 3) := dk_183 0 113 (dk_at dksX0_init_10 20 rfl rfl)
theorem dX0_init_252 : decode cX0_init 252 = .ok (.new 107, 3) := dk_187 0 107 (dk_at dksX0_init_11 0 rfl rfl)
theorem dX0_init_255 : decode cX0_init 255 = .ok (.dup, 1) := dk_89 (dk_at dksX0_init_11 3 rfl rfl)
theorem dX0_init_256 : decode cX0_init 256 = .ok (.aload_n 0, 1) := dk_42 (dk_at dksX0_init_11 4 rfl rfl)
theorem dX0_init_257 : decode cX0_init 257 = .ok (.invokedynamic 119, 5) := by decide +kernel
theorem dX0_init_262 : decode cX0_init 262 = .ok (.invokespecial 113, 3) := dk_183 0 113 (dk_at dksX0_init_11 10 rfl rfl)
theorem dX0_init_265 : decode cX0_init 265 = .ok (.new 107, 3) := dk_187 0 107 (dk_at dksX0_init_11 13 rfl rfl)
theorem dX0_init_268 : decode cX0_init 268 = .ok (.dup, 1) := dk_89 (dk_at dksX0_init_11 16 rfl rfl)
theorem dX0_init_269 : decode cX0_init 269 = .ok (.aload_n 0, 1) := dk_42 (dk_at dksX0_init_11 17 rfl rfl)
theorem dX0_init_270 : decode cX0_init 270 = .ok (.invokedynamic 120, 5) := by decide +kernel
theorem dX0_init_275 : decode cX0_init 275 = .ok (.invokespecial 113, 3) := dk_183 0 113 (dk_at dksX0_init_12 0 rfl rfl)
theorem dX0_init_278 : decode cX0_init 278 = .ok (.new 107, 3) := dk_187 0 107 (dk_at dksX0_init_12 3 rfl rfl)
theorem dX0_init_281 : decode cX0_init 281 = .ok (.dup, 1) := dk_89 (dk_at dksX0_init_12 6 rfl rfl)
theorem dX0_init_282 : decode cX0_init 282 = .ok (.aload_n 0, 1) := dk_42 (dk_at dksX0_init_12 7 rfl rfl)
theorem dX0_init_283 : decode cX0_init 283 = .ok (.invokedynamic 121, 5) := by decide +kernel
theorem dX0_init_288 : decode cX0_init 288 = .ok (.invokespecial 113, 3) := dk_183 0 113 (dk_at dksX0_init_12 13 rfl rfl)
theorem dX0_init_291 : decode cX0_init 291 = .ok (.invokestatic 122, 3) := dk_184 0 122 (dk_at dksX0_init_12 16 rfl rfl)
theorem dX0_init_294 : decode cX0_init 294 = .ok (.putfield 128, 3) := dk_181 0 128 (dk_at dksX0_init_12 19 rfl rfl)
theorem dX0_init_297 : decode cX0_init 297 = .ok (.return_, 1) := dk_177 (dk_at dksX0_init_12 22 rfl rfl)
abbrev cX0_lambda_new_4 : ByteArray := prog_1_method_88_code
def yX0_lambda_new_4 : MethodName := ⟨RX0, "lambda$new$4", "()I"⟩
theorem dX0_lambda_new_4_0 : decode cX0_lambda_new_4 0 = .ok (.aload_n 0, 1) := by decide +kernel
theorem dX0_lambda_new_4_1 : decode cX0_lambda_new_4 1 = .ok (.getfield 11, 3) := by decide +kernel
theorem dX0_lambda_new_4_4 : decode cX0_lambda_new_4 4 = .ok (.ireturn, 1) := by decide +kernel
abbrev cX0_lambda_new_5 : ByteArray := prog_1_method_87_code
def yX0_lambda_new_5 : MethodName := ⟨RX0, "lambda$new$5", "()I"⟩
def dkwX0_lambda_new_5_0 : List UInt8 := [42, 180, 0, 22, 182, 0, 140, 172]
abbrev dktX0_lambda_new_5_0 : List UInt8 := dkwX0_lambda_new_5_0 ++ []
theorem dksX0_lambda_new_5_0 : cX0_lambda_new_5.data.toList.drop 0 = dktX0_lambda_new_5_0 := by decide +kernel
theorem dX0_lambda_new_5_0 : decode cX0_lambda_new_5 0 = .ok (.aload_n 0, 1) := dk_42 (dk_at dksX0_lambda_new_5_0 0 rfl rfl)
theorem dX0_lambda_new_5_1 : decode cX0_lambda_new_5 1 = .ok (.getfield 22, 3) := dk_180 0 22 (dk_at dksX0_lambda_new_5_0 1 rfl rfl)
theorem dX0_lambda_new_5_4 : decode cX0_lambda_new_5 4 = .ok (.invokevirtual 140, 3) := dk_182 0 140 (dk_at dksX0_lambda_new_5_0 4 rfl rfl)
theorem dX0_lambda_new_5_7 : decode cX0_lambda_new_5 7 = .ok (.ireturn, 1) := dk_172 (dk_at dksX0_lambda_new_5_0 7 rfl rfl)
abbrev cX0_sumOfSupplies : ByteArray := prog_1_method_39_code
def yX0_sumOfSupplies : MethodName := ⟨RX0, "sumOfSupplies", "()I"⟩
def dkwX0_sumOfSupplies_1 : List UInt8 := [54, 5, 27, 21, 5, 96, 60, 132, 4, 1, 167, 255, 236, 27, 172]
abbrev dktX0_sumOfSupplies_1 : List UInt8 := dkwX0_sumOfSupplies_1 ++ []
def dkwX0_sumOfSupplies_0 : List UInt8 := [3, 60, 42, 180, 0, 15, 77, 44, 190, 62, 3, 54, 4, 21, 4, 29, 162, 0, 20, 44, 21, 4, 46]
abbrev dktX0_sumOfSupplies_0 : List UInt8 := dkwX0_sumOfSupplies_0 ++ dktX0_sumOfSupplies_1
theorem dksX0_sumOfSupplies_0 : cX0_sumOfSupplies.data.toList.drop 0 = dktX0_sumOfSupplies_0 := by decide +kernel
theorem dksX0_sumOfSupplies_1 : cX0_sumOfSupplies.data.toList.drop 23 = dktX0_sumOfSupplies_1 := dk_seg dksX0_sumOfSupplies_0 23 rfl rfl
theorem dX0_sumOfSupplies_0 : decode cX0_sumOfSupplies 0 = .ok (.iconst 0, 1) := dk_3 (dk_at dksX0_sumOfSupplies_0 0 rfl rfl)
theorem dX0_sumOfSupplies_1 : decode cX0_sumOfSupplies 1 = .ok (.istore_n 1, 1) := dk_60 (dk_at dksX0_sumOfSupplies_0 1 rfl rfl)
theorem dX0_sumOfSupplies_2 : decode cX0_sumOfSupplies 2 = .ok (.aload_n 0, 1) := dk_42 (dk_at dksX0_sumOfSupplies_0 2 rfl rfl)
theorem dX0_sumOfSupplies_3 : decode cX0_sumOfSupplies 3 = .ok (.getfield 15, 3) := dk_180 0 15 (dk_at dksX0_sumOfSupplies_0 3 rfl rfl)
theorem dX0_sumOfSupplies_6 : decode cX0_sumOfSupplies 6 = .ok (.astore_n 2, 1) := dk_77 (dk_at dksX0_sumOfSupplies_0 6 rfl rfl)
theorem dX0_sumOfSupplies_7 : decode cX0_sumOfSupplies 7 = .ok (.aload_n 2, 1) := dk_44 (dk_at dksX0_sumOfSupplies_0 7 rfl rfl)
theorem dX0_sumOfSupplies_8 : decode cX0_sumOfSupplies 8 = .ok (.arraylength, 1) := dk_190 (dk_at dksX0_sumOfSupplies_0 8 rfl rfl)
theorem dX0_sumOfSupplies_9 : decode cX0_sumOfSupplies 9 = .ok (.istore_n 3, 1) := dk_62 (dk_at dksX0_sumOfSupplies_0 9 rfl rfl)
theorem dX0_sumOfSupplies_10 : decode cX0_sumOfSupplies 10 = .ok (.iconst 0, 1) := dk_3 (dk_at dksX0_sumOfSupplies_0 10 rfl rfl)
theorem dX0_sumOfSupplies_11 : decode cX0_sumOfSupplies 11 = .ok (.istore 4, 2) := dk_54 4 (dk_at dksX0_sumOfSupplies_0 11 rfl rfl)
theorem dX0_sumOfSupplies_13 : decode cX0_sumOfSupplies 13 = .ok (.iload 4, 2) := dk_21 4 (dk_at dksX0_sumOfSupplies_0 13 rfl rfl)
theorem dX0_sumOfSupplies_15 : decode cX0_sumOfSupplies 15 = .ok (.iload_n 3, 1) := dk_29 (dk_at dksX0_sumOfSupplies_0 15 rfl rfl)
theorem dX0_sumOfSupplies_16 : decode cX0_sumOfSupplies 16 = .ok (.if_icmp .ge 20, 3) := dk_162 0 20 (dk_at dksX0_sumOfSupplies_0 16 rfl rfl)
theorem dX0_sumOfSupplies_19 : decode cX0_sumOfSupplies 19 = .ok (.aload_n 2, 1) := dk_44 (dk_at dksX0_sumOfSupplies_0 19 rfl rfl)
theorem dX0_sumOfSupplies_20 : decode cX0_sumOfSupplies 20 = .ok (.iload 4, 2) := dk_21 4 (dk_at dksX0_sumOfSupplies_0 20 rfl rfl)
theorem dX0_sumOfSupplies_22 : decode cX0_sumOfSupplies 22 = .ok (.iaload, 1) := dk_46 (dk_at dksX0_sumOfSupplies_0 22 rfl rfl)
theorem dX0_sumOfSupplies_23 : decode cX0_sumOfSupplies 23 = .ok (.istore 5, 2) := dk_54 5 (dk_at dksX0_sumOfSupplies_1 0 rfl rfl)
theorem dX0_sumOfSupplies_25 : decode cX0_sumOfSupplies 25 = .ok (.iload_n 1, 1) := dk_27 (dk_at dksX0_sumOfSupplies_1 2 rfl rfl)
theorem dX0_sumOfSupplies_26 : decode cX0_sumOfSupplies 26 = .ok (.iload 5, 2) := dk_21 5 (dk_at dksX0_sumOfSupplies_1 3 rfl rfl)
theorem dX0_sumOfSupplies_28 : decode cX0_sumOfSupplies 28 = .ok (.iadd, 1) := dk_96 (dk_at dksX0_sumOfSupplies_1 5 rfl rfl)
theorem dX0_sumOfSupplies_29 : decode cX0_sumOfSupplies 29 = .ok (.istore_n 1, 1) := dk_60 (dk_at dksX0_sumOfSupplies_1 6 rfl rfl)
theorem dX0_sumOfSupplies_30 : decode cX0_sumOfSupplies 30 = .ok (.iinc 4 1, 3) := dk_132 4 1 (dk_at dksX0_sumOfSupplies_1 7 rfl rfl)
theorem dX0_sumOfSupplies_33 : decode cX0_sumOfSupplies 33 = .ok (.goto (-20), 3) := dk_167 255 236 (dk_at dksX0_sumOfSupplies_1 10 rfl rfl)
theorem dX0_sumOfSupplies_36 : decode cX0_sumOfSupplies 36 = .ok (.iload_n 1, 1) := dk_27 (dk_at dksX0_sumOfSupplies_1 13 rfl rfl)
theorem dX0_sumOfSupplies_37 : decode cX0_sumOfSupplies 37 = .ok (.ireturn, 1) := dk_172 (dk_at dksX0_sumOfSupplies_1 14 rfl rfl)
abbrev cX0_lambda_new_6 : ByteArray := prog_1_method_86_code
def yX0_lambda_new_6 : MethodName := ⟨RX0, "lambda$new$6", "()I"⟩
def dkwX0_lambda_new_6_0 : List UInt8 := [42, 180, 0, 41, 182, 0, 241, 172]
abbrev dktX0_lambda_new_6_0 : List UInt8 := dkwX0_lambda_new_6_0 ++ []
theorem dksX0_lambda_new_6_0 : cX0_lambda_new_6.data.toList.drop 0 = dktX0_lambda_new_6_0 := by decide +kernel
theorem dX0_lambda_new_6_0 : decode cX0_lambda_new_6 0 = .ok (.aload_n 0, 1) := dk_42 (dk_at dksX0_lambda_new_6_0 0 rfl rfl)
theorem dX0_lambda_new_6_1 : decode cX0_lambda_new_6 1 = .ok (.getfield 41, 3) := dk_180 0 41 (dk_at dksX0_lambda_new_6_0 1 rfl rfl)
theorem dX0_lambda_new_6_4 : decode cX0_lambda_new_6 4 = .ok (.invokevirtual 241, 3) := dk_182 0 241 (dk_at dksX0_lambda_new_6_0 4 rfl rfl)
theorem dX0_lambda_new_6_7 : decode cX0_lambda_new_6 7 = .ok (.ireturn, 1) := dk_172 (dk_at dksX0_lambda_new_6_0 7 rfl rfl)
abbrev cX0_lambda_new_7 : ByteArray := prog_1_method_85_code
def yX0_lambda_new_7 : MethodName := ⟨RX0, "lambda$new$7", "()I"⟩
theorem dX0_lambda_new_7_0 : decode cX0_lambda_new_7 0 = .ok (.aload_n 0, 1) := by decide +kernel
theorem dX0_lambda_new_7_1 : decode cX0_lambda_new_7 1 = .ok (.getfield 307, 3) := by decide +kernel
theorem dX0_lambda_new_7_4 : decode cX0_lambda_new_7 4 = .ok (.ireturn, 1) := by decide +kernel
abbrev cX0_lambda_new_8 : ByteArray := prog_1_method_84_code
def yX0_lambda_new_8 : MethodName := ⟨RX0, "lambda$new$8", "()I"⟩
def dkwX0_lambda_new_8_0 : List UInt8 := [42, 180, 0, 51, 182, 1, 54, 172]
abbrev dktX0_lambda_new_8_0 : List UInt8 := dkwX0_lambda_new_8_0 ++ []
theorem dksX0_lambda_new_8_0 : cX0_lambda_new_8.data.toList.drop 0 = dktX0_lambda_new_8_0 := by decide +kernel
theorem dX0_lambda_new_8_0 : decode cX0_lambda_new_8 0 = .ok (.aload_n 0, 1) := dk_42 (dk_at dksX0_lambda_new_8_0 0 rfl rfl)
theorem dX0_lambda_new_8_1 : decode cX0_lambda_new_8 1 = .ok (.getfield 51, 3) := dk_180 0 51 (dk_at dksX0_lambda_new_8_0 1 rfl rfl)
theorem dX0_lambda_new_8_4 : decode cX0_lambda_new_8 4 = .ok (.invokevirtual 310, 3) := dk_182 1 54 (dk_at dksX0_lambda_new_8_0 4 rfl rfl)
theorem dX0_lambda_new_8_7 : decode cX0_lambda_new_8 7 = .ok (.ireturn, 1) := dk_172 (dk_at dksX0_lambda_new_8_0 7 rfl rfl)
abbrev cX0_tight : ByteArray := prog_1_method_76_code
def yX0_tight : MethodName := ⟨RX0, "tight", "()I"⟩
def dkwX0_tight_2 : List UInt8 := [167, 0, 4, 3, 96, 60, 167, 255, 218, 27, 172]
abbrev dktX0_tight_2 : List UInt8 := dkwX0_tight_2 ++ []
def dkwX0_tight_1 : List UInt8 := [185, 0, 169, 1, 0, 192, 0, 173, 78, 27, 45, 180, 0, 181, 45, 180, 0, 184, 160, 0, 7, 4]
abbrev dktX0_tight_1 : List UInt8 := dkwX0_tight_1 ++ dktX0_tight_2
def dkwX0_tight_0 : List UInt8 := [3, 60, 42, 180, 0, 22, 182, 0, 159, 77, 44, 185, 0, 163, 1, 0, 153, 0, 35, 44]
abbrev dktX0_tight_0 : List UInt8 := dkwX0_tight_0 ++ dktX0_tight_1
theorem dksX0_tight_0 : cX0_tight.data.toList.drop 0 = dktX0_tight_0 := by decide +kernel
theorem dksX0_tight_1 : cX0_tight.data.toList.drop 20 = dktX0_tight_1 := dk_seg dksX0_tight_0 20 rfl rfl
theorem dksX0_tight_2 : cX0_tight.data.toList.drop 42 = dktX0_tight_2 := dk_seg dksX0_tight_1 22 rfl rfl
theorem dX0_tight_0 : decode cX0_tight 0 = .ok (.iconst 0, 1) := dk_3 (dk_at dksX0_tight_0 0 rfl rfl)
theorem dX0_tight_1 : decode cX0_tight 1 = .ok (.istore_n 1, 1) := dk_60 (dk_at dksX0_tight_0 1 rfl rfl)
theorem dX0_tight_2 : decode cX0_tight 2 = .ok (.aload_n 0, 1) := dk_42 (dk_at dksX0_tight_0 2 rfl rfl)
theorem dX0_tight_3 : decode cX0_tight 3 = .ok (.getfield 22, 3) := dk_180 0 22 (dk_at dksX0_tight_0 3 rfl rfl)
theorem dX0_tight_6 : decode cX0_tight 6 = .ok (.invokevirtual 159, 3) := dk_182 0 159 (dk_at dksX0_tight_0 6 rfl rfl)
theorem dX0_tight_9 : decode cX0_tight 9 = .ok (.astore_n 2, 1) := dk_77 (dk_at dksX0_tight_0 9 rfl rfl)
theorem dX0_tight_10 : decode cX0_tight 10 = .ok (.aload_n 2, 1) := dk_44 (dk_at dksX0_tight_0 10 rfl rfl)
theorem dX0_tight_11 : decode cX0_tight 11 = .ok (.invokeinterface 163 1, 5) := by decide +kernel
theorem dX0_tight_16 : decode cX0_tight 16 = .ok (.ifCond .eq 35, 3) := dk_153 0 35 (dk_at dksX0_tight_0 16 rfl rfl)
theorem dX0_tight_19 : decode cX0_tight 19 = .ok (.aload_n 2, 1) := dk_44 (dk_at dksX0_tight_0 19 rfl rfl)
theorem dX0_tight_20 : decode cX0_tight 20 = .ok (.invokeinterface 169 1, 5) := by decide +kernel
theorem dX0_tight_25 : decode cX0_tight 25 = .ok (.checkcast 173, 3) := dk_192 0 173 (dk_at dksX0_tight_1 5 rfl rfl)
theorem dX0_tight_28 : decode cX0_tight 28 = .ok (.astore_n 3, 1) := dk_78 (dk_at dksX0_tight_1 8 rfl rfl)
theorem dX0_tight_29 : decode cX0_tight 29 = .ok (.iload_n 1, 1) := dk_27 (dk_at dksX0_tight_1 9 rfl rfl)
theorem dX0_tight_30 : decode cX0_tight 30 = .ok (.aload_n 3, 1) := dk_45 (dk_at dksX0_tight_1 10 rfl rfl)
theorem dX0_tight_31 : decode cX0_tight 31 = .ok (.getfield 181, 3) := dk_180 0 181 (dk_at dksX0_tight_1 11 rfl rfl)
theorem dX0_tight_34 : decode cX0_tight 34 = .ok (.aload_n 3, 1) := dk_45 (dk_at dksX0_tight_1 14 rfl rfl)
theorem dX0_tight_35 : decode cX0_tight 35 = .ok (.getfield 184, 3) := dk_180 0 184 (dk_at dksX0_tight_1 15 rfl rfl)
theorem dX0_tight_38 : decode cX0_tight 38 = .ok (.if_icmp .ne 7, 3) := dk_160 0 7 (dk_at dksX0_tight_1 18 rfl rfl)
theorem dX0_tight_41 : decode cX0_tight 41 = .ok (.iconst 1, 1) := dk_4 (dk_at dksX0_tight_1 21 rfl rfl)
theorem dX0_tight_42 : decode cX0_tight 42 = .ok (.goto 4, 3) := dk_167 0 4 (dk_at dksX0_tight_2 0 rfl rfl)
theorem dX0_tight_45 : decode cX0_tight 45 = .ok (.iconst 0, 1) := dk_3 (dk_at dksX0_tight_2 3 rfl rfl)
theorem dX0_tight_46 : decode cX0_tight 46 = .ok (.iadd, 1) := dk_96 (dk_at dksX0_tight_2 4 rfl rfl)
theorem dX0_tight_47 : decode cX0_tight 47 = .ok (.istore_n 1, 1) := dk_60 (dk_at dksX0_tight_2 5 rfl rfl)
theorem dX0_tight_48 : decode cX0_tight 48 = .ok (.goto (-38), 3) := dk_167 255 218 (dk_at dksX0_tight_2 6 rfl rfl)
theorem dX0_tight_51 : decode cX0_tight 51 = .ok (.iload_n 1, 1) := dk_27 (dk_at dksX0_tight_2 9 rfl rfl)
theorem dX0_tight_52 : decode cX0_tight 52 = .ok (.ireturn, 1) := dk_172 (dk_at dksX0_tight_2 10 rfl rfl)
abbrev cX0_back : ByteArray := prog_1_method_13_code
def yX0_back : MethodName := ⟨RX0, "back", "()I"⟩
def dkwX0_back_1 : List UInt8 := [182, 1, 2, 42, 180, 0, 41, 182, 0, 241, 172]
abbrev dktX0_back_1 : List UInt8 := dkwX0_back_1 ++ []
def dkwX0_back_0 : List UInt8 := [42, 180, 0, 41, 182, 0, 252, 153, 0, 6, 16, 253, 172, 42, 42, 180, 0, 41, 182, 0, 255, 192, 0, 218]
abbrev dktX0_back_0 : List UInt8 := dkwX0_back_0 ++ dktX0_back_1
theorem dksX0_back_0 : cX0_back.data.toList.drop 0 = dktX0_back_0 := by decide +kernel
theorem dksX0_back_1 : cX0_back.data.toList.drop 24 = dktX0_back_1 := dk_seg dksX0_back_0 24 rfl rfl
theorem dX0_back_0 : decode cX0_back 0 = .ok (.aload_n 0, 1) := dk_42 (dk_at dksX0_back_0 0 rfl rfl)
theorem dX0_back_1 : decode cX0_back 1 = .ok (.getfield 41, 3) := dk_180 0 41 (dk_at dksX0_back_0 1 rfl rfl)
theorem dX0_back_4 : decode cX0_back 4 = .ok (.invokevirtual 252, 3) := dk_182 0 252 (dk_at dksX0_back_0 4 rfl rfl)
theorem dX0_back_7 : decode cX0_back 7 = .ok (.ifCond .eq 6, 3) := dk_153 0 6 (dk_at dksX0_back_0 7 rfl rfl)
theorem dX0_back_10 : decode cX0_back 10 = .ok (.bipush (-3), 2) := dk_16 253 (dk_at dksX0_back_0 10 rfl rfl)
theorem dX0_back_12 : decode cX0_back 12 = .ok (.ireturn, 1) := dk_172 (dk_at dksX0_back_0 12 rfl rfl)
theorem dX0_back_13 : decode cX0_back 13 = .ok (.aload_n 0, 1) := dk_42 (dk_at dksX0_back_0 13 rfl rfl)
theorem dX0_back_14 : decode cX0_back 14 = .ok (.aload_n 0, 1) := dk_42 (dk_at dksX0_back_0 14 rfl rfl)
theorem dX0_back_15 : decode cX0_back 15 = .ok (.getfield 41, 3) := dk_180 0 41 (dk_at dksX0_back_0 15 rfl rfl)
theorem dX0_back_18 : decode cX0_back 18 = .ok (.invokevirtual 255, 3) := dk_182 0 255 (dk_at dksX0_back_0 18 rfl rfl)
theorem dX0_back_21 : decode cX0_back 21 = .ok (.checkcast 218, 3) := dk_192 0 218 (dk_at dksX0_back_0 21 rfl rfl)
theorem dX0_back_24 : decode cX0_back 24 = .ok (.invokevirtual 258, 3) := dk_182 1 2 (dk_at dksX0_back_1 0 rfl rfl)
theorem dX0_back_27 : decode cX0_back 27 = .ok (.aload_n 0, 1) := dk_42 (dk_at dksX0_back_1 3 rfl rfl)
theorem dX0_back_28 : decode cX0_back 28 = .ok (.getfield 41, 3) := dk_180 0 41 (dk_at dksX0_back_1 4 rfl rfl)
theorem dX0_back_31 : decode cX0_back 31 = .ok (.invokevirtual 241, 3) := dk_182 0 241 (dk_at dksX0_back_1 7 rfl rfl)
theorem dX0_back_34 : decode cX0_back 34 = .ok (.ireturn, 1) := dk_172 (dk_at dksX0_back_1 10 rfl rfl)
abbrev cX0_becomes : ByteArray := prog_1_method_12_code
def yX0_becomes : MethodName := ⟨RX0, "becomes", "(LFreightRoads$Shot;)V"⟩
def dkwX0_becomes_2 : List UInt8 := [28, 50, 182, 0, 229, 182, 0, 251, 132, 2, 1, 167, 255, 229, 42, 182, 0, 245, 177]
abbrev dktX0_becomes_2 : List UInt8 := dkwX0_becomes_2 ++ []
def dkwX0_becomes_1 : List UInt8 := [180, 0, 22, 182, 0, 248, 3, 61, 28, 43, 180, 0, 226, 162, 0, 25, 42, 180, 0, 22, 43, 180, 0, 223]
abbrev dktX0_becomes_1 : List UInt8 := dkwX0_becomes_1 ++ dktX0_becomes_2
def dkwX0_becomes_0 : List UInt8 := [42, 43, 180, 0, 221, 181, 0, 11, 43, 180, 0, 222, 3, 42, 180, 0, 15, 3, 16, 8, 184, 0, 198, 42]
abbrev dktX0_becomes_0 : List UInt8 := dkwX0_becomes_0 ++ dktX0_becomes_1
theorem dksX0_becomes_0 : cX0_becomes.data.toList.drop 0 = dktX0_becomes_0 := by decide +kernel
theorem dksX0_becomes_1 : cX0_becomes.data.toList.drop 24 = dktX0_becomes_1 := dk_seg dksX0_becomes_0 24 rfl rfl
theorem dksX0_becomes_2 : cX0_becomes.data.toList.drop 48 = dktX0_becomes_2 := dk_seg dksX0_becomes_1 24 rfl rfl
theorem dX0_becomes_0 : decode cX0_becomes 0 = .ok (.aload_n 0, 1) := dk_42 (dk_at dksX0_becomes_0 0 rfl rfl)
theorem dX0_becomes_1 : decode cX0_becomes 1 = .ok (.aload_n 1, 1) := dk_43 (dk_at dksX0_becomes_0 1 rfl rfl)
theorem dX0_becomes_2 : decode cX0_becomes 2 = .ok (.getfield 221, 3) := dk_180 0 221 (dk_at dksX0_becomes_0 2 rfl rfl)
theorem dX0_becomes_5 : decode cX0_becomes 5 = .ok (.putfield 11, 3) := dk_181 0 11 (dk_at dksX0_becomes_0 5 rfl rfl)
theorem dX0_becomes_8 : decode cX0_becomes 8 = .ok (.aload_n 1, 1) := dk_43 (dk_at dksX0_becomes_0 8 rfl rfl)
theorem dX0_becomes_9 : decode cX0_becomes 9 = .ok (.getfield 222, 3) := dk_180 0 222 (dk_at dksX0_becomes_0 9 rfl rfl)
theorem dX0_becomes_12 : decode cX0_becomes 12 = .ok (.iconst 0, 1) := dk_3 (dk_at dksX0_becomes_0 12 rfl rfl)
theorem dX0_becomes_13 : decode cX0_becomes 13 = .ok (.aload_n 0, 1) := dk_42 (dk_at dksX0_becomes_0 13 rfl rfl)
theorem dX0_becomes_14 : decode cX0_becomes 14 = .ok (.getfield 15, 3) := dk_180 0 15 (dk_at dksX0_becomes_0 14 rfl rfl)
theorem dX0_becomes_17 : decode cX0_becomes 17 = .ok (.iconst 0, 1) := dk_3 (dk_at dksX0_becomes_0 17 rfl rfl)
theorem dX0_becomes_18 : decode cX0_becomes 18 = .ok (.bipush 8, 2) := dk_16 8 (dk_at dksX0_becomes_0 18 rfl rfl)
theorem dX0_becomes_20 : decode cX0_becomes 20 = .ok (.invokestatic 198, 3) := dk_184 0 198 (dk_at dksX0_becomes_0 20 rfl rfl)
theorem dX0_becomes_23 : decode cX0_becomes 23 = .ok (.aload_n 0, 1) := dk_42 (dk_at dksX0_becomes_0 23 rfl rfl)
theorem dX0_becomes_24 : decode cX0_becomes 24 = .ok (.getfield 22, 3) := dk_180 0 22 (dk_at dksX0_becomes_1 0 rfl rfl)
theorem dX0_becomes_27 : decode cX0_becomes 27 = .ok (.invokevirtual 248, 3) := dk_182 0 248 (dk_at dksX0_becomes_1 3 rfl rfl)
theorem dX0_becomes_30 : decode cX0_becomes 30 = .ok (.iconst 0, 1) := dk_3 (dk_at dksX0_becomes_1 6 rfl rfl)
theorem dX0_becomes_31 : decode cX0_becomes 31 = .ok (.istore_n 2, 1) := dk_61 (dk_at dksX0_becomes_1 7 rfl rfl)
theorem dX0_becomes_32 : decode cX0_becomes 32 = .ok (.iload_n 2, 1) := dk_28 (dk_at dksX0_becomes_1 8 rfl rfl)
theorem dX0_becomes_33 : decode cX0_becomes 33 = .ok (.aload_n 1, 1) := dk_43 (dk_at dksX0_becomes_1 9 rfl rfl)
theorem dX0_becomes_34 : decode cX0_becomes 34 = .ok (.getfield 226, 3) := dk_180 0 226 (dk_at dksX0_becomes_1 10 rfl rfl)
theorem dX0_becomes_37 : decode cX0_becomes 37 = .ok (.if_icmp .ge 25, 3) := dk_162 0 25 (dk_at dksX0_becomes_1 13 rfl rfl)
theorem dX0_becomes_40 : decode cX0_becomes 40 = .ok (.aload_n 0, 1) := dk_42 (dk_at dksX0_becomes_1 16 rfl rfl)
theorem dX0_becomes_41 : decode cX0_becomes 41 = .ok (.getfield 22, 3) := dk_180 0 22 (dk_at dksX0_becomes_1 17 rfl rfl)
theorem dX0_becomes_44 : decode cX0_becomes 44 = .ok (.aload_n 1, 1) := dk_43 (dk_at dksX0_becomes_1 20 rfl rfl)
theorem dX0_becomes_45 : decode cX0_becomes 45 = .ok (.getfield 223, 3) := dk_180 0 223 (dk_at dksX0_becomes_1 21 rfl rfl)
theorem dX0_becomes_48 : decode cX0_becomes 48 = .ok (.iload_n 2, 1) := dk_28 (dk_at dksX0_becomes_2 0 rfl rfl)
theorem dX0_becomes_49 : decode cX0_becomes 49 = .ok (.aaload, 1) := dk_50 (dk_at dksX0_becomes_2 1 rfl rfl)
theorem dX0_becomes_50 : decode cX0_becomes 50 = .ok (.invokevirtual 229, 3) := dk_182 0 229 (dk_at dksX0_becomes_2 2 rfl rfl)
theorem dX0_becomes_53 : decode cX0_becomes 53 = .ok (.invokevirtual 251, 3) := dk_182 0 251 (dk_at dksX0_becomes_2 5 rfl rfl)
theorem dX0_becomes_56 : decode cX0_becomes 56 = .ok (.iinc 2 1, 3) := dk_132 2 1 (dk_at dksX0_becomes_2 8 rfl rfl)
theorem dX0_becomes_59 : decode cX0_becomes 59 = .ok (.goto (-27), 3) := dk_167 255 229 (dk_at dksX0_becomes_2 11 rfl rfl)
theorem dX0_becomes_62 : decode cX0_becomes 62 = .ok (.aload_n 0, 1) := dk_42 (dk_at dksX0_becomes_2 14 rfl rfl)
theorem dX0_becomes_63 : decode cX0_becomes 63 = .ok (.invokevirtual 245, 3) := dk_182 0 245 (dk_at dksX0_becomes_2 15 rfl rfl)
theorem dX0_becomes_66 : decode cX0_becomes 66 = .ok (.return_, 1) := dk_177 (dk_at dksX0_becomes_2 18 rfl rfl)
abbrev cX0_changes : ByteArray := prog_1_method_6_code
def yX0_changes : MethodName := ⟨RX0, "changes", "()V"⟩
def dkwX0_changes_0 : List UInt8 := [42, 3, 181, 0, 144, 42, 3, 181, 0, 148, 42, 3, 181, 0, 151, 177]
abbrev dktX0_changes_0 : List UInt8 := dkwX0_changes_0 ++ []
theorem dksX0_changes_0 : cX0_changes.data.toList.drop 0 = dktX0_changes_0 := by decide +kernel
theorem dX0_changes_0 : decode cX0_changes 0 = .ok (.aload_n 0, 1) := dk_42 (dk_at dksX0_changes_0 0 rfl rfl)
theorem dX0_changes_1 : decode cX0_changes 1 = .ok (.iconst 0, 1) := dk_3 (dk_at dksX0_changes_0 1 rfl rfl)
theorem dX0_changes_2 : decode cX0_changes 2 = .ok (.putfield 144, 3) := dk_181 0 144 (dk_at dksX0_changes_0 2 rfl rfl)
theorem dX0_changes_5 : decode cX0_changes 5 = .ok (.aload_n 0, 1) := dk_42 (dk_at dksX0_changes_0 5 rfl rfl)
theorem dX0_changes_6 : decode cX0_changes 6 = .ok (.iconst 0, 1) := dk_3 (dk_at dksX0_changes_0 6 rfl rfl)
theorem dX0_changes_7 : decode cX0_changes 7 = .ok (.putfield 148, 3) := dk_181 0 148 (dk_at dksX0_changes_0 7 rfl rfl)
theorem dX0_changes_10 : decode cX0_changes 10 = .ok (.aload_n 0, 1) := dk_42 (dk_at dksX0_changes_0 10 rfl rfl)
theorem dX0_changes_11 : decode cX0_changes 11 = .ok (.iconst 0, 1) := dk_3 (dk_at dksX0_changes_0 11 rfl rfl)
theorem dX0_changes_12 : decode cX0_changes 12 = .ok (.putfield 151, 3) := dk_181 0 151 (dk_at dksX0_changes_0 12 rfl rfl)
theorem dX0_changes_15 : decode cX0_changes 15 = .ok (.return_, 1) := dk_177 (dk_at dksX0_changes_0 15 rfl rfl)
abbrev cX0_towns : ByteArray := prog_1_method_14_code
def yX0_towns : MethodName := ⟨RX0, "towns", "(I)I"⟩
def dkwX0_towns_2 : List UInt8 := [42, 180, 0, 15, 29, 3, 79, 132, 3, 1, 167, 255, 240, 28, 172]
abbrev dktX0_towns_2 : List UInt8 := dkwX0_towns_2 ++ []
def dkwX0_towns_1 : List UInt8 := [180, 0, 11, 61, 42, 27, 181, 0, 11, 42, 180, 0, 22, 182, 0, 248, 3, 62, 29, 16, 8, 162, 0, 16]
abbrev dktX0_towns_1 : List UInt8 := dkwX0_towns_1 ++ dktX0_towns_2
def dkwX0_towns_0 : List UInt8 := [27, 133, 20, 1, 6, 20, 1, 8, 184, 0, 132, 154, 0, 6, 16, 254, 172, 42, 182, 1, 10, 42]
abbrev dktX0_towns_0 : List UInt8 := dkwX0_towns_0 ++ dktX0_towns_1
theorem dksX0_towns_0 : cX0_towns.data.toList.drop 0 = dktX0_towns_0 := by decide +kernel
theorem dksX0_towns_1 : cX0_towns.data.toList.drop 22 = dktX0_towns_1 := dk_seg dksX0_towns_0 22 rfl rfl
theorem dksX0_towns_2 : cX0_towns.data.toList.drop 46 = dktX0_towns_2 := dk_seg dksX0_towns_1 24 rfl rfl
theorem dX0_towns_0 : decode cX0_towns 0 = .ok (.iload_n 1, 1) := dk_27 (dk_at dksX0_towns_0 0 rfl rfl)
theorem dX0_towns_1 : decode cX0_towns 1 = .ok (.i2l, 1) := dk_133 (dk_at dksX0_towns_0 1 rfl rfl)
theorem dX0_towns_2 : decode cX0_towns 2 = .ok (.ldc2_w 262, 3) := dk_20 1 6 (dk_at dksX0_towns_0 2 rfl rfl)
theorem dX0_towns_5 : decode cX0_towns 5 = .ok (.ldc2_w 264, 3) := dk_20 1 8 (dk_at dksX0_towns_0 5 rfl rfl)
theorem dX0_towns_8 : decode cX0_towns 8 = .ok (.invokestatic 132, 3) := dk_184 0 132 (dk_at dksX0_towns_0 8 rfl rfl)
theorem dX0_towns_11 : decode cX0_towns 11 = .ok (.ifCond .ne 6, 3) := dk_154 0 6 (dk_at dksX0_towns_0 11 rfl rfl)
theorem dX0_towns_14 : decode cX0_towns 14 = .ok (.bipush (-2), 2) := dk_16 254 (dk_at dksX0_towns_0 14 rfl rfl)
theorem dX0_towns_16 : decode cX0_towns 16 = .ok (.ireturn, 1) := dk_172 (dk_at dksX0_towns_0 16 rfl rfl)
theorem dX0_towns_17 : decode cX0_towns 17 = .ok (.aload_n 0, 1) := dk_42 (dk_at dksX0_towns_0 17 rfl rfl)
theorem dX0_towns_18 : decode cX0_towns 18 = .ok (.invokevirtual 266, 3) := dk_182 1 10 (dk_at dksX0_towns_0 18 rfl rfl)
theorem dX0_towns_21 : decode cX0_towns 21 = .ok (.aload_n 0, 1) := dk_42 (dk_at dksX0_towns_0 21 rfl rfl)
theorem dX0_towns_22 : decode cX0_towns 22 = .ok (.getfield 11, 3) := dk_180 0 11 (dk_at dksX0_towns_1 0 rfl rfl)
theorem dX0_towns_25 : decode cX0_towns 25 = .ok (.istore_n 2, 1) := dk_61 (dk_at dksX0_towns_1 3 rfl rfl)
theorem dX0_towns_26 : decode cX0_towns 26 = .ok (.aload_n 0, 1) := dk_42 (dk_at dksX0_towns_1 4 rfl rfl)
theorem dX0_towns_27 : decode cX0_towns 27 = .ok (.iload_n 1, 1) := dk_27 (dk_at dksX0_towns_1 5 rfl rfl)
theorem dX0_towns_28 : decode cX0_towns 28 = .ok (.putfield 11, 3) := dk_181 0 11 (dk_at dksX0_towns_1 6 rfl rfl)
theorem dX0_towns_31 : decode cX0_towns 31 = .ok (.aload_n 0, 1) := dk_42 (dk_at dksX0_towns_1 9 rfl rfl)
theorem dX0_towns_32 : decode cX0_towns 32 = .ok (.getfield 22, 3) := dk_180 0 22 (dk_at dksX0_towns_1 10 rfl rfl)
theorem dX0_towns_35 : decode cX0_towns 35 = .ok (.invokevirtual 248, 3) := dk_182 0 248 (dk_at dksX0_towns_1 13 rfl rfl)
theorem dX0_towns_38 : decode cX0_towns 38 = .ok (.iconst 0, 1) := dk_3 (dk_at dksX0_towns_1 16 rfl rfl)
theorem dX0_towns_39 : decode cX0_towns 39 = .ok (.istore_n 3, 1) := dk_62 (dk_at dksX0_towns_1 17 rfl rfl)
theorem dX0_towns_40 : decode cX0_towns 40 = .ok (.iload_n 3, 1) := dk_29 (dk_at dksX0_towns_1 18 rfl rfl)
theorem dX0_towns_41 : decode cX0_towns 41 = .ok (.bipush 8, 2) := dk_16 8 (dk_at dksX0_towns_1 19 rfl rfl)
theorem dX0_towns_43 : decode cX0_towns 43 = .ok (.if_icmp .ge 16, 3) := dk_162 0 16 (dk_at dksX0_towns_1 21 rfl rfl)
theorem dX0_towns_46 : decode cX0_towns 46 = .ok (.aload_n 0, 1) := dk_42 (dk_at dksX0_towns_2 0 rfl rfl)
theorem dX0_towns_47 : decode cX0_towns 47 = .ok (.getfield 15, 3) := dk_180 0 15 (dk_at dksX0_towns_2 1 rfl rfl)
theorem dX0_towns_50 : decode cX0_towns 50 = .ok (.iload_n 3, 1) := dk_29 (dk_at dksX0_towns_2 4 rfl rfl)
theorem dX0_towns_51 : decode cX0_towns 51 = .ok (.iconst 0, 1) := dk_3 (dk_at dksX0_towns_2 5 rfl rfl)
theorem dX0_towns_52 : decode cX0_towns 52 = .ok (.iastore, 1) := dk_79 (dk_at dksX0_towns_2 6 rfl rfl)
theorem dX0_towns_53 : decode cX0_towns 53 = .ok (.iinc 3 1, 3) := dk_132 3 1 (dk_at dksX0_towns_2 7 rfl rfl)
theorem dX0_towns_56 : decode cX0_towns 56 = .ok (.goto (-16), 3) := dk_167 255 240 (dk_at dksX0_towns_2 10 rfl rfl)
theorem dX0_towns_59 : decode cX0_towns 59 = .ok (.iload_n 2, 1) := dk_28 (dk_at dksX0_towns_2 13 rfl rfl)
theorem dX0_towns_60 : decode cX0_towns 60 = .ok (.ireturn, 1) := dk_172 (dk_at dksX0_towns_2 14 rfl rfl)
abbrev cX0_isIn : ByteArray := prog_1_method_1_code
def yX0_isIn : MethodName := ⟨RX0, "isIn", "(JJJ)Z"⟩
def dkwX0_isIn_0 : List UInt8 := [30, 32, 148, 155, 0, 14, 30, 22, 4, 148, 157, 0, 7, 4, 167, 0, 4, 3, 172]
abbrev dktX0_isIn_0 : List UInt8 := dkwX0_isIn_0 ++ []
theorem dksX0_isIn_0 : cX0_isIn.data.toList.drop 0 = dktX0_isIn_0 := by decide +kernel
theorem dX0_isIn_0 : decode cX0_isIn 0 = .ok (.lload_n 0, 1) := dk_30 (dk_at dksX0_isIn_0 0 rfl rfl)
theorem dX0_isIn_1 : decode cX0_isIn 1 = .ok (.lload_n 2, 1) := dk_32 (dk_at dksX0_isIn_0 1 rfl rfl)
theorem dX0_isIn_2 : decode cX0_isIn 2 = .ok (.lcmp, 1) := dk_148 (dk_at dksX0_isIn_0 2 rfl rfl)
theorem dX0_isIn_3 : decode cX0_isIn 3 = .ok (.ifCond .lt 14, 3) := dk_155 0 14 (dk_at dksX0_isIn_0 3 rfl rfl)
theorem dX0_isIn_6 : decode cX0_isIn 6 = .ok (.lload_n 0, 1) := dk_30 (dk_at dksX0_isIn_0 6 rfl rfl)
theorem dX0_isIn_7 : decode cX0_isIn 7 = .ok (.lload 4, 2) := dk_22 4 (dk_at dksX0_isIn_0 7 rfl rfl)
theorem dX0_isIn_9 : decode cX0_isIn 9 = .ok (.lcmp, 1) := dk_148 (dk_at dksX0_isIn_0 9 rfl rfl)
theorem dX0_isIn_10 : decode cX0_isIn 10 = .ok (.ifCond .gt 7, 3) := dk_157 0 7 (dk_at dksX0_isIn_0 10 rfl rfl)
theorem dX0_isIn_13 : decode cX0_isIn 13 = .ok (.iconst 1, 1) := dk_4 (dk_at dksX0_isIn_0 13 rfl rfl)
theorem dX0_isIn_14 : decode cX0_isIn 14 = .ok (.goto 4, 3) := dk_167 0 4 (dk_at dksX0_isIn_0 14 rfl rfl)
theorem dX0_isIn_17 : decode cX0_isIn 17 = .ok (.iconst 0, 1) := dk_3 (dk_at dksX0_isIn_0 17 rfl rfl)
theorem dX0_isIn_18 : decode cX0_isIn 18 = .ok (.ireturn, 1) := dk_172 (dk_at dksX0_isIn_0 18 rfl rfl)
abbrev cX0_steps : ByteArray := prog_1_method_11_code
def yX0_steps : MethodName := ⟨RX0, "steps", "()V"⟩
def dkwX0_steps_1 : List UInt8 := [180, 0, 41, 182, 0, 242, 87, 42, 182, 0, 245, 177]
abbrev dktX0_steps_1 : List UInt8 := dkwX0_steps_1 ++ []
def dkwX0_steps_0 : List UInt8 := [42, 180, 0, 41, 42, 182, 0, 233, 182, 0, 237, 42, 180, 0, 41, 182, 0, 241, 16, 12, 164, 0, 11, 42]
abbrev dktX0_steps_0 : List UInt8 := dkwX0_steps_0 ++ dktX0_steps_1
theorem dksX0_steps_0 : cX0_steps.data.toList.drop 0 = dktX0_steps_0 := by decide +kernel
theorem dksX0_steps_1 : cX0_steps.data.toList.drop 24 = dktX0_steps_1 := dk_seg dksX0_steps_0 24 rfl rfl
theorem dX0_steps_0 : decode cX0_steps 0 = .ok (.aload_n 0, 1) := dk_42 (dk_at dksX0_steps_0 0 rfl rfl)
theorem dX0_steps_1 : decode cX0_steps 1 = .ok (.getfield 41, 3) := dk_180 0 41 (dk_at dksX0_steps_0 1 rfl rfl)
theorem dX0_steps_4 : decode cX0_steps 4 = .ok (.aload_n 0, 1) := dk_42 (dk_at dksX0_steps_0 4 rfl rfl)
theorem dX0_steps_5 : decode cX0_steps 5 = .ok (.invokevirtual 233, 3) := dk_182 0 233 (dk_at dksX0_steps_0 5 rfl rfl)
theorem dX0_steps_8 : decode cX0_steps 8 = .ok (.invokevirtual 237, 3) := dk_182 0 237 (dk_at dksX0_steps_0 8 rfl rfl)
theorem dX0_steps_11 : decode cX0_steps 11 = .ok (.aload_n 0, 1) := dk_42 (dk_at dksX0_steps_0 11 rfl rfl)
theorem dX0_steps_12 : decode cX0_steps 12 = .ok (.getfield 41, 3) := dk_180 0 41 (dk_at dksX0_steps_0 12 rfl rfl)
theorem dX0_steps_15 : decode cX0_steps 15 = .ok (.invokevirtual 241, 3) := dk_182 0 241 (dk_at dksX0_steps_0 15 rfl rfl)
theorem dX0_steps_18 : decode cX0_steps 18 = .ok (.bipush 12, 2) := dk_16 12 (dk_at dksX0_steps_0 18 rfl rfl)
theorem dX0_steps_20 : decode cX0_steps 20 = .ok (.if_icmp .le 11, 3) := dk_164 0 11 (dk_at dksX0_steps_0 20 rfl rfl)
theorem dX0_steps_23 : decode cX0_steps 23 = .ok (.aload_n 0, 1) := dk_42 (dk_at dksX0_steps_0 23 rfl rfl)
theorem dX0_steps_24 : decode cX0_steps 24 = .ok (.getfield 41, 3) := dk_180 0 41 (dk_at dksX0_steps_1 0 rfl rfl)
theorem dX0_steps_27 : decode cX0_steps 27 = .ok (.invokevirtual 242, 3) := dk_182 0 242 (dk_at dksX0_steps_1 3 rfl rfl)
theorem dX0_steps_30 : decode cX0_steps 30 = .ok (.pop, 1) := dk_87 (dk_at dksX0_steps_1 6 rfl rfl)
theorem dX0_steps_31 : decode cX0_steps 31 = .ok (.aload_n 0, 1) := dk_42 (dk_at dksX0_steps_1 7 rfl rfl)
theorem dX0_steps_32 : decode cX0_steps 32 = .ok (.invokevirtual 245, 3) := dk_182 0 245 (dk_at dksX0_steps_1 8 rfl rfl)
theorem dX0_steps_35 : decode cX0_steps 35 = .ok (.return_, 1) := dk_177 (dk_at dksX0_steps_1 11 rfl rfl)
abbrev cX0_shot : ByteArray := prog_1_method_10_code
def yX0_shot : MethodName := ⟨RX0, "shot", "()LFreightRoads$Shot;"⟩
def dkwX0_shot_3 : List UInt8 := [96, 181, 0, 226, 45, 182, 0, 229, 83, 167, 255, 217, 43, 176]
abbrev dktX0_shot_3 : List UInt8 := dkwX0_shot_3 ++ []
def dkwX0_shot_2 : List UInt8 := [153, 0, 36, 44, 185, 0, 169, 1, 0, 192, 0, 173, 78, 43, 180, 0, 223, 43, 89, 180, 0, 226, 90, 4]
abbrev dktX0_shot_2 : List UInt8 := dkwX0_shot_2 ++ dktX0_shot_3
def dkwX0_shot_1 : List UInt8 := [180, 0, 222, 3, 16, 8, 184, 0, 198, 42, 180, 0, 22, 182, 0, 159, 77, 44, 185, 0, 163, 1, 0]
abbrev dktX0_shot_1 : List UInt8 := dkwX0_shot_1 ++ dktX0_shot_2
def dkwX0_shot_0 : List UInt8 := [187, 0, 218, 89, 183, 0, 220, 76, 43, 42, 180, 0, 11, 181, 0, 221, 42, 180, 0, 15, 3, 43]
abbrev dktX0_shot_0 : List UInt8 := dkwX0_shot_0 ++ dktX0_shot_1
theorem dksX0_shot_0 : cX0_shot.data.toList.drop 0 = dktX0_shot_0 := by decide +kernel
theorem dksX0_shot_1 : cX0_shot.data.toList.drop 22 = dktX0_shot_1 := dk_seg dksX0_shot_0 22 rfl rfl
theorem dksX0_shot_2 : cX0_shot.data.toList.drop 45 = dktX0_shot_2 := dk_seg dksX0_shot_1 23 rfl rfl
theorem dksX0_shot_3 : cX0_shot.data.toList.drop 69 = dktX0_shot_3 := dk_seg dksX0_shot_2 24 rfl rfl
theorem dX0_shot_0 : decode cX0_shot 0 = .ok (.new 218, 3) := dk_187 0 218 (dk_at dksX0_shot_0 0 rfl rfl)
theorem dX0_shot_3 : decode cX0_shot 3 = .ok (.dup, 1) := dk_89 (dk_at dksX0_shot_0 3 rfl rfl)
theorem dX0_shot_4 : decode cX0_shot 4 = .ok (.invokespecial 220, 3) := dk_183 0 220 (dk_at dksX0_shot_0 4 rfl rfl)
theorem dX0_shot_7 : decode cX0_shot 7 = .ok (.astore_n 1, 1) := dk_76 (dk_at dksX0_shot_0 7 rfl rfl)
theorem dX0_shot_8 : decode cX0_shot 8 = .ok (.aload_n 1, 1) := dk_43 (dk_at dksX0_shot_0 8 rfl rfl)
theorem dX0_shot_9 : decode cX0_shot 9 = .ok (.aload_n 0, 1) := dk_42 (dk_at dksX0_shot_0 9 rfl rfl)
theorem dX0_shot_10 : decode cX0_shot 10 = .ok (.getfield 11, 3) := dk_180 0 11 (dk_at dksX0_shot_0 10 rfl rfl)
theorem dX0_shot_13 : decode cX0_shot 13 = .ok (.putfield 221, 3) := dk_181 0 221 (dk_at dksX0_shot_0 13 rfl rfl)
theorem dX0_shot_16 : decode cX0_shot 16 = .ok (.aload_n 0, 1) := dk_42 (dk_at dksX0_shot_0 16 rfl rfl)
theorem dX0_shot_17 : decode cX0_shot 17 = .ok (.getfield 15, 3) := dk_180 0 15 (dk_at dksX0_shot_0 17 rfl rfl)
theorem dX0_shot_20 : decode cX0_shot 20 = .ok (.iconst 0, 1) := dk_3 (dk_at dksX0_shot_0 20 rfl rfl)
theorem dX0_shot_21 : decode cX0_shot 21 = .ok (.aload_n 1, 1) := dk_43 (dk_at dksX0_shot_0 21 rfl rfl)
theorem dX0_shot_22 : decode cX0_shot 22 = .ok (.getfield 222, 3) := dk_180 0 222 (dk_at dksX0_shot_1 0 rfl rfl)
theorem dX0_shot_25 : decode cX0_shot 25 = .ok (.iconst 0, 1) := dk_3 (dk_at dksX0_shot_1 3 rfl rfl)
theorem dX0_shot_26 : decode cX0_shot 26 = .ok (.bipush 8, 2) := dk_16 8 (dk_at dksX0_shot_1 4 rfl rfl)
theorem dX0_shot_28 : decode cX0_shot 28 = .ok (.invokestatic 198, 3) := dk_184 0 198 (dk_at dksX0_shot_1 6 rfl rfl)
theorem dX0_shot_31 : decode cX0_shot 31 = .ok (.aload_n 0, 1) := dk_42 (dk_at dksX0_shot_1 9 rfl rfl)
theorem dX0_shot_32 : decode cX0_shot 32 = .ok (.getfield 22, 3) := dk_180 0 22 (dk_at dksX0_shot_1 10 rfl rfl)
theorem dX0_shot_35 : decode cX0_shot 35 = .ok (.invokevirtual 159, 3) := dk_182 0 159 (dk_at dksX0_shot_1 13 rfl rfl)
theorem dX0_shot_38 : decode cX0_shot 38 = .ok (.astore_n 2, 1) := dk_77 (dk_at dksX0_shot_1 16 rfl rfl)
theorem dX0_shot_39 : decode cX0_shot 39 = .ok (.aload_n 2, 1) := dk_44 (dk_at dksX0_shot_1 17 rfl rfl)
theorem dX0_shot_40 : decode cX0_shot 40 = .ok (.invokeinterface 163 1, 5) := by decide +kernel
theorem dX0_shot_45 : decode cX0_shot 45 = .ok (.ifCond .eq 36, 3) := dk_153 0 36 (dk_at dksX0_shot_2 0 rfl rfl)
theorem dX0_shot_48 : decode cX0_shot 48 = .ok (.aload_n 2, 1) := dk_44 (dk_at dksX0_shot_2 3 rfl rfl)
theorem dX0_shot_49 : decode cX0_shot 49 = .ok (.invokeinterface 169 1, 5) := by decide +kernel
theorem dX0_shot_54 : decode cX0_shot 54 = .ok (.checkcast 173, 3) := dk_192 0 173 (dk_at dksX0_shot_2 9 rfl rfl)
theorem dX0_shot_57 : decode cX0_shot 57 = .ok (.astore_n 3, 1) := dk_78 (dk_at dksX0_shot_2 12 rfl rfl)
theorem dX0_shot_58 : decode cX0_shot 58 = .ok (.aload_n 1, 1) := dk_43 (dk_at dksX0_shot_2 13 rfl rfl)
theorem dX0_shot_59 : decode cX0_shot 59 = .ok (.getfield 223, 3) := dk_180 0 223 (dk_at dksX0_shot_2 14 rfl rfl)
theorem dX0_shot_62 : decode cX0_shot 62 = .ok (.aload_n 1, 1) := dk_43 (dk_at dksX0_shot_2 17 rfl rfl)
theorem dX0_shot_63 : decode cX0_shot 63 = .ok (.dup, 1) := dk_89 (dk_at dksX0_shot_2 18 rfl rfl)
theorem dX0_shot_64 : decode cX0_shot 64 = .ok (.getfield 226, 3) := dk_180 0 226 (dk_at dksX0_shot_2 19 rfl rfl)
theorem dX0_shot_67 : decode cX0_shot 67 = .ok (.dup_x1, 1) := dk_90 (dk_at dksX0_shot_2 22 rfl rfl)
theorem dX0_shot_68 : decode cX0_shot 68 = .ok (.iconst 1, 1) := dk_4 (dk_at dksX0_shot_2 23 rfl rfl)
theorem dX0_shot_69 : decode cX0_shot 69 = .ok (.iadd, 1) := dk_96 (dk_at dksX0_shot_3 0 rfl rfl)
theorem dX0_shot_70 : decode cX0_shot 70 = .ok (.putfield 226, 3) := dk_181 0 226 (dk_at dksX0_shot_3 1 rfl rfl)
theorem dX0_shot_73 : decode cX0_shot 73 = .ok (.aload_n 3, 1) := dk_45 (dk_at dksX0_shot_3 4 rfl rfl)
theorem dX0_shot_74 : decode cX0_shot 74 = .ok (.invokevirtual 229, 3) := dk_182 0 229 (dk_at dksX0_shot_3 5 rfl rfl)
theorem dX0_shot_77 : decode cX0_shot 77 = .ok (.aastore, 1) := dk_83 (dk_at dksX0_shot_3 8 rfl rfl)
theorem dX0_shot_78 : decode cX0_shot 78 = .ok (.goto (-39), 3) := dk_167 255 217 (dk_at dksX0_shot_3 9 rfl rfl)
theorem dX0_shot_81 : decode cX0_shot 81 = .ok (.aload_n 1, 1) := dk_43 (dk_at dksX0_shot_3 12 rfl rfl)
theorem dX0_shot_82 : decode cX0_shot 82 = .ok (.areturn, 1) := dk_176 (dk_at dksX0_shot_3 13 rfl rfl)
abbrev cX0_supply : ByteArray := prog_1_method_15_code
def yX0_supply : MethodName := ⟨RX0, "supply", "(II)I"⟩
def dkwX0_supply_1 : List UInt8 := [16, 254, 172, 42, 182, 1, 10, 42, 180, 0, 15, 27, 28, 79, 4, 172]
abbrev dktX0_supply_1 : List UInt8 := dkwX0_supply_1 ++ []
def dkwX0_supply_0 : List UInt8 := [42, 27, 182, 0, 136, 154, 0, 5, 2, 172, 28, 133, 20, 1, 12, 20, 1, 14, 184, 0, 132, 154, 0, 6]
abbrev dktX0_supply_0 : List UInt8 := dkwX0_supply_0 ++ dktX0_supply_1
theorem dksX0_supply_0 : cX0_supply.data.toList.drop 0 = dktX0_supply_0 := by decide +kernel
theorem dksX0_supply_1 : cX0_supply.data.toList.drop 24 = dktX0_supply_1 := dk_seg dksX0_supply_0 24 rfl rfl
theorem dX0_supply_0 : decode cX0_supply 0 = .ok (.aload_n 0, 1) := dk_42 (dk_at dksX0_supply_0 0 rfl rfl)
theorem dX0_supply_1 : decode cX0_supply 1 = .ok (.iload_n 1, 1) := dk_27 (dk_at dksX0_supply_0 1 rfl rfl)
theorem dX0_supply_2 : decode cX0_supply 2 = .ok (.invokevirtual 136, 3) := dk_182 0 136 (dk_at dksX0_supply_0 2 rfl rfl)
theorem dX0_supply_5 : decode cX0_supply 5 = .ok (.ifCond .ne 5, 3) := dk_154 0 5 (dk_at dksX0_supply_0 5 rfl rfl)
theorem dX0_supply_8 : decode cX0_supply 8 = .ok (.iconst (-1), 1) := dk_2 (dk_at dksX0_supply_0 8 rfl rfl)
theorem dX0_supply_9 : decode cX0_supply 9 = .ok (.ireturn, 1) := dk_172 (dk_at dksX0_supply_0 9 rfl rfl)
theorem dX0_supply_10 : decode cX0_supply 10 = .ok (.iload_n 2, 1) := dk_28 (dk_at dksX0_supply_0 10 rfl rfl)
theorem dX0_supply_11 : decode cX0_supply 11 = .ok (.i2l, 1) := dk_133 (dk_at dksX0_supply_0 11 rfl rfl)
theorem dX0_supply_12 : decode cX0_supply 12 = .ok (.ldc2_w 268, 3) := dk_20 1 12 (dk_at dksX0_supply_0 12 rfl rfl)
theorem dX0_supply_15 : decode cX0_supply 15 = .ok (.ldc2_w 270, 3) := dk_20 1 14 (dk_at dksX0_supply_0 15 rfl rfl)
theorem dX0_supply_18 : decode cX0_supply 18 = .ok (.invokestatic 132, 3) := dk_184 0 132 (dk_at dksX0_supply_0 18 rfl rfl)
theorem dX0_supply_21 : decode cX0_supply 21 = .ok (.ifCond .ne 6, 3) := dk_154 0 6 (dk_at dksX0_supply_0 21 rfl rfl)
theorem dX0_supply_24 : decode cX0_supply 24 = .ok (.bipush (-2), 2) := dk_16 254 (dk_at dksX0_supply_1 0 rfl rfl)
theorem dX0_supply_26 : decode cX0_supply 26 = .ok (.ireturn, 1) := dk_172 (dk_at dksX0_supply_1 2 rfl rfl)
theorem dX0_supply_27 : decode cX0_supply 27 = .ok (.aload_n 0, 1) := dk_42 (dk_at dksX0_supply_1 3 rfl rfl)
theorem dX0_supply_28 : decode cX0_supply 28 = .ok (.invokevirtual 266, 3) := dk_182 1 10 (dk_at dksX0_supply_1 4 rfl rfl)
theorem dX0_supply_31 : decode cX0_supply 31 = .ok (.aload_n 0, 1) := dk_42 (dk_at dksX0_supply_1 7 rfl rfl)
theorem dX0_supply_32 : decode cX0_supply 32 = .ok (.getfield 15, 3) := dk_180 0 15 (dk_at dksX0_supply_1 8 rfl rfl)
theorem dX0_supply_35 : decode cX0_supply 35 = .ok (.iload_n 1, 1) := dk_27 (dk_at dksX0_supply_1 11 rfl rfl)
theorem dX0_supply_36 : decode cX0_supply 36 = .ok (.iload_n 2, 1) := dk_28 (dk_at dksX0_supply_1 12 rfl rfl)
theorem dX0_supply_37 : decode cX0_supply 37 = .ok (.iastore, 1) := dk_79 (dk_at dksX0_supply_1 13 rfl rfl)
theorem dX0_supply_38 : decode cX0_supply 38 = .ok (.iconst 1, 1) := dk_4 (dk_at dksX0_supply_1 14 rfl rfl)
theorem dX0_supply_39 : decode cX0_supply 39 = .ok (.ireturn, 1) := dk_172 (dk_at dksX0_supply_1 15 rfl rfl)
abbrev cX0_isTown : ByteArray := prog_1_method_3_code
def yX0_isTown : MethodName := ⟨RX0, "isTown", "(I)Z"⟩
def dkwX0_isTown_0 : List UInt8 := [27, 133, 9, 42, 180, 0, 11, 4, 100, 133, 184, 0, 132, 172]
abbrev dktX0_isTown_0 : List UInt8 := dkwX0_isTown_0 ++ []
theorem dksX0_isTown_0 : cX0_isTown.data.toList.drop 0 = dktX0_isTown_0 := by decide +kernel
theorem dX0_isTown_0 : decode cX0_isTown 0 = .ok (.iload_n 1, 1) := dk_27 (dk_at dksX0_isTown_0 0 rfl rfl)
theorem dX0_isTown_1 : decode cX0_isTown 1 = .ok (.i2l, 1) := dk_133 (dk_at dksX0_isTown_0 1 rfl rfl)
theorem dX0_isTown_2 : decode cX0_isTown 2 = .ok (.lconst 0, 1) := dk_9 (dk_at dksX0_isTown_0 2 rfl rfl)
theorem dX0_isTown_3 : decode cX0_isTown 3 = .ok (.aload_n 0, 1) := dk_42 (dk_at dksX0_isTown_0 3 rfl rfl)
theorem dX0_isTown_4 : decode cX0_isTown 4 = .ok (.getfield 11, 3) := dk_180 0 11 (dk_at dksX0_isTown_0 4 rfl rfl)
theorem dX0_isTown_7 : decode cX0_isTown 7 = .ok (.iconst 1, 1) := dk_4 (dk_at dksX0_isTown_0 7 rfl rfl)
theorem dX0_isTown_8 : decode cX0_isTown 8 = .ok (.isub, 1) := dk_100 (dk_at dksX0_isTown_0 8 rfl rfl)
theorem dX0_isTown_9 : decode cX0_isTown 9 = .ok (.i2l, 1) := dk_133 (dk_at dksX0_isTown_0 9 rfl rfl)
theorem dX0_isTown_10 : decode cX0_isTown 10 = .ok (.invokestatic 132, 3) := dk_184 0 132 (dk_at dksX0_isTown_0 10 rfl rfl)
theorem dX0_isTown_13 : decode cX0_isTown 13 = .ok (.ireturn, 1) := dk_172 (dk_at dksX0_isTown_0 13 rfl rfl)
abbrev cX0_road : ByteArray := prog_1_method_16_code
def yX0_road : MethodName := ⟨RX0, "road", "(IIIIJ)I"⟩
def dkwX0_road_3 : List UInt8 := [182, 0, 140, 4, 100, 172]
abbrev dktX0_road_3 : List UInt8 := dkwX0_road_3 ++ []
def dkwX0_road_2 : List UInt8 := [187, 0, 173, 89, 27, 28, 183, 1, 24, 29, 21, 4, 22, 5, 182, 1, 27, 182, 0, 251, 42, 180, 0, 22]
abbrev dktX0_road_2 : List UInt8 := dkwX0_road_2 ++ dktX0_road_3
def dkwX0_road_1 : List UInt8 := [172, 42, 180, 0, 22, 182, 0, 140, 16, 24, 160, 0, 6, 16, 252, 172, 42, 182, 1, 10, 42, 180, 0, 22]
abbrev dktX0_road_1 : List UInt8 := dkwX0_road_1 ++ dktX0_road_2
def dkwX0_road_0 : List UInt8 := [42, 27, 28, 182, 1, 16, 154, 0, 5, 2, 172, 29, 21, 4, 22, 5, 184, 1, 20, 154, 0, 6, 16, 254]
abbrev dktX0_road_0 : List UInt8 := dkwX0_road_0 ++ dktX0_road_1
theorem dksX0_road_0 : cX0_road.data.toList.drop 0 = dktX0_road_0 := by decide +kernel
theorem dksX0_road_1 : cX0_road.data.toList.drop 24 = dktX0_road_1 := dk_seg dksX0_road_0 24 rfl rfl
theorem dksX0_road_2 : cX0_road.data.toList.drop 48 = dktX0_road_2 := dk_seg dksX0_road_1 24 rfl rfl
theorem dksX0_road_3 : cX0_road.data.toList.drop 72 = dktX0_road_3 := dk_seg dksX0_road_2 24 rfl rfl
theorem dX0_road_0 : decode cX0_road 0 = .ok (.aload_n 0, 1) := dk_42 (dk_at dksX0_road_0 0 rfl rfl)
theorem dX0_road_1 : decode cX0_road 1 = .ok (.iload_n 1, 1) := dk_27 (dk_at dksX0_road_0 1 rfl rfl)
theorem dX0_road_2 : decode cX0_road 2 = .ok (.iload_n 2, 1) := dk_28 (dk_at dksX0_road_0 2 rfl rfl)
theorem dX0_road_3 : decode cX0_road 3 = .ok (.invokevirtual 272, 3) := dk_182 1 16 (dk_at dksX0_road_0 3 rfl rfl)
theorem dX0_road_6 : decode cX0_road 6 = .ok (.ifCond .ne 5, 3) := dk_154 0 5 (dk_at dksX0_road_0 6 rfl rfl)
theorem dX0_road_9 : decode cX0_road 9 = .ok (.iconst (-1), 1) := dk_2 (dk_at dksX0_road_0 9 rfl rfl)
theorem dX0_road_10 : decode cX0_road 10 = .ok (.ireturn, 1) := dk_172 (dk_at dksX0_road_0 10 rfl rfl)
theorem dX0_road_11 : decode cX0_road 11 = .ok (.iload_n 3, 1) := dk_29 (dk_at dksX0_road_0 11 rfl rfl)
theorem dX0_road_12 : decode cX0_road 12 = .ok (.iload 4, 2) := dk_21 4 (dk_at dksX0_road_0 12 rfl rfl)
theorem dX0_road_14 : decode cX0_road 14 = .ok (.lload 5, 2) := dk_22 5 (dk_at dksX0_road_0 14 rfl rfl)
theorem dX0_road_16 : decode cX0_road 16 = .ok (.invokestatic 276, 3) := dk_184 1 20 (dk_at dksX0_road_0 16 rfl rfl)
theorem dX0_road_19 : decode cX0_road 19 = .ok (.ifCond .ne 6, 3) := dk_154 0 6 (dk_at dksX0_road_0 19 rfl rfl)
theorem dX0_road_22 : decode cX0_road 22 = .ok (.bipush (-2), 2) := dk_16 254 (dk_at dksX0_road_0 22 rfl rfl)
theorem dX0_road_24 : decode cX0_road 24 = .ok (.ireturn, 1) := dk_172 (dk_at dksX0_road_1 0 rfl rfl)
theorem dX0_road_25 : decode cX0_road 25 = .ok (.aload_n 0, 1) := dk_42 (dk_at dksX0_road_1 1 rfl rfl)
theorem dX0_road_26 : decode cX0_road 26 = .ok (.getfield 22, 3) := dk_180 0 22 (dk_at dksX0_road_1 2 rfl rfl)
theorem dX0_road_29 : decode cX0_road 29 = .ok (.invokevirtual 140, 3) := dk_182 0 140 (dk_at dksX0_road_1 5 rfl rfl)
theorem dX0_road_32 : decode cX0_road 32 = .ok (.bipush 24, 2) := dk_16 24 (dk_at dksX0_road_1 8 rfl rfl)
theorem dX0_road_34 : decode cX0_road 34 = .ok (.if_icmp .ne 6, 3) := dk_160 0 6 (dk_at dksX0_road_1 10 rfl rfl)
theorem dX0_road_37 : decode cX0_road 37 = .ok (.bipush (-4), 2) := dk_16 252 (dk_at dksX0_road_1 13 rfl rfl)
theorem dX0_road_39 : decode cX0_road 39 = .ok (.ireturn, 1) := dk_172 (dk_at dksX0_road_1 15 rfl rfl)
theorem dX0_road_40 : decode cX0_road 40 = .ok (.aload_n 0, 1) := dk_42 (dk_at dksX0_road_1 16 rfl rfl)
theorem dX0_road_41 : decode cX0_road 41 = .ok (.invokevirtual 266, 3) := dk_182 1 10 (dk_at dksX0_road_1 17 rfl rfl)
theorem dX0_road_44 : decode cX0_road 44 = .ok (.aload_n 0, 1) := dk_42 (dk_at dksX0_road_1 20 rfl rfl)
theorem dX0_road_45 : decode cX0_road 45 = .ok (.getfield 22, 3) := dk_180 0 22 (dk_at dksX0_road_1 21 rfl rfl)
theorem dX0_road_48 : decode cX0_road 48 = .ok (.new 173, 3) := dk_187 0 173 (dk_at dksX0_road_2 0 rfl rfl)
theorem dX0_road_51 : decode cX0_road 51 = .ok (.dup, 1) := dk_89 (dk_at dksX0_road_2 3 rfl rfl)
theorem dX0_road_52 : decode cX0_road 52 = .ok (.iload_n 1, 1) := dk_27 (dk_at dksX0_road_2 4 rfl rfl)
theorem dX0_road_53 : decode cX0_road 53 = .ok (.iload_n 2, 1) := dk_28 (dk_at dksX0_road_2 5 rfl rfl)
theorem dX0_road_54 : decode cX0_road 54 = .ok (.invokespecial 280, 3) := dk_183 1 24 (dk_at dksX0_road_2 6 rfl rfl)
theorem dX0_road_57 : decode cX0_road 57 = .ok (.iload_n 3, 1) := dk_29 (dk_at dksX0_road_2 9 rfl rfl)
theorem dX0_road_58 : decode cX0_road 58 = .ok (.iload 4, 2) := dk_21 4 (dk_at dksX0_road_2 10 rfl rfl)
theorem dX0_road_60 : decode cX0_road 60 = .ok (.lload 5, 2) := dk_22 5 (dk_at dksX0_road_2 12 rfl rfl)
theorem dX0_road_62 : decode cX0_road 62 = .ok (.invokevirtual 283, 3) := dk_182 1 27 (dk_at dksX0_road_2 14 rfl rfl)
theorem dX0_road_65 : decode cX0_road 65 = .ok (.invokevirtual 251, 3) := dk_182 0 251 (dk_at dksX0_road_2 17 rfl rfl)
theorem dX0_road_68 : decode cX0_road 68 = .ok (.aload_n 0, 1) := dk_42 (dk_at dksX0_road_2 20 rfl rfl)
theorem dX0_road_69 : decode cX0_road 69 = .ok (.getfield 22, 3) := dk_180 0 22 (dk_at dksX0_road_2 21 rfl rfl)
theorem dX0_road_72 : decode cX0_road 72 = .ok (.invokevirtual 140, 3) := dk_182 0 140 (dk_at dksX0_road_3 0 rfl rfl)
theorem dX0_road_75 : decode cX0_road 75 = .ok (.iconst 1, 1) := dk_4 (dk_at dksX0_road_3 3 rfl rfl)
theorem dX0_road_76 : decode cX0_road 76 = .ok (.isub, 1) := dk_100 (dk_at dksX0_road_3 4 rfl rfl)
theorem dX0_road_77 : decode cX0_road 77 = .ok (.ireturn, 1) := dk_172 (dk_at dksX0_road_3 5 rfl rfl)
abbrev cX0_areTowns : ByteArray := prog_1_method_4_code
def yX0_areTowns : MethodName := ⟨RX0, "areTowns", "(II)Z"⟩
def dkwX0_areTowns_1 : List UInt8 := [167, 0, 4, 3, 172]
abbrev dktX0_areTowns_1 : List UInt8 := dkwX0_areTowns_1 ++ []
def dkwX0_areTowns_0 : List UInt8 := [42, 27, 182, 0, 136, 153, 0, 20, 42, 28, 182, 0, 136, 153, 0, 12, 27, 28, 159, 0, 7, 4]
abbrev dktX0_areTowns_0 : List UInt8 := dkwX0_areTowns_0 ++ dktX0_areTowns_1
theorem dksX0_areTowns_0 : cX0_areTowns.data.toList.drop 0 = dktX0_areTowns_0 := by decide +kernel
theorem dksX0_areTowns_1 : cX0_areTowns.data.toList.drop 22 = dktX0_areTowns_1 := dk_seg dksX0_areTowns_0 22 rfl rfl
theorem dX0_areTowns_0 : decode cX0_areTowns 0 = .ok (.aload_n 0, 1) := dk_42 (dk_at dksX0_areTowns_0 0 rfl rfl)
theorem dX0_areTowns_1 : decode cX0_areTowns 1 = .ok (.iload_n 1, 1) := dk_27 (dk_at dksX0_areTowns_0 1 rfl rfl)
theorem dX0_areTowns_2 : decode cX0_areTowns 2 = .ok (.invokevirtual 136, 3) := dk_182 0 136 (dk_at dksX0_areTowns_0 2 rfl rfl)
theorem dX0_areTowns_5 : decode cX0_areTowns 5 = .ok (.ifCond .eq 20, 3) := dk_153 0 20 (dk_at dksX0_areTowns_0 5 rfl rfl)
theorem dX0_areTowns_8 : decode cX0_areTowns 8 = .ok (.aload_n 0, 1) := dk_42 (dk_at dksX0_areTowns_0 8 rfl rfl)
theorem dX0_areTowns_9 : decode cX0_areTowns 9 = .ok (.iload_n 2, 1) := dk_28 (dk_at dksX0_areTowns_0 9 rfl rfl)
theorem dX0_areTowns_10 : decode cX0_areTowns 10 = .ok (.invokevirtual 136, 3) := dk_182 0 136 (dk_at dksX0_areTowns_0 10 rfl rfl)
theorem dX0_areTowns_13 : decode cX0_areTowns 13 = .ok (.ifCond .eq 12, 3) := dk_153 0 12 (dk_at dksX0_areTowns_0 13 rfl rfl)
theorem dX0_areTowns_16 : decode cX0_areTowns 16 = .ok (.iload_n 1, 1) := dk_27 (dk_at dksX0_areTowns_0 16 rfl rfl)
theorem dX0_areTowns_17 : decode cX0_areTowns 17 = .ok (.iload_n 2, 1) := dk_28 (dk_at dksX0_areTowns_0 17 rfl rfl)
theorem dX0_areTowns_18 : decode cX0_areTowns 18 = .ok (.if_icmp .eq 7, 3) := dk_159 0 7 (dk_at dksX0_areTowns_0 18 rfl rfl)
theorem dX0_areTowns_21 : decode cX0_areTowns 21 = .ok (.iconst 1, 1) := dk_4 (dk_at dksX0_areTowns_0 21 rfl rfl)
theorem dX0_areTowns_22 : decode cX0_areTowns 22 = .ok (.goto 4, 3) := dk_167 0 4 (dk_at dksX0_areTowns_1 0 rfl rfl)
theorem dX0_areTowns_25 : decode cX0_areTowns 25 = .ok (.iconst 0, 1) := dk_3 (dk_at dksX0_areTowns_1 3 rfl rfl)
theorem dX0_areTowns_26 : decode cX0_areTowns 26 = .ok (.ireturn, 1) := dk_172 (dk_at dksX0_areTowns_1 4 rfl rfl)
abbrev cX0_alter : ByteArray := prog_1_method_17_code
def yX0_alter : MethodName := ⟨RX0, "alter", "(IIIJ)I"⟩
def dkwX0_alter_1 : List UInt8 := [182, 1, 10, 42, 180, 0, 22, 27, 182, 1, 34, 192, 0, 173, 28, 29, 22, 4, 182, 1, 27, 87, 4, 172]
abbrev dktX0_alter_1 : List UInt8 := dkwX0_alter_1 ++ []
def dkwX0_alter_0 : List UInt8 := [42, 27, 182, 1, 31, 154, 0, 5, 2, 172, 28, 29, 22, 4, 184, 1, 20, 154, 0, 6, 16, 254, 172, 42]
abbrev dktX0_alter_0 : List UInt8 := dkwX0_alter_0 ++ dktX0_alter_1
theorem dksX0_alter_0 : cX0_alter.data.toList.drop 0 = dktX0_alter_0 := by decide +kernel
theorem dksX0_alter_1 : cX0_alter.data.toList.drop 24 = dktX0_alter_1 := dk_seg dksX0_alter_0 24 rfl rfl
theorem dX0_alter_0 : decode cX0_alter 0 = .ok (.aload_n 0, 1) := dk_42 (dk_at dksX0_alter_0 0 rfl rfl)
theorem dX0_alter_1 : decode cX0_alter 1 = .ok (.iload_n 1, 1) := dk_27 (dk_at dksX0_alter_0 1 rfl rfl)
theorem dX0_alter_2 : decode cX0_alter 2 = .ok (.invokevirtual 287, 3) := dk_182 1 31 (dk_at dksX0_alter_0 2 rfl rfl)
theorem dX0_alter_5 : decode cX0_alter 5 = .ok (.ifCond .ne 5, 3) := dk_154 0 5 (dk_at dksX0_alter_0 5 rfl rfl)
theorem dX0_alter_8 : decode cX0_alter 8 = .ok (.iconst (-1), 1) := dk_2 (dk_at dksX0_alter_0 8 rfl rfl)
theorem dX0_alter_9 : decode cX0_alter 9 = .ok (.ireturn, 1) := dk_172 (dk_at dksX0_alter_0 9 rfl rfl)
theorem dX0_alter_10 : decode cX0_alter 10 = .ok (.iload_n 2, 1) := dk_28 (dk_at dksX0_alter_0 10 rfl rfl)
theorem dX0_alter_11 : decode cX0_alter 11 = .ok (.iload_n 3, 1) := dk_29 (dk_at dksX0_alter_0 11 rfl rfl)
theorem dX0_alter_12 : decode cX0_alter 12 = .ok (.lload 4, 2) := dk_22 4 (dk_at dksX0_alter_0 12 rfl rfl)
theorem dX0_alter_14 : decode cX0_alter 14 = .ok (.invokestatic 276, 3) := dk_184 1 20 (dk_at dksX0_alter_0 14 rfl rfl)
theorem dX0_alter_17 : decode cX0_alter 17 = .ok (.ifCond .ne 6, 3) := dk_154 0 6 (dk_at dksX0_alter_0 17 rfl rfl)
theorem dX0_alter_20 : decode cX0_alter 20 = .ok (.bipush (-2), 2) := dk_16 254 (dk_at dksX0_alter_0 20 rfl rfl)
theorem dX0_alter_22 : decode cX0_alter 22 = .ok (.ireturn, 1) := dk_172 (dk_at dksX0_alter_0 22 rfl rfl)
theorem dX0_alter_23 : decode cX0_alter 23 = .ok (.aload_n 0, 1) := dk_42 (dk_at dksX0_alter_0 23 rfl rfl)
theorem dX0_alter_24 : decode cX0_alter 24 = .ok (.invokevirtual 266, 3) := dk_182 1 10 (dk_at dksX0_alter_1 0 rfl rfl)
theorem dX0_alter_27 : decode cX0_alter 27 = .ok (.aload_n 0, 1) := dk_42 (dk_at dksX0_alter_1 3 rfl rfl)
theorem dX0_alter_28 : decode cX0_alter 28 = .ok (.getfield 22, 3) := dk_180 0 22 (dk_at dksX0_alter_1 4 rfl rfl)
theorem dX0_alter_31 : decode cX0_alter 31 = .ok (.iload_n 1, 1) := dk_27 (dk_at dksX0_alter_1 7 rfl rfl)
theorem dX0_alter_32 : decode cX0_alter 32 = .ok (.invokevirtual 290, 3) := dk_182 1 34 (dk_at dksX0_alter_1 8 rfl rfl)
theorem dX0_alter_35 : decode cX0_alter 35 = .ok (.checkcast 173, 3) := dk_192 0 173 (dk_at dksX0_alter_1 11 rfl rfl)
theorem dX0_alter_38 : decode cX0_alter 38 = .ok (.iload_n 2, 1) := dk_28 (dk_at dksX0_alter_1 14 rfl rfl)
theorem dX0_alter_39 : decode cX0_alter 39 = .ok (.iload_n 3, 1) := dk_29 (dk_at dksX0_alter_1 15 rfl rfl)
theorem dX0_alter_40 : decode cX0_alter 40 = .ok (.lload 4, 2) := dk_22 4 (dk_at dksX0_alter_1 16 rfl rfl)
theorem dX0_alter_42 : decode cX0_alter 42 = .ok (.invokevirtual 283, 3) := dk_182 1 27 (dk_at dksX0_alter_1 18 rfl rfl)
theorem dX0_alter_45 : decode cX0_alter 45 = .ok (.pop, 1) := dk_87 (dk_at dksX0_alter_1 21 rfl rfl)
theorem dX0_alter_46 : decode cX0_alter 46 = .ok (.iconst 1, 1) := dk_4 (dk_at dksX0_alter_1 22 rfl rfl)
theorem dX0_alter_47 : decode cX0_alter 47 = .ok (.ireturn, 1) := dk_172 (dk_at dksX0_alter_1 23 rfl rfl)
abbrev cX0_isRoad : ByteArray := prog_1_method_5_code
def yX0_isRoad : MethodName := ⟨RX0, "isRoad", "(I)Z"⟩
def dkwX0_isRoad_0 : List UInt8 := [27, 133, 9, 42, 180, 0, 22, 182, 0, 140, 4, 100, 133, 184, 0, 132, 172]
abbrev dktX0_isRoad_0 : List UInt8 := dkwX0_isRoad_0 ++ []
theorem dksX0_isRoad_0 : cX0_isRoad.data.toList.drop 0 = dktX0_isRoad_0 := by decide +kernel
theorem dX0_isRoad_0 : decode cX0_isRoad 0 = .ok (.iload_n 1, 1) := dk_27 (dk_at dksX0_isRoad_0 0 rfl rfl)
theorem dX0_isRoad_1 : decode cX0_isRoad 1 = .ok (.i2l, 1) := dk_133 (dk_at dksX0_isRoad_0 1 rfl rfl)
theorem dX0_isRoad_2 : decode cX0_isRoad 2 = .ok (.lconst 0, 1) := dk_9 (dk_at dksX0_isRoad_0 2 rfl rfl)
theorem dX0_isRoad_3 : decode cX0_isRoad 3 = .ok (.aload_n 0, 1) := dk_42 (dk_at dksX0_isRoad_0 3 rfl rfl)
theorem dX0_isRoad_4 : decode cX0_isRoad 4 = .ok (.getfield 22, 3) := dk_180 0 22 (dk_at dksX0_isRoad_0 4 rfl rfl)
theorem dX0_isRoad_7 : decode cX0_isRoad 7 = .ok (.invokevirtual 140, 3) := dk_182 0 140 (dk_at dksX0_isRoad_0 7 rfl rfl)
theorem dX0_isRoad_10 : decode cX0_isRoad 10 = .ok (.iconst 1, 1) := dk_4 (dk_at dksX0_isRoad_0 10 rfl rfl)
theorem dX0_isRoad_11 : decode cX0_isRoad 11 = .ok (.isub, 1) := dk_100 (dk_at dksX0_isRoad_0 11 rfl rfl)
theorem dX0_isRoad_12 : decode cX0_isRoad 12 = .ok (.i2l, 1) := dk_133 (dk_at dksX0_isRoad_0 12 rfl rfl)
theorem dX0_isRoad_13 : decode cX0_isRoad 13 = .ok (.invokestatic 132, 3) := dk_184 0 132 (dk_at dksX0_isRoad_0 13 rfl rfl)
theorem dX0_isRoad_16 : decode cX0_isRoad 16 = .ok (.ireturn, 1) := dk_172 (dk_at dksX0_isRoad_0 16 rfl rfl)
abbrev cX0_close : ByteArray := prog_1_method_18_code
def yX0_close : MethodName := ⟨RX0, "close", "(I)I"⟩
def dkwX0_close_2 : List UInt8 := [185, 1, 38, 1, 0, 132, 3, 1, 167, 255, 226, 42, 180, 0, 22, 182, 0, 140, 172]
abbrev dktX0_close_2 : List UInt8 := dkwX0_close_2 ++ []
def dkwX0_close_1 : List UInt8 := [44, 185, 0, 163, 1, 0, 153, 0, 27, 44, 185, 0, 169, 1, 0, 87, 29, 27, 160, 0, 9, 44]
abbrev dktX0_close_1 : List UInt8 := dkwX0_close_1 ++ dktX0_close_2
def dkwX0_close_0 : List UInt8 := [42, 27, 182, 1, 31, 154, 0, 5, 2, 172, 42, 182, 1, 10, 42, 180, 0, 22, 182, 0, 159, 77, 3, 62]
abbrev dktX0_close_0 : List UInt8 := dkwX0_close_0 ++ dktX0_close_1
theorem dksX0_close_0 : cX0_close.data.toList.drop 0 = dktX0_close_0 := by decide +kernel
theorem dksX0_close_1 : cX0_close.data.toList.drop 24 = dktX0_close_1 := dk_seg dksX0_close_0 24 rfl rfl
theorem dksX0_close_2 : cX0_close.data.toList.drop 46 = dktX0_close_2 := dk_seg dksX0_close_1 22 rfl rfl
theorem dX0_close_0 : decode cX0_close 0 = .ok (.aload_n 0, 1) := dk_42 (dk_at dksX0_close_0 0 rfl rfl)
theorem dX0_close_1 : decode cX0_close 1 = .ok (.iload_n 1, 1) := dk_27 (dk_at dksX0_close_0 1 rfl rfl)
theorem dX0_close_2 : decode cX0_close 2 = .ok (.invokevirtual 287, 3) := dk_182 1 31 (dk_at dksX0_close_0 2 rfl rfl)
theorem dX0_close_5 : decode cX0_close 5 = .ok (.ifCond .ne 5, 3) := dk_154 0 5 (dk_at dksX0_close_0 5 rfl rfl)
theorem dX0_close_8 : decode cX0_close 8 = .ok (.iconst (-1), 1) := dk_2 (dk_at dksX0_close_0 8 rfl rfl)
theorem dX0_close_9 : decode cX0_close 9 = .ok (.ireturn, 1) := dk_172 (dk_at dksX0_close_0 9 rfl rfl)
theorem dX0_close_10 : decode cX0_close 10 = .ok (.aload_n 0, 1) := dk_42 (dk_at dksX0_close_0 10 rfl rfl)
theorem dX0_close_11 : decode cX0_close 11 = .ok (.invokevirtual 266, 3) := dk_182 1 10 (dk_at dksX0_close_0 11 rfl rfl)
theorem dX0_close_14 : decode cX0_close 14 = .ok (.aload_n 0, 1) := dk_42 (dk_at dksX0_close_0 14 rfl rfl)
theorem dX0_close_15 : decode cX0_close 15 = .ok (.getfield 22, 3) := dk_180 0 22 (dk_at dksX0_close_0 15 rfl rfl)
theorem dX0_close_18 : decode cX0_close 18 = .ok (.invokevirtual 159, 3) := dk_182 0 159 (dk_at dksX0_close_0 18 rfl rfl)
theorem dX0_close_21 : decode cX0_close 21 = .ok (.astore_n 2, 1) := dk_77 (dk_at dksX0_close_0 21 rfl rfl)
theorem dX0_close_22 : decode cX0_close 22 = .ok (.iconst 0, 1) := dk_3 (dk_at dksX0_close_0 22 rfl rfl)
theorem dX0_close_23 : decode cX0_close 23 = .ok (.istore_n 3, 1) := dk_62 (dk_at dksX0_close_0 23 rfl rfl)
theorem dX0_close_24 : decode cX0_close 24 = .ok (.aload_n 2, 1) := dk_44 (dk_at dksX0_close_1 0 rfl rfl)
theorem dX0_close_25 : decode cX0_close 25 = .ok (.invokeinterface 163 1, 5) := by decide +kernel
theorem dX0_close_30 : decode cX0_close 30 = .ok (.ifCond .eq 27, 3) := dk_153 0 27 (dk_at dksX0_close_1 6 rfl rfl)
theorem dX0_close_33 : decode cX0_close 33 = .ok (.aload_n 2, 1) := dk_44 (dk_at dksX0_close_1 9 rfl rfl)
theorem dX0_close_34 : decode cX0_close 34 = .ok (.invokeinterface 169 1, 5) := by decide +kernel
theorem dX0_close_39 : decode cX0_close 39 = .ok (.pop, 1) := dk_87 (dk_at dksX0_close_1 15 rfl rfl)
theorem dX0_close_40 : decode cX0_close 40 = .ok (.iload_n 3, 1) := dk_29 (dk_at dksX0_close_1 16 rfl rfl)
theorem dX0_close_41 : decode cX0_close 41 = .ok (.iload_n 1, 1) := dk_27 (dk_at dksX0_close_1 17 rfl rfl)
theorem dX0_close_42 : decode cX0_close 42 = .ok (.if_icmp .ne 9, 3) := dk_160 0 9 (dk_at dksX0_close_1 18 rfl rfl)
theorem dX0_close_45 : decode cX0_close 45 = .ok (.aload_n 2, 1) := dk_44 (dk_at dksX0_close_1 21 rfl rfl)
theorem dX0_close_46 : decode cX0_close 46 = .ok (.invokeinterface 294 1, 5) := by decide +kernel
theorem dX0_close_51 : decode cX0_close 51 = .ok (.iinc 3 1, 3) := dk_132 3 1 (dk_at dksX0_close_2 5 rfl rfl)
theorem dX0_close_54 : decode cX0_close 54 = .ok (.goto (-30), 3) := dk_167 255 226 (dk_at dksX0_close_2 8 rfl rfl)
theorem dX0_close_57 : decode cX0_close 57 = .ok (.aload_n 0, 1) := dk_42 (dk_at dksX0_close_2 11 rfl rfl)
theorem dX0_close_58 : decode cX0_close 58 = .ok (.getfield 22, 3) := dk_180 0 22 (dk_at dksX0_close_2 12 rfl rfl)
theorem dX0_close_61 : decode cX0_close 61 = .ok (.invokevirtual 140, 3) := dk_182 0 140 (dk_at dksX0_close_2 15 rfl rfl)
theorem dX0_close_64 : decode cX0_close 64 = .ok (.ireturn, 1) := dk_172 (dk_at dksX0_close_2 18 rfl rfl)
abbrev cX0_of : ByteArray := prog_1_method_19_code
def yX0_of : MethodName := ⟨RX0, "of", "(II)J"⟩
def dkwX0_of_1 : List UInt8 := [27, 182, 1, 34, 192, 0, 173, 28, 182, 1, 43, 167, 0, 6, 20, 1, 47, 173]
abbrev dktX0_of_1 : List UInt8 := dkwX0_of_1 ++ []
def dkwX0_of_0 : List UInt8 := [42, 27, 182, 1, 31, 153, 0, 33, 28, 133, 9, 20, 1, 41, 184, 0, 132, 153, 0, 21, 42, 180, 0, 22]
abbrev dktX0_of_0 : List UInt8 := dkwX0_of_0 ++ dktX0_of_1
theorem dksX0_of_0 : cX0_of.data.toList.drop 0 = dktX0_of_0 := by decide +kernel
theorem dksX0_of_1 : cX0_of.data.toList.drop 24 = dktX0_of_1 := dk_seg dksX0_of_0 24 rfl rfl
theorem dX0_of_0 : decode cX0_of 0 = .ok (.aload_n 0, 1) := dk_42 (dk_at dksX0_of_0 0 rfl rfl)
theorem dX0_of_1 : decode cX0_of 1 = .ok (.iload_n 1, 1) := dk_27 (dk_at dksX0_of_0 1 rfl rfl)
theorem dX0_of_2 : decode cX0_of 2 = .ok (.invokevirtual 287, 3) := dk_182 1 31 (dk_at dksX0_of_0 2 rfl rfl)
theorem dX0_of_5 : decode cX0_of 5 = .ok (.ifCond .eq 33, 3) := dk_153 0 33 (dk_at dksX0_of_0 5 rfl rfl)
theorem dX0_of_8 : decode cX0_of 8 = .ok (.iload_n 2, 1) := dk_28 (dk_at dksX0_of_0 8 rfl rfl)
theorem dX0_of_9 : decode cX0_of 9 = .ok (.i2l, 1) := dk_133 (dk_at dksX0_of_0 9 rfl rfl)
theorem dX0_of_10 : decode cX0_of 10 = .ok (.lconst 0, 1) := dk_9 (dk_at dksX0_of_0 10 rfl rfl)
theorem dX0_of_11 : decode cX0_of 11 = .ok (.ldc2_w 297, 3) := dk_20 1 41 (dk_at dksX0_of_0 11 rfl rfl)
theorem dX0_of_14 : decode cX0_of 14 = .ok (.invokestatic 132, 3) := dk_184 0 132 (dk_at dksX0_of_0 14 rfl rfl)
theorem dX0_of_17 : decode cX0_of 17 = .ok (.ifCond .eq 21, 3) := dk_153 0 21 (dk_at dksX0_of_0 17 rfl rfl)
theorem dX0_of_20 : decode cX0_of 20 = .ok (.aload_n 0, 1) := dk_42 (dk_at dksX0_of_0 20 rfl rfl)
theorem dX0_of_21 : decode cX0_of 21 = .ok (.getfield 22, 3) := dk_180 0 22 (dk_at dksX0_of_0 21 rfl rfl)
theorem dX0_of_24 : decode cX0_of 24 = .ok (.iload_n 1, 1) := dk_27 (dk_at dksX0_of_1 0 rfl rfl)
theorem dX0_of_25 : decode cX0_of 25 = .ok (.invokevirtual 290, 3) := dk_182 1 34 (dk_at dksX0_of_1 1 rfl rfl)
theorem dX0_of_28 : decode cX0_of 28 = .ok (.checkcast 173, 3) := dk_192 0 173 (dk_at dksX0_of_1 4 rfl rfl)
theorem dX0_of_31 : decode cX0_of 31 = .ok (.iload_n 2, 1) := dk_28 (dk_at dksX0_of_1 7 rfl rfl)
theorem dX0_of_32 : decode cX0_of 32 = .ok (.invokevirtual 299, 3) := dk_182 1 43 (dk_at dksX0_of_1 8 rfl rfl)
theorem dX0_of_35 : decode cX0_of 35 = .ok (.goto 6, 3) := dk_167 0 6 (dk_at dksX0_of_1 11 rfl rfl)
theorem dX0_of_38 : decode cX0_of 38 = .ok (.ldc2_w 303, 3) := dk_20 1 47 (dk_at dksX0_of_1 14 rfl rfl)
theorem dX0_of_41 : decode cX0_of 41 = .ok (.lreturn, 1) := dk_173 (dk_at dksX0_of_1 17 rfl rfl)
abbrev cX0_feed : ByteArray := prog_1_method_20_code
def yX0_feed : MethodName := ⟨RX0, "feed", "(I)I"⟩
def dkwX0_feed_2 : List UInt8 := [180, 1, 51, 172]
abbrev dktX0_feed_2 : List UInt8 := dkwX0_feed_2 ++ []
def dkwX0_feed_1 : List UInt8 := [16, 252, 172, 42, 180, 0, 45, 42, 89, 180, 1, 51, 90, 4, 96, 181, 1, 51, 27, 145, 84, 42]
abbrev dktX0_feed_1 : List UInt8 := dkwX0_feed_1 ++ dktX0_feed_2
def dkwX0_feed_0 : List UInt8 := [27, 133, 10, 20, 1, 49, 184, 0, 132, 154, 0, 6, 16, 254, 172, 42, 180, 1, 51, 16, 120, 160, 0, 6]
abbrev dktX0_feed_0 : List UInt8 := dkwX0_feed_0 ++ dktX0_feed_1
theorem dksX0_feed_0 : cX0_feed.data.toList.drop 0 = dktX0_feed_0 := by decide +kernel
theorem dksX0_feed_1 : cX0_feed.data.toList.drop 24 = dktX0_feed_1 := dk_seg dksX0_feed_0 24 rfl rfl
theorem dksX0_feed_2 : cX0_feed.data.toList.drop 46 = dktX0_feed_2 := dk_seg dksX0_feed_1 22 rfl rfl
theorem dX0_feed_0 : decode cX0_feed 0 = .ok (.iload_n 1, 1) := dk_27 (dk_at dksX0_feed_0 0 rfl rfl)
theorem dX0_feed_1 : decode cX0_feed 1 = .ok (.i2l, 1) := dk_133 (dk_at dksX0_feed_0 1 rfl rfl)
theorem dX0_feed_2 : decode cX0_feed 2 = .ok (.lconst 1, 1) := dk_10 (dk_at dksX0_feed_0 2 rfl rfl)
theorem dX0_feed_3 : decode cX0_feed 3 = .ok (.ldc2_w 305, 3) := dk_20 1 49 (dk_at dksX0_feed_0 3 rfl rfl)
theorem dX0_feed_6 : decode cX0_feed 6 = .ok (.invokestatic 132, 3) := dk_184 0 132 (dk_at dksX0_feed_0 6 rfl rfl)
theorem dX0_feed_9 : decode cX0_feed 9 = .ok (.ifCond .ne 6, 3) := dk_154 0 6 (dk_at dksX0_feed_0 9 rfl rfl)
theorem dX0_feed_12 : decode cX0_feed 12 = .ok (.bipush (-2), 2) := dk_16 254 (dk_at dksX0_feed_0 12 rfl rfl)
theorem dX0_feed_14 : decode cX0_feed 14 = .ok (.ireturn, 1) := dk_172 (dk_at dksX0_feed_0 14 rfl rfl)
theorem dX0_feed_15 : decode cX0_feed 15 = .ok (.aload_n 0, 1) := dk_42 (dk_at dksX0_feed_0 15 rfl rfl)
theorem dX0_feed_16 : decode cX0_feed 16 = .ok (.getfield 307, 3) := dk_180 1 51 (dk_at dksX0_feed_0 16 rfl rfl)
theorem dX0_feed_19 : decode cX0_feed 19 = .ok (.bipush 120, 2) := dk_16 120 (dk_at dksX0_feed_0 19 rfl rfl)
theorem dX0_feed_21 : decode cX0_feed 21 = .ok (.if_icmp .ne 6, 3) := dk_160 0 6 (dk_at dksX0_feed_0 21 rfl rfl)
theorem dX0_feed_24 : decode cX0_feed 24 = .ok (.bipush (-4), 2) := dk_16 252 (dk_at dksX0_feed_1 0 rfl rfl)
theorem dX0_feed_26 : decode cX0_feed 26 = .ok (.ireturn, 1) := dk_172 (dk_at dksX0_feed_1 2 rfl rfl)
theorem dX0_feed_27 : decode cX0_feed 27 = .ok (.aload_n 0, 1) := dk_42 (dk_at dksX0_feed_1 3 rfl rfl)
theorem dX0_feed_28 : decode cX0_feed 28 = .ok (.getfield 45, 3) := dk_180 0 45 (dk_at dksX0_feed_1 4 rfl rfl)
theorem dX0_feed_31 : decode cX0_feed 31 = .ok (.aload_n 0, 1) := dk_42 (dk_at dksX0_feed_1 7 rfl rfl)
theorem dX0_feed_32 : decode cX0_feed 32 = .ok (.dup, 1) := dk_89 (dk_at dksX0_feed_1 8 rfl rfl)
theorem dX0_feed_33 : decode cX0_feed 33 = .ok (.getfield 307, 3) := dk_180 1 51 (dk_at dksX0_feed_1 9 rfl rfl)
theorem dX0_feed_36 : decode cX0_feed 36 = .ok (.dup_x1, 1) := dk_90 (dk_at dksX0_feed_1 12 rfl rfl)
theorem dX0_feed_37 : decode cX0_feed 37 = .ok (.iconst 1, 1) := dk_4 (dk_at dksX0_feed_1 13 rfl rfl)
theorem dX0_feed_38 : decode cX0_feed 38 = .ok (.iadd, 1) := dk_96 (dk_at dksX0_feed_1 14 rfl rfl)
theorem dX0_feed_39 : decode cX0_feed 39 = .ok (.putfield 307, 3) := dk_181 1 51 (dk_at dksX0_feed_1 15 rfl rfl)
theorem dX0_feed_42 : decode cX0_feed 42 = .ok (.iload_n 1, 1) := dk_27 (dk_at dksX0_feed_1 18 rfl rfl)
theorem dX0_feed_43 : decode cX0_feed 43 = .ok (.i2b, 1) := dk_145 (dk_at dksX0_feed_1 19 rfl rfl)
theorem dX0_feed_44 : decode cX0_feed 44 = .ok (.bastore, 1) := dk_84 (dk_at dksX0_feed_1 20 rfl rfl)
theorem dX0_feed_45 : decode cX0_feed 45 = .ok (.aload_n 0, 1) := dk_42 (dk_at dksX0_feed_1 21 rfl rfl)
theorem dX0_feed_46 : decode cX0_feed 46 = .ok (.getfield 307, 3) := dk_180 1 51 (dk_at dksX0_feed_2 0 rfl rfl)
theorem dX0_feed_49 : decode cX0_feed 49 = .ok (.ireturn, 1) := dk_172 (dk_at dksX0_feed_2 3 rfl rfl)
abbrev cX0_clear : ByteArray := prog_1_method_21_code
def yX0_clear : MethodName := ⟨RX0, "clear", "()I"⟩
def dkwX0_clear_0 : List UInt8 := [42, 180, 1, 51, 60, 42, 3, 181, 1, 51, 27, 172]
abbrev dktX0_clear_0 : List UInt8 := dkwX0_clear_0 ++ []
theorem dksX0_clear_0 : cX0_clear.data.toList.drop 0 = dktX0_clear_0 := by decide +kernel
theorem dX0_clear_0 : decode cX0_clear 0 = .ok (.aload_n 0, 1) := dk_42 (dk_at dksX0_clear_0 0 rfl rfl)
theorem dX0_clear_1 : decode cX0_clear 1 = .ok (.getfield 307, 3) := dk_180 1 51 (dk_at dksX0_clear_0 1 rfl rfl)
theorem dX0_clear_4 : decode cX0_clear 4 = .ok (.istore_n 1, 1) := dk_60 (dk_at dksX0_clear_0 4 rfl rfl)
theorem dX0_clear_5 : decode cX0_clear 5 = .ok (.aload_n 0, 1) := dk_42 (dk_at dksX0_clear_0 5 rfl rfl)
theorem dX0_clear_6 : decode cX0_clear 6 = .ok (.iconst 0, 1) := dk_3 (dk_at dksX0_clear_0 6 rfl rfl)
theorem dX0_clear_7 : decode cX0_clear 7 = .ok (.putfield 307, 3) := dk_181 1 51 (dk_at dksX0_clear_0 7 rfl rfl)
theorem dX0_clear_10 : decode cX0_clear 10 = .ok (.iload_n 1, 1) := dk_27 (dk_at dksX0_clear_0 10 rfl rfl)
theorem dX0_clear_11 : decode cX0_clear 11 = .ok (.ireturn, 1) := dk_172 (dk_at dksX0_clear_0 11 rfl rfl)
abbrev cX0_paper : ByteArray := prog_1_method_22_code
def yX0_paper : MethodName := ⟨RX0, "paper", "(I)I"⟩
def dkwX0_paper_1 : List UInt8 := [182, 1, 58, 167, 0, 4, 2, 172]
abbrev dktX0_paper_1 : List UInt8 := dkwX0_paper_1 ++ []
def dkwX0_paper_0 : List UInt8 := [27, 133, 9, 42, 180, 0, 51, 182, 1, 54, 4, 100, 133, 184, 0, 132, 153, 0, 14, 42, 180, 0, 51, 27]
abbrev dktX0_paper_0 : List UInt8 := dkwX0_paper_0 ++ dktX0_paper_1
theorem dksX0_paper_0 : cX0_paper.data.toList.drop 0 = dktX0_paper_0 := by decide +kernel
theorem dksX0_paper_1 : cX0_paper.data.toList.drop 24 = dktX0_paper_1 := dk_seg dksX0_paper_0 24 rfl rfl
theorem dX0_paper_0 : decode cX0_paper 0 = .ok (.iload_n 1, 1) := dk_27 (dk_at dksX0_paper_0 0 rfl rfl)
theorem dX0_paper_1 : decode cX0_paper 1 = .ok (.i2l, 1) := dk_133 (dk_at dksX0_paper_0 1 rfl rfl)
theorem dX0_paper_2 : decode cX0_paper 2 = .ok (.lconst 0, 1) := dk_9 (dk_at dksX0_paper_0 2 rfl rfl)
theorem dX0_paper_3 : decode cX0_paper 3 = .ok (.aload_n 0, 1) := dk_42 (dk_at dksX0_paper_0 3 rfl rfl)
theorem dX0_paper_4 : decode cX0_paper 4 = .ok (.getfield 51, 3) := dk_180 0 51 (dk_at dksX0_paper_0 4 rfl rfl)
theorem dX0_paper_7 : decode cX0_paper 7 = .ok (.invokevirtual 310, 3) := dk_182 1 54 (dk_at dksX0_paper_0 7 rfl rfl)
theorem dX0_paper_10 : decode cX0_paper 10 = .ok (.iconst 1, 1) := dk_4 (dk_at dksX0_paper_0 10 rfl rfl)
theorem dX0_paper_11 : decode cX0_paper 11 = .ok (.isub, 1) := dk_100 (dk_at dksX0_paper_0 11 rfl rfl)
theorem dX0_paper_12 : decode cX0_paper 12 = .ok (.i2l, 1) := dk_133 (dk_at dksX0_paper_0 12 rfl rfl)
theorem dX0_paper_13 : decode cX0_paper 13 = .ok (.invokestatic 132, 3) := dk_184 0 132 (dk_at dksX0_paper_0 13 rfl rfl)
theorem dX0_paper_16 : decode cX0_paper 16 = .ok (.ifCond .eq 14, 3) := dk_153 0 14 (dk_at dksX0_paper_0 16 rfl rfl)
theorem dX0_paper_19 : decode cX0_paper 19 = .ok (.aload_n 0, 1) := dk_42 (dk_at dksX0_paper_0 19 rfl rfl)
theorem dX0_paper_20 : decode cX0_paper 20 = .ok (.getfield 51, 3) := dk_180 0 51 (dk_at dksX0_paper_0 20 rfl rfl)
theorem dX0_paper_23 : decode cX0_paper 23 = .ok (.iload_n 1, 1) := dk_27 (dk_at dksX0_paper_0 23 rfl rfl)
theorem dX0_paper_24 : decode cX0_paper 24 = .ok (.invokevirtual 314, 3) := dk_182 1 58 (dk_at dksX0_paper_1 0 rfl rfl)
theorem dX0_paper_27 : decode cX0_paper 27 = .ok (.goto 4, 3) := dk_167 0 4 (dk_at dksX0_paper_1 3 rfl rfl)
theorem dX0_paper_30 : decode cX0_paper 30 = .ok (.iconst (-1), 1) := dk_2 (dk_at dksX0_paper_1 6 rfl rfl)
theorem dX0_paper_31 : decode cX0_paper 31 = .ok (.ireturn, 1) := dk_172 (dk_at dksX0_paper_1 7 rfl rfl)
abbrev cX0_roads : ByteArray := prog_1_method_29_code
def yX0_roads : MethodName := ⟨RX0, "roads", "()I"⟩
def dkwX0_roads_2 : List UInt8 := [185, 0, 169, 1, 0, 192, 0, 173, 78, 42, 180, 0, 22, 45, 182, 0, 251, 167, 255, 229, 27, 172]
abbrev dktX0_roads_2 : List UInt8 := dkwX0_roads_2 ++ []
def dkwX0_roads_1 : List UInt8 := [182, 1, 10, 42, 180, 0, 55, 182, 0, 159, 77, 44, 185, 0, 163, 1, 0, 153, 0, 24, 44]
abbrev dktX0_roads_1 : List UInt8 := dkwX0_roads_1 ++ dktX0_roads_2
def dkwX0_roads_0 : List UInt8 := [42, 180, 0, 55, 182, 0, 248, 42, 42, 186, 1, 95, 0, 0, 182, 1, 98, 60, 27, 158, 0, 45, 42]
abbrev dktX0_roads_0 : List UInt8 := dkwX0_roads_0 ++ dktX0_roads_1
theorem dksX0_roads_0 : cX0_roads.data.toList.drop 0 = dktX0_roads_0 := by decide +kernel
theorem dksX0_roads_1 : cX0_roads.data.toList.drop 23 = dktX0_roads_1 := dk_seg dksX0_roads_0 23 rfl rfl
theorem dksX0_roads_2 : cX0_roads.data.toList.drop 44 = dktX0_roads_2 := dk_seg dksX0_roads_1 21 rfl rfl
theorem dX0_roads_0 : decode cX0_roads 0 = .ok (.aload_n 0, 1) := dk_42 (dk_at dksX0_roads_0 0 rfl rfl)
theorem dX0_roads_1 : decode cX0_roads 1 = .ok (.getfield 55, 3) := dk_180 0 55 (dk_at dksX0_roads_0 1 rfl rfl)
theorem dX0_roads_4 : decode cX0_roads 4 = .ok (.invokevirtual 248, 3) := dk_182 0 248 (dk_at dksX0_roads_0 4 rfl rfl)
theorem dX0_roads_7 : decode cX0_roads 7 = .ok (.aload_n 0, 1) := dk_42 (dk_at dksX0_roads_0 7 rfl rfl)
theorem dX0_roads_8 : decode cX0_roads 8 = .ok (.aload_n 0, 1) := dk_42 (dk_at dksX0_roads_0 8 rfl rfl)
theorem dX0_roads_9 : decode cX0_roads 9 = .ok (.invokedynamic 351, 5) := by decide +kernel
theorem dX0_roads_14 : decode cX0_roads 14 = .ok (.invokevirtual 354, 3) := dk_182 1 98 (dk_at dksX0_roads_0 14 rfl rfl)
theorem dX0_roads_17 : decode cX0_roads 17 = .ok (.istore_n 1, 1) := dk_60 (dk_at dksX0_roads_0 17 rfl rfl)
theorem dX0_roads_18 : decode cX0_roads 18 = .ok (.iload_n 1, 1) := dk_27 (dk_at dksX0_roads_0 18 rfl rfl)
theorem dX0_roads_19 : decode cX0_roads 19 = .ok (.ifCond .le 45, 3) := dk_158 0 45 (dk_at dksX0_roads_0 19 rfl rfl)
theorem dX0_roads_22 : decode cX0_roads 22 = .ok (.aload_n 0, 1) := dk_42 (dk_at dksX0_roads_0 22 rfl rfl)
theorem dX0_roads_23 : decode cX0_roads 23 = .ok (.invokevirtual 266, 3) := dk_182 1 10 (dk_at dksX0_roads_1 0 rfl rfl)
theorem dX0_roads_26 : decode cX0_roads 26 = .ok (.aload_n 0, 1) := dk_42 (dk_at dksX0_roads_1 3 rfl rfl)
theorem dX0_roads_27 : decode cX0_roads 27 = .ok (.getfield 55, 3) := dk_180 0 55 (dk_at dksX0_roads_1 4 rfl rfl)
theorem dX0_roads_30 : decode cX0_roads 30 = .ok (.invokevirtual 159, 3) := dk_182 0 159 (dk_at dksX0_roads_1 7 rfl rfl)
theorem dX0_roads_33 : decode cX0_roads 33 = .ok (.astore_n 2, 1) := dk_77 (dk_at dksX0_roads_1 10 rfl rfl)
theorem dX0_roads_34 : decode cX0_roads 34 = .ok (.aload_n 2, 1) := dk_44 (dk_at dksX0_roads_1 11 rfl rfl)
theorem dX0_roads_35 : decode cX0_roads 35 = .ok (.invokeinterface 163 1, 5) := by decide +kernel
theorem dX0_roads_40 : decode cX0_roads 40 = .ok (.ifCond .eq 24, 3) := dk_153 0 24 (dk_at dksX0_roads_1 17 rfl rfl)
theorem dX0_roads_43 : decode cX0_roads 43 = .ok (.aload_n 2, 1) := dk_44 (dk_at dksX0_roads_1 20 rfl rfl)
theorem dX0_roads_44 : decode cX0_roads 44 = .ok (.invokeinterface 169 1, 5) := by decide +kernel
theorem dX0_roads_49 : decode cX0_roads 49 = .ok (.checkcast 173, 3) := dk_192 0 173 (dk_at dksX0_roads_2 5 rfl rfl)
theorem dX0_roads_52 : decode cX0_roads 52 = .ok (.astore_n 3, 1) := dk_78 (dk_at dksX0_roads_2 8 rfl rfl)
theorem dX0_roads_53 : decode cX0_roads 53 = .ok (.aload_n 0, 1) := dk_42 (dk_at dksX0_roads_2 9 rfl rfl)
theorem dX0_roads_54 : decode cX0_roads 54 = .ok (.getfield 22, 3) := dk_180 0 22 (dk_at dksX0_roads_2 10 rfl rfl)
theorem dX0_roads_57 : decode cX0_roads 57 = .ok (.aload_n 3, 1) := dk_45 (dk_at dksX0_roads_2 13 rfl rfl)
theorem dX0_roads_58 : decode cX0_roads 58 = .ok (.invokevirtual 251, 3) := dk_182 0 251 (dk_at dksX0_roads_2 14 rfl rfl)
theorem dX0_roads_61 : decode cX0_roads 61 = .ok (.goto (-27), 3) := dk_167 255 229 (dk_at dksX0_roads_2 17 rfl rfl)
theorem dX0_roads_64 : decode cX0_roads 64 = .ok (.iload_n 1, 1) := dk_27 (dk_at dksX0_roads_2 20 rfl rfl)
theorem dX0_roads_65 : decode cX0_roads 65 = .ok (.ireturn, 1) := dk_172 (dk_at dksX0_roads_2 21 rfl rfl)
abbrev cX0_readRoad : ByteArray := prog_1_method_28_code
def yX0_readRoad : MethodName := ⟨RX0, "readRoad", "()V"⟩
def dkwX0_readRoad_8 : List UInt8 := [21, 4, 21, 5, 22, 6, 182, 1, 27, 182, 0, 251, 177]
abbrev dktX0_readRoad_8 : List UInt8 := dkwX0_readRoad_8 ++ []
def dkwX0_readRoad_7 : List UInt8 := [22, 6, 117, 167, 0, 5, 22, 6, 55, 6, 42, 180, 0, 55, 187, 0, 173, 89, 27, 29, 183, 1, 24]
abbrev dktX0_readRoad_7 : List UInt8 := dkwX0_readRoad_7 ++ dktX0_readRoad_8
def dkwX0_readRoad_6 : List UInt8 := [182, 1, 68, 54, 8, 42, 16, 9, 3, 19, 1, 94, 182, 1, 85, 133, 55, 6, 21, 8, 153, 0, 9]
abbrev dktX0_readRoad_6 : List UInt8 := dkwX0_readRoad_6 ++ dktX0_readRoad_7
def dkwX0_readRoad_5 : List UInt8 := [16, 99, 182, 1, 85, 54, 5, 9, 55, 6, 42, 16, 42, 182, 1, 68, 153, 0, 39, 42, 16, 45]
abbrev dktX0_readRoad_5 : List UInt8 := dkwX0_readRoad_5 ++ dktX0_readRoad_6
def dkwX0_readRoad_4 : List UInt8 := [16, 99, 182, 1, 85, 54, 5, 42, 16, 45, 182, 1, 68, 153, 0, 18, 21, 5, 54, 4, 42, 5, 21, 4]
abbrev dktX0_readRoad_4 : List UInt8 := dkwX0_readRoad_4 ++ dktX0_readRoad_5
def dkwX0_readRoad_3 : List UInt8 := [160, 0, 12, 187, 1, 71, 89, 28, 183, 1, 73, 191, 42, 16, 58, 182, 1, 89, 3, 54, 4, 42, 5, 3]
abbrev dktX0_readRoad_3 : List UInt8 := dkwX0_readRoad_3 ++ dktX0_readRoad_4
def dkwX0_readRoad_2 : List UInt8 := [182, 1, 89, 42, 180, 1, 62, 61, 42, 4, 3, 42, 180, 0, 11, 4, 100, 182, 1, 85, 62, 29, 27]
abbrev dktX0_readRoad_2 : List UInt8 := dkwX0_readRoad_2 ++ dktX0_readRoad_3
def dkwX0_readRoad_1 : List UInt8 := [42, 180, 1, 62, 183, 1, 73, 191, 42, 4, 3, 42, 180, 0, 11, 4, 100, 182, 1, 85, 60, 42, 16, 62]
abbrev dktX0_readRoad_1 : List UInt8 := dkwX0_readRoad_1 ++ dktX0_readRoad_2
def dkwX0_readRoad_0 : List UInt8 := [42, 180, 0, 22, 182, 0, 140, 42, 180, 0, 55, 182, 0, 140, 96, 16, 24, 160, 0, 15, 187, 1, 71, 89]
abbrev dktX0_readRoad_0 : List UInt8 := dkwX0_readRoad_0 ++ dktX0_readRoad_1
theorem dksX0_readRoad_0 : cX0_readRoad.data.toList.drop 0 = dktX0_readRoad_0 := by decide +kernel
theorem dksX0_readRoad_1 : cX0_readRoad.data.toList.drop 24 = dktX0_readRoad_1 := dk_seg dksX0_readRoad_0 24 rfl rfl
theorem dksX0_readRoad_2 : cX0_readRoad.data.toList.drop 48 = dktX0_readRoad_2 := dk_seg dksX0_readRoad_1 24 rfl rfl
theorem dksX0_readRoad_3 : cX0_readRoad.data.toList.drop 71 = dktX0_readRoad_3 := dk_seg dksX0_readRoad_2 23 rfl rfl
theorem dksX0_readRoad_4 : cX0_readRoad.data.toList.drop 95 = dktX0_readRoad_4 := dk_seg dksX0_readRoad_3 24 rfl rfl
theorem dksX0_readRoad_5 : cX0_readRoad.data.toList.drop 119 = dktX0_readRoad_5 := dk_seg dksX0_readRoad_4 24 rfl rfl
theorem dksX0_readRoad_6 : cX0_readRoad.data.toList.drop 141 = dktX0_readRoad_6 := dk_seg dksX0_readRoad_5 22 rfl rfl
theorem dksX0_readRoad_7 : cX0_readRoad.data.toList.drop 164 = dktX0_readRoad_7 := dk_seg dksX0_readRoad_6 23 rfl rfl
theorem dksX0_readRoad_8 : cX0_readRoad.data.toList.drop 187 = dktX0_readRoad_8 := dk_seg dksX0_readRoad_7 23 rfl rfl
theorem dX0_readRoad_0 : decode cX0_readRoad 0 = .ok (.aload_n 0, 1) := dk_42 (dk_at dksX0_readRoad_0 0 rfl rfl)
theorem dX0_readRoad_1 : decode cX0_readRoad 1 = .ok (.getfield 22, 3) := dk_180 0 22 (dk_at dksX0_readRoad_0 1 rfl rfl)
theorem dX0_readRoad_4 : decode cX0_readRoad 4 = .ok (.invokevirtual 140, 3) := dk_182 0 140 (dk_at dksX0_readRoad_0 4 rfl rfl)
theorem dX0_readRoad_7 : decode cX0_readRoad 7 = .ok (.aload_n 0, 1) := dk_42 (dk_at dksX0_readRoad_0 7 rfl rfl)
theorem dX0_readRoad_8 : decode cX0_readRoad 8 = .ok (.getfield 55, 3) := dk_180 0 55 (dk_at dksX0_readRoad_0 8 rfl rfl)
theorem dX0_readRoad_11 : decode cX0_readRoad 11 = .ok (.invokevirtual 140, 3) := dk_182 0 140 (dk_at dksX0_readRoad_0 11 rfl rfl)
theorem dX0_readRoad_14 : decode cX0_readRoad 14 = .ok (.iadd, 1) := dk_96 (dk_at dksX0_readRoad_0 14 rfl rfl)
theorem dX0_readRoad_15 : decode cX0_readRoad 15 = .ok (.bipush 24, 2) := dk_16 24 (dk_at dksX0_readRoad_0 15 rfl rfl)
theorem dX0_readRoad_17 : decode cX0_readRoad 17 = .ok (.if_icmp .ne 15, 3) := dk_160 0 15 (dk_at dksX0_readRoad_0 17 rfl rfl)
theorem dX0_readRoad_20 : decode cX0_readRoad 20 = .ok (.new 327, 3) := dk_187 1 71 (dk_at dksX0_readRoad_0 20 rfl rfl)
theorem dX0_readRoad_23 : decode cX0_readRoad 23 = .ok (.dup, 1) := dk_89 (dk_at dksX0_readRoad_0 23 rfl rfl)
theorem dX0_readRoad_24 : decode cX0_readRoad 24 = .ok (.aload_n 0, 1) := dk_42 (dk_at dksX0_readRoad_1 0 rfl rfl)
theorem dX0_readRoad_25 : decode cX0_readRoad 25 = .ok (.getfield 318, 3) := dk_180 1 62 (dk_at dksX0_readRoad_1 1 rfl rfl)
theorem dX0_readRoad_28 : decode cX0_readRoad 28 = .ok (.invokespecial 329, 3) := dk_183 1 73 (dk_at dksX0_readRoad_1 4 rfl rfl)
theorem dX0_readRoad_31 : decode cX0_readRoad 31 = .ok (.athrow, 1) := dk_191 (dk_at dksX0_readRoad_1 7 rfl rfl)
theorem dX0_readRoad_32 : decode cX0_readRoad 32 = .ok (.aload_n 0, 1) := dk_42 (dk_at dksX0_readRoad_1 8 rfl rfl)
theorem dX0_readRoad_33 : decode cX0_readRoad 33 = .ok (.iconst 1, 1) := dk_4 (dk_at dksX0_readRoad_1 9 rfl rfl)
theorem dX0_readRoad_34 : decode cX0_readRoad 34 = .ok (.iconst 0, 1) := dk_3 (dk_at dksX0_readRoad_1 10 rfl rfl)
theorem dX0_readRoad_35 : decode cX0_readRoad 35 = .ok (.aload_n 0, 1) := dk_42 (dk_at dksX0_readRoad_1 11 rfl rfl)
theorem dX0_readRoad_36 : decode cX0_readRoad 36 = .ok (.getfield 11, 3) := dk_180 0 11 (dk_at dksX0_readRoad_1 12 rfl rfl)
theorem dX0_readRoad_39 : decode cX0_readRoad 39 = .ok (.iconst 1, 1) := dk_4 (dk_at dksX0_readRoad_1 15 rfl rfl)
theorem dX0_readRoad_40 : decode cX0_readRoad 40 = .ok (.isub, 1) := dk_100 (dk_at dksX0_readRoad_1 16 rfl rfl)
theorem dX0_readRoad_41 : decode cX0_readRoad 41 = .ok (.invokevirtual 341, 3) := dk_182 1 85 (dk_at dksX0_readRoad_1 17 rfl rfl)
theorem dX0_readRoad_44 : decode cX0_readRoad 44 = .ok (.istore_n 1, 1) := dk_60 (dk_at dksX0_readRoad_1 20 rfl rfl)
theorem dX0_readRoad_45 : decode cX0_readRoad 45 = .ok (.aload_n 0, 1) := dk_42 (dk_at dksX0_readRoad_1 21 rfl rfl)
theorem dX0_readRoad_46 : decode cX0_readRoad 46 = .ok (.bipush 62, 2) := dk_16 62 (dk_at dksX0_readRoad_1 22 rfl rfl)
theorem dX0_readRoad_48 : decode cX0_readRoad 48 = .ok (.invokevirtual 345, 3) := dk_182 1 89 (dk_at dksX0_readRoad_2 0 rfl rfl)
theorem dX0_readRoad_51 : decode cX0_readRoad 51 = .ok (.aload_n 0, 1) := dk_42 (dk_at dksX0_readRoad_2 3 rfl rfl)
theorem dX0_readRoad_52 : decode cX0_readRoad 52 = .ok (.getfield 318, 3) := dk_180 1 62 (dk_at dksX0_readRoad_2 4 rfl rfl)
theorem dX0_readRoad_55 : decode cX0_readRoad 55 = .ok (.istore_n 2, 1) := dk_61 (dk_at dksX0_readRoad_2 7 rfl rfl)
theorem dX0_readRoad_56 : decode cX0_readRoad 56 = .ok (.aload_n 0, 1) := dk_42 (dk_at dksX0_readRoad_2 8 rfl rfl)
theorem dX0_readRoad_57 : decode cX0_readRoad 57 = .ok (.iconst 1, 1) := dk_4 (dk_at dksX0_readRoad_2 9 rfl rfl)
theorem dX0_readRoad_58 : decode cX0_readRoad 58 = .ok (.iconst 0, 1) := dk_3 (dk_at dksX0_readRoad_2 10 rfl rfl)
theorem dX0_readRoad_59 : decode cX0_readRoad 59 = .ok (.aload_n 0, 1) := dk_42 (dk_at dksX0_readRoad_2 11 rfl rfl)
theorem dX0_readRoad_60 : decode cX0_readRoad 60 = .ok (.getfield 11, 3) := dk_180 0 11 (dk_at dksX0_readRoad_2 12 rfl rfl)
theorem dX0_readRoad_63 : decode cX0_readRoad 63 = .ok (.iconst 1, 1) := dk_4 (dk_at dksX0_readRoad_2 15 rfl rfl)
theorem dX0_readRoad_64 : decode cX0_readRoad 64 = .ok (.isub, 1) := dk_100 (dk_at dksX0_readRoad_2 16 rfl rfl)
theorem dX0_readRoad_65 : decode cX0_readRoad 65 = .ok (.invokevirtual 341, 3) := dk_182 1 85 (dk_at dksX0_readRoad_2 17 rfl rfl)
theorem dX0_readRoad_68 : decode cX0_readRoad 68 = .ok (.istore_n 3, 1) := dk_62 (dk_at dksX0_readRoad_2 20 rfl rfl)
theorem dX0_readRoad_69 : decode cX0_readRoad 69 = .ok (.iload_n 3, 1) := dk_29 (dk_at dksX0_readRoad_2 21 rfl rfl)
theorem dX0_readRoad_70 : decode cX0_readRoad 70 = .ok (.iload_n 1, 1) := dk_27 (dk_at dksX0_readRoad_2 22 rfl rfl)
theorem dX0_readRoad_71 : decode cX0_readRoad 71 = .ok (.if_icmp .ne 12, 3) := dk_160 0 12 (dk_at dksX0_readRoad_3 0 rfl rfl)
theorem dX0_readRoad_74 : decode cX0_readRoad 74 = .ok (.new 327, 3) := dk_187 1 71 (dk_at dksX0_readRoad_3 3 rfl rfl)
theorem dX0_readRoad_77 : decode cX0_readRoad 77 = .ok (.dup, 1) := dk_89 (dk_at dksX0_readRoad_3 6 rfl rfl)
theorem dX0_readRoad_78 : decode cX0_readRoad 78 = .ok (.iload_n 2, 1) := dk_28 (dk_at dksX0_readRoad_3 7 rfl rfl)
theorem dX0_readRoad_79 : decode cX0_readRoad 79 = .ok (.invokespecial 329, 3) := dk_183 1 73 (dk_at dksX0_readRoad_3 8 rfl rfl)
theorem dX0_readRoad_82 : decode cX0_readRoad 82 = .ok (.athrow, 1) := dk_191 (dk_at dksX0_readRoad_3 11 rfl rfl)
theorem dX0_readRoad_83 : decode cX0_readRoad 83 = .ok (.aload_n 0, 1) := dk_42 (dk_at dksX0_readRoad_3 12 rfl rfl)
theorem dX0_readRoad_84 : decode cX0_readRoad 84 = .ok (.bipush 58, 2) := dk_16 58 (dk_at dksX0_readRoad_3 13 rfl rfl)
theorem dX0_readRoad_86 : decode cX0_readRoad 86 = .ok (.invokevirtual 345, 3) := dk_182 1 89 (dk_at dksX0_readRoad_3 15 rfl rfl)
theorem dX0_readRoad_89 : decode cX0_readRoad 89 = .ok (.iconst 0, 1) := dk_3 (dk_at dksX0_readRoad_3 18 rfl rfl)
theorem dX0_readRoad_90 : decode cX0_readRoad 90 = .ok (.istore 4, 2) := dk_54 4 (dk_at dksX0_readRoad_3 19 rfl rfl)
theorem dX0_readRoad_92 : decode cX0_readRoad 92 = .ok (.aload_n 0, 1) := dk_42 (dk_at dksX0_readRoad_3 21 rfl rfl)
theorem dX0_readRoad_93 : decode cX0_readRoad 93 = .ok (.iconst 2, 1) := dk_5 (dk_at dksX0_readRoad_3 22 rfl rfl)
theorem dX0_readRoad_94 : decode cX0_readRoad 94 = .ok (.iconst 0, 1) := dk_3 (dk_at dksX0_readRoad_3 23 rfl rfl)
theorem dX0_readRoad_95 : decode cX0_readRoad 95 = .ok (.bipush 99, 2) := dk_16 99 (dk_at dksX0_readRoad_4 0 rfl rfl)
theorem dX0_readRoad_97 : decode cX0_readRoad 97 = .ok (.invokevirtual 341, 3) := dk_182 1 85 (dk_at dksX0_readRoad_4 2 rfl rfl)
theorem dX0_readRoad_100 : decode cX0_readRoad 100 = .ok (.istore 5, 2) := dk_54 5 (dk_at dksX0_readRoad_4 5 rfl rfl)
theorem dX0_readRoad_102 : decode cX0_readRoad 102 = .ok (.aload_n 0, 1) := dk_42 (dk_at dksX0_readRoad_4 7 rfl rfl)
theorem dX0_readRoad_103 : decode cX0_readRoad 103 = .ok (.bipush 45, 2) := dk_16 45 (dk_at dksX0_readRoad_4 8 rfl rfl)
theorem dX0_readRoad_105 : decode cX0_readRoad 105 = .ok (.invokevirtual 324, 3) := dk_182 1 68 (dk_at dksX0_readRoad_4 10 rfl rfl)
theorem dX0_readRoad_108 : decode cX0_readRoad 108 = .ok (.ifCond .eq 18, 3) := dk_153 0 18 (dk_at dksX0_readRoad_4 13 rfl rfl)
theorem dX0_readRoad_111 : decode cX0_readRoad 111 = .ok (.iload 5, 2) := dk_21 5 (dk_at dksX0_readRoad_4 16 rfl rfl)
theorem dX0_readRoad_113 : decode cX0_readRoad 113 = .ok (.istore 4, 2) := dk_54 4 (dk_at dksX0_readRoad_4 18 rfl rfl)
theorem dX0_readRoad_115 : decode cX0_readRoad 115 = .ok (.aload_n 0, 1) := dk_42 (dk_at dksX0_readRoad_4 20 rfl rfl)
theorem dX0_readRoad_116 : decode cX0_readRoad 116 = .ok (.iconst 2, 1) := dk_5 (dk_at dksX0_readRoad_4 21 rfl rfl)
theorem dX0_readRoad_117 : decode cX0_readRoad 117 = .ok (.iload 4, 2) := dk_21 4 (dk_at dksX0_readRoad_4 22 rfl rfl)
theorem dX0_readRoad_119 : decode cX0_readRoad 119 = .ok (.bipush 99, 2) := dk_16 99 (dk_at dksX0_readRoad_5 0 rfl rfl)
theorem dX0_readRoad_121 : decode cX0_readRoad 121 = .ok (.invokevirtual 341, 3) := dk_182 1 85 (dk_at dksX0_readRoad_5 2 rfl rfl)
theorem dX0_readRoad_124 : decode cX0_readRoad 124 = .ok (.istore 5, 2) := dk_54 5 (dk_at dksX0_readRoad_5 5 rfl rfl)
theorem dX0_readRoad_126 : decode cX0_readRoad 126 = .ok (.lconst 0, 1) := dk_9 (dk_at dksX0_readRoad_5 7 rfl rfl)
theorem dX0_readRoad_127 : decode cX0_readRoad 127 = .ok (.lstore 6, 2) := dk_55 6 (dk_at dksX0_readRoad_5 8 rfl rfl)
theorem dX0_readRoad_129 : decode cX0_readRoad 129 = .ok (.aload_n 0, 1) := dk_42 (dk_at dksX0_readRoad_5 10 rfl rfl)
theorem dX0_readRoad_130 : decode cX0_readRoad 130 = .ok (.bipush 42, 2) := dk_16 42 (dk_at dksX0_readRoad_5 11 rfl rfl)
theorem dX0_readRoad_132 : decode cX0_readRoad 132 = .ok (.invokevirtual 324, 3) := dk_182 1 68 (dk_at dksX0_readRoad_5 13 rfl rfl)
theorem dX0_readRoad_135 : decode cX0_readRoad 135 = .ok (.ifCond .eq 39, 3) := dk_153 0 39 (dk_at dksX0_readRoad_5 16 rfl rfl)
theorem dX0_readRoad_138 : decode cX0_readRoad 138 = .ok (.aload_n 0, 1) := dk_42 (dk_at dksX0_readRoad_5 19 rfl rfl)
theorem dX0_readRoad_139 : decode cX0_readRoad 139 = .ok (.bipush 45, 2) := dk_16 45 (dk_at dksX0_readRoad_5 20 rfl rfl)
theorem dX0_readRoad_141 : decode cX0_readRoad 141 = .ok (.invokevirtual 324, 3) := dk_182 1 68 (dk_at dksX0_readRoad_6 0 rfl rfl)
theorem dX0_readRoad_144 : decode cX0_readRoad 144 = .ok (.istore 8, 2) := dk_54 8 (dk_at dksX0_readRoad_6 3 rfl rfl)
theorem dX0_readRoad_146 : decode cX0_readRoad 146 = .ok (.aload_n 0, 1) := dk_42 (dk_at dksX0_readRoad_6 5 rfl rfl)
theorem dX0_readRoad_147 : decode cX0_readRoad 147 = .ok (.bipush 9, 2) := dk_16 9 (dk_at dksX0_readRoad_6 6 rfl rfl)
theorem dX0_readRoad_149 : decode cX0_readRoad 149 = .ok (.iconst 0, 1) := dk_3 (dk_at dksX0_readRoad_6 8 rfl rfl)
theorem dX0_readRoad_150 : decode cX0_readRoad 150 = .ok (.ldc_w 350, 3) := dk_19 1 94 (dk_at dksX0_readRoad_6 9 rfl rfl)
theorem dX0_readRoad_153 : decode cX0_readRoad 153 = .ok (.invokevirtual 341, 3) := dk_182 1 85 (dk_at dksX0_readRoad_6 12 rfl rfl)
theorem dX0_readRoad_156 : decode cX0_readRoad 156 = .ok (.i2l, 1) := dk_133 (dk_at dksX0_readRoad_6 15 rfl rfl)
theorem dX0_readRoad_157 : decode cX0_readRoad 157 = .ok (.lstore 6, 2) := dk_55 6 (dk_at dksX0_readRoad_6 16 rfl rfl)
theorem dX0_readRoad_159 : decode cX0_readRoad 159 = .ok (.iload 8, 2) := dk_21 8 (dk_at dksX0_readRoad_6 18 rfl rfl)
theorem dX0_readRoad_161 : decode cX0_readRoad 161 = .ok (.ifCond .eq 9, 3) := dk_153 0 9 (dk_at dksX0_readRoad_6 20 rfl rfl)
theorem dX0_readRoad_164 : decode cX0_readRoad 164 = .ok (.lload 6, 2) := dk_22 6 (dk_at dksX0_readRoad_7 0 rfl rfl)
theorem dX0_readRoad_166 : decode cX0_readRoad 166 = .ok (.lneg, 1) := dk_117 (dk_at dksX0_readRoad_7 2 rfl rfl)
theorem dX0_readRoad_167 : decode cX0_readRoad 167 = .ok (.goto 5, 3) := dk_167 0 5 (dk_at dksX0_readRoad_7 3 rfl rfl)
theorem dX0_readRoad_170 : decode cX0_readRoad 170 = .ok (.lload 6, 2) := dk_22 6 (dk_at dksX0_readRoad_7 6 rfl rfl)
theorem dX0_readRoad_172 : decode cX0_readRoad 172 = .ok (.lstore 6, 2) := dk_55 6 (dk_at dksX0_readRoad_7 8 rfl rfl)
theorem dX0_readRoad_174 : decode cX0_readRoad 174 = .ok (.aload_n 0, 1) := dk_42 (dk_at dksX0_readRoad_7 10 rfl rfl)
theorem dX0_readRoad_175 : decode cX0_readRoad 175 = .ok (.getfield 55, 3) := dk_180 0 55 (dk_at dksX0_readRoad_7 11 rfl rfl)
theorem dX0_readRoad_178 : decode cX0_readRoad 178 = .ok (.new 173, 3) := dk_187 0 173 (dk_at dksX0_readRoad_7 14 rfl rfl)
theorem dX0_readRoad_181 : decode cX0_readRoad 181 = .ok (.dup, 1) := dk_89 (dk_at dksX0_readRoad_7 17 rfl rfl)
theorem dX0_readRoad_182 : decode cX0_readRoad 182 = .ok (.iload_n 1, 1) := dk_27 (dk_at dksX0_readRoad_7 18 rfl rfl)
theorem dX0_readRoad_183 : decode cX0_readRoad 183 = .ok (.iload_n 3, 1) := dk_29 (dk_at dksX0_readRoad_7 19 rfl rfl)
theorem dX0_readRoad_184 : decode cX0_readRoad 184 = .ok (.invokespecial 280, 3) := dk_183 1 24 (dk_at dksX0_readRoad_7 20 rfl rfl)
theorem dX0_readRoad_187 : decode cX0_readRoad 187 = .ok (.iload 4, 2) := dk_21 4 (dk_at dksX0_readRoad_8 0 rfl rfl)
theorem dX0_readRoad_189 : decode cX0_readRoad 189 = .ok (.iload 5, 2) := dk_21 5 (dk_at dksX0_readRoad_8 2 rfl rfl)
theorem dX0_readRoad_191 : decode cX0_readRoad 191 = .ok (.lload 6, 2) := dk_22 6 (dk_at dksX0_readRoad_8 4 rfl rfl)
theorem dX0_readRoad_193 : decode cX0_readRoad 193 = .ok (.invokevirtual 283, 3) := dk_182 1 27 (dk_at dksX0_readRoad_8 6 rfl rfl)
theorem dX0_readRoad_196 : decode cX0_readRoad 196 = .ok (.invokevirtual 251, 3) := dk_182 0 251 (dk_at dksX0_readRoad_8 9 rfl rfl)
theorem dX0_readRoad_199 : decode cX0_readRoad 199 = .ok (.return_, 1) := dk_177 (dk_at dksX0_readRoad_8 12 rfl rfl)
abbrev cX0_number : ByteArray := prog_1_method_26_code
def yX0_number : MethodName := ⟨RX0, "number", "(III)I"⟩
def dkwX0_number_4 : List UInt8 := [184, 0, 132, 154, 0, 13, 187, 1, 71, 89, 21, 4, 183, 1, 73, 191, 21, 5, 172]
abbrev dktX0_number_4 : List UInt8 := dkwX0_number_4 ++ []
def dkwX0_number_3 : List UInt8 := [21, 4, 160, 0, 15, 187, 1, 71, 89, 42, 180, 1, 62, 183, 1, 73, 191, 21, 5, 133, 28, 133, 29, 133]
abbrev dktX0_number_3 : List UInt8 := dkwX0_number_3 ++ dktX0_number_4
def dkwX0_number_2 : List UInt8 := [180, 1, 62, 90, 4, 96, 181, 1, 62, 51, 96, 16, 48, 100, 54, 5, 167, 255, 201, 42, 180, 1, 62]
abbrev dktX0_number_2 : List UInt8 := dkwX0_number_2 ++ dktX0_number_3
def dkwX0_number_1 : List UInt8 := [133, 20, 1, 74, 20, 1, 76, 184, 0, 132, 153, 0, 33, 16, 10, 21, 5, 104, 42, 180, 0, 45, 42, 89]
abbrev dktX0_number_1 : List UInt8 := dkwX0_number_1 ++ dktX0_number_2
def dkwX0_number_0 : List UInt8 := [42, 180, 1, 62, 54, 4, 3, 54, 5, 42, 180, 1, 62, 21, 4, 100, 27, 162, 0, 50, 42, 182, 1, 65]
abbrev dktX0_number_0 : List UInt8 := dkwX0_number_0 ++ dktX0_number_1
theorem dksX0_number_0 : cX0_number.data.toList.drop 0 = dktX0_number_0 := by decide +kernel
theorem dksX0_number_1 : cX0_number.data.toList.drop 24 = dktX0_number_1 := dk_seg dksX0_number_0 24 rfl rfl
theorem dksX0_number_2 : cX0_number.data.toList.drop 48 = dktX0_number_2 := dk_seg dksX0_number_1 24 rfl rfl
theorem dksX0_number_3 : cX0_number.data.toList.drop 71 = dktX0_number_3 := dk_seg dksX0_number_2 23 rfl rfl
theorem dksX0_number_4 : cX0_number.data.toList.drop 95 = dktX0_number_4 := dk_seg dksX0_number_3 24 rfl rfl
theorem dX0_number_0 : decode cX0_number 0 = .ok (.aload_n 0, 1) := dk_42 (dk_at dksX0_number_0 0 rfl rfl)
theorem dX0_number_1 : decode cX0_number 1 = .ok (.getfield 318, 3) := dk_180 1 62 (dk_at dksX0_number_0 1 rfl rfl)
theorem dX0_number_4 : decode cX0_number 4 = .ok (.istore 4, 2) := dk_54 4 (dk_at dksX0_number_0 4 rfl rfl)
theorem dX0_number_6 : decode cX0_number 6 = .ok (.iconst 0, 1) := dk_3 (dk_at dksX0_number_0 6 rfl rfl)
theorem dX0_number_7 : decode cX0_number 7 = .ok (.istore 5, 2) := dk_54 5 (dk_at dksX0_number_0 7 rfl rfl)
theorem dX0_number_9 : decode cX0_number 9 = .ok (.aload_n 0, 1) := dk_42 (dk_at dksX0_number_0 9 rfl rfl)
theorem dX0_number_10 : decode cX0_number 10 = .ok (.getfield 318, 3) := dk_180 1 62 (dk_at dksX0_number_0 10 rfl rfl)
theorem dX0_number_13 : decode cX0_number 13 = .ok (.iload 4, 2) := dk_21 4 (dk_at dksX0_number_0 13 rfl rfl)
theorem dX0_number_15 : decode cX0_number 15 = .ok (.isub, 1) := dk_100 (dk_at dksX0_number_0 15 rfl rfl)
theorem dX0_number_16 : decode cX0_number 16 = .ok (.iload_n 1, 1) := dk_27 (dk_at dksX0_number_0 16 rfl rfl)
theorem dX0_number_17 : decode cX0_number 17 = .ok (.if_icmp .ge 50, 3) := dk_162 0 50 (dk_at dksX0_number_0 17 rfl rfl)
theorem dX0_number_20 : decode cX0_number 20 = .ok (.aload_n 0, 1) := dk_42 (dk_at dksX0_number_0 20 rfl rfl)
theorem dX0_number_21 : decode cX0_number 21 = .ok (.invokevirtual 321, 3) := dk_182 1 65 (dk_at dksX0_number_0 21 rfl rfl)
theorem dX0_number_24 : decode cX0_number 24 = .ok (.i2l, 1) := dk_133 (dk_at dksX0_number_1 0 rfl rfl)
theorem dX0_number_25 : decode cX0_number 25 = .ok (.ldc2_w 330, 3) := dk_20 1 74 (dk_at dksX0_number_1 1 rfl rfl)
theorem dX0_number_28 : decode cX0_number 28 = .ok (.ldc2_w 332, 3) := dk_20 1 76 (dk_at dksX0_number_1 4 rfl rfl)
theorem dX0_number_31 : decode cX0_number 31 = .ok (.invokestatic 132, 3) := dk_184 0 132 (dk_at dksX0_number_1 7 rfl rfl)
theorem dX0_number_34 : decode cX0_number 34 = .ok (.ifCond .eq 33, 3) := dk_153 0 33 (dk_at dksX0_number_1 10 rfl rfl)
theorem dX0_number_37 : decode cX0_number 37 = .ok (.bipush 10, 2) := dk_16 10 (dk_at dksX0_number_1 13 rfl rfl)
theorem dX0_number_39 : decode cX0_number 39 = .ok (.iload 5, 2) := dk_21 5 (dk_at dksX0_number_1 15 rfl rfl)
theorem dX0_number_41 : decode cX0_number 41 = .ok (.imul, 1) := dk_104 (dk_at dksX0_number_1 17 rfl rfl)
theorem dX0_number_42 : decode cX0_number 42 = .ok (.aload_n 0, 1) := dk_42 (dk_at dksX0_number_1 18 rfl rfl)
theorem dX0_number_43 : decode cX0_number 43 = .ok (.getfield 45, 3) := dk_180 0 45 (dk_at dksX0_number_1 19 rfl rfl)
theorem dX0_number_46 : decode cX0_number 46 = .ok (.aload_n 0, 1) := dk_42 (dk_at dksX0_number_1 22 rfl rfl)
theorem dX0_number_47 : decode cX0_number 47 = .ok (.dup, 1) := dk_89 (dk_at dksX0_number_1 23 rfl rfl)
theorem dX0_number_48 : decode cX0_number 48 = .ok (.getfield 318, 3) := dk_180 1 62 (dk_at dksX0_number_2 0 rfl rfl)
theorem dX0_number_51 : decode cX0_number 51 = .ok (.dup_x1, 1) := dk_90 (dk_at dksX0_number_2 3 rfl rfl)
theorem dX0_number_52 : decode cX0_number 52 = .ok (.iconst 1, 1) := dk_4 (dk_at dksX0_number_2 4 rfl rfl)
theorem dX0_number_53 : decode cX0_number 53 = .ok (.iadd, 1) := dk_96 (dk_at dksX0_number_2 5 rfl rfl)
theorem dX0_number_54 : decode cX0_number 54 = .ok (.putfield 318, 3) := dk_181 1 62 (dk_at dksX0_number_2 6 rfl rfl)
theorem dX0_number_57 : decode cX0_number 57 = .ok (.baload, 1) := dk_51 (dk_at dksX0_number_2 9 rfl rfl)
theorem dX0_number_58 : decode cX0_number 58 = .ok (.iadd, 1) := dk_96 (dk_at dksX0_number_2 10 rfl rfl)
theorem dX0_number_59 : decode cX0_number 59 = .ok (.bipush 48, 2) := dk_16 48 (dk_at dksX0_number_2 11 rfl rfl)
theorem dX0_number_61 : decode cX0_number 61 = .ok (.isub, 1) := dk_100 (dk_at dksX0_number_2 13 rfl rfl)
theorem dX0_number_62 : decode cX0_number 62 = .ok (.istore 5, 2) := dk_54 5 (dk_at dksX0_number_2 14 rfl rfl)
theorem dX0_number_64 : decode cX0_number 64 = .ok (.goto (-55), 3) := dk_167 255 201 (dk_at dksX0_number_2 16 rfl rfl)
theorem dX0_number_67 : decode cX0_number 67 = .ok (.aload_n 0, 1) := dk_42 (dk_at dksX0_number_2 19 rfl rfl)
theorem dX0_number_68 : decode cX0_number 68 = .ok (.getfield 318, 3) := dk_180 1 62 (dk_at dksX0_number_2 20 rfl rfl)
theorem dX0_number_71 : decode cX0_number 71 = .ok (.iload 4, 2) := dk_21 4 (dk_at dksX0_number_3 0 rfl rfl)
theorem dX0_number_73 : decode cX0_number 73 = .ok (.if_icmp .ne 15, 3) := dk_160 0 15 (dk_at dksX0_number_3 2 rfl rfl)
theorem dX0_number_76 : decode cX0_number 76 = .ok (.new 327, 3) := dk_187 1 71 (dk_at dksX0_number_3 5 rfl rfl)
theorem dX0_number_79 : decode cX0_number 79 = .ok (.dup, 1) := dk_89 (dk_at dksX0_number_3 8 rfl rfl)
theorem dX0_number_80 : decode cX0_number 80 = .ok (.aload_n 0, 1) := dk_42 (dk_at dksX0_number_3 9 rfl rfl)
theorem dX0_number_81 : decode cX0_number 81 = .ok (.getfield 318, 3) := dk_180 1 62 (dk_at dksX0_number_3 10 rfl rfl)
theorem dX0_number_84 : decode cX0_number 84 = .ok (.invokespecial 329, 3) := dk_183 1 73 (dk_at dksX0_number_3 13 rfl rfl)
theorem dX0_number_87 : decode cX0_number 87 = .ok (.athrow, 1) := dk_191 (dk_at dksX0_number_3 16 rfl rfl)
theorem dX0_number_88 : decode cX0_number 88 = .ok (.iload 5, 2) := dk_21 5 (dk_at dksX0_number_3 17 rfl rfl)
theorem dX0_number_90 : decode cX0_number 90 = .ok (.i2l, 1) := dk_133 (dk_at dksX0_number_3 19 rfl rfl)
theorem dX0_number_91 : decode cX0_number 91 = .ok (.iload_n 2, 1) := dk_28 (dk_at dksX0_number_3 20 rfl rfl)
theorem dX0_number_92 : decode cX0_number 92 = .ok (.i2l, 1) := dk_133 (dk_at dksX0_number_3 21 rfl rfl)
theorem dX0_number_93 : decode cX0_number 93 = .ok (.iload_n 3, 1) := dk_29 (dk_at dksX0_number_3 22 rfl rfl)
theorem dX0_number_94 : decode cX0_number 94 = .ok (.i2l, 1) := dk_133 (dk_at dksX0_number_3 23 rfl rfl)
theorem dX0_number_95 : decode cX0_number 95 = .ok (.invokestatic 132, 3) := dk_184 0 132 (dk_at dksX0_number_4 0 rfl rfl)
theorem dX0_number_98 : decode cX0_number 98 = .ok (.ifCond .ne 13, 3) := dk_154 0 13 (dk_at dksX0_number_4 3 rfl rfl)
theorem dX0_number_101 : decode cX0_number 101 = .ok (.new 327, 3) := dk_187 1 71 (dk_at dksX0_number_4 6 rfl rfl)
theorem dX0_number_104 : decode cX0_number 104 = .ok (.dup, 1) := dk_89 (dk_at dksX0_number_4 9 rfl rfl)
theorem dX0_number_105 : decode cX0_number 105 = .ok (.iload 4, 2) := dk_21 4 (dk_at dksX0_number_4 10 rfl rfl)
theorem dX0_number_107 : decode cX0_number 107 = .ok (.invokespecial 329, 3) := dk_183 1 73 (dk_at dksX0_number_4 12 rfl rfl)
theorem dX0_number_110 : decode cX0_number 110 = .ok (.athrow, 1) := dk_191 (dk_at dksX0_number_4 15 rfl rfl)
theorem dX0_number_111 : decode cX0_number 111 = .ok (.iload 5, 2) := dk_21 5 (dk_at dksX0_number_4 16 rfl rfl)
theorem dX0_number_113 : decode cX0_number 113 = .ok (.ireturn, 1) := dk_172 (dk_at dksX0_number_4 18 rfl rfl)
abbrev cX0_peek : ByteArray := prog_1_method_23_code
def yX0_peek : MethodName := ⟨RX0, "peek", "()I"⟩
def dkwX0_peek_1 : List UInt8 := [172]
abbrev dktX0_peek_1 : List UInt8 := dkwX0_peek_1 ++ []
def dkwX0_peek_0 : List UInt8 := [42, 180, 1, 62, 42, 180, 1, 51, 162, 0, 15, 42, 180, 0, 45, 42, 180, 1, 62, 51, 167, 0, 4, 2]
abbrev dktX0_peek_0 : List UInt8 := dkwX0_peek_0 ++ dktX0_peek_1
theorem dksX0_peek_0 : cX0_peek.data.toList.drop 0 = dktX0_peek_0 := by decide +kernel
theorem dksX0_peek_1 : cX0_peek.data.toList.drop 24 = dktX0_peek_1 := dk_seg dksX0_peek_0 24 rfl rfl
theorem dX0_peek_0 : decode cX0_peek 0 = .ok (.aload_n 0, 1) := dk_42 (dk_at dksX0_peek_0 0 rfl rfl)
theorem dX0_peek_1 : decode cX0_peek 1 = .ok (.getfield 318, 3) := dk_180 1 62 (dk_at dksX0_peek_0 1 rfl rfl)
theorem dX0_peek_4 : decode cX0_peek 4 = .ok (.aload_n 0, 1) := dk_42 (dk_at dksX0_peek_0 4 rfl rfl)
theorem dX0_peek_5 : decode cX0_peek 5 = .ok (.getfield 307, 3) := dk_180 1 51 (dk_at dksX0_peek_0 5 rfl rfl)
theorem dX0_peek_8 : decode cX0_peek 8 = .ok (.if_icmp .ge 15, 3) := dk_162 0 15 (dk_at dksX0_peek_0 8 rfl rfl)
theorem dX0_peek_11 : decode cX0_peek 11 = .ok (.aload_n 0, 1) := dk_42 (dk_at dksX0_peek_0 11 rfl rfl)
theorem dX0_peek_12 : decode cX0_peek 12 = .ok (.getfield 45, 3) := dk_180 0 45 (dk_at dksX0_peek_0 12 rfl rfl)
theorem dX0_peek_15 : decode cX0_peek 15 = .ok (.aload_n 0, 1) := dk_42 (dk_at dksX0_peek_0 15 rfl rfl)
theorem dX0_peek_16 : decode cX0_peek 16 = .ok (.getfield 318, 3) := dk_180 1 62 (dk_at dksX0_peek_0 16 rfl rfl)
theorem dX0_peek_19 : decode cX0_peek 19 = .ok (.baload, 1) := dk_51 (dk_at dksX0_peek_0 19 rfl rfl)
theorem dX0_peek_20 : decode cX0_peek 20 = .ok (.goto 4, 3) := dk_167 0 4 (dk_at dksX0_peek_0 20 rfl rfl)
theorem dX0_peek_23 : decode cX0_peek 23 = .ok (.iconst (-1), 1) := dk_2 (dk_at dksX0_peek_0 23 rfl rfl)
theorem dX0_peek_24 : decode cX0_peek 24 = .ok (.ireturn, 1) := dk_172 (dk_at dksX0_peek_1 0 rfl rfl)
abbrev cX0_expect : ByteArray := prog_1_method_25_code
def yX0_expect : MethodName := ⟨RX0, "expect", "(I)V"⟩
def dkwX0_expect_0 : List UInt8 := [42, 27, 182, 1, 68, 154, 0, 15, 187, 1, 71, 89, 42, 180, 1, 62, 183, 1, 73, 191, 177]
abbrev dktX0_expect_0 : List UInt8 := dkwX0_expect_0 ++ []
theorem dksX0_expect_0 : cX0_expect.data.toList.drop 0 = dktX0_expect_0 := by decide +kernel
theorem dX0_expect_0 : decode cX0_expect 0 = .ok (.aload_n 0, 1) := dk_42 (dk_at dksX0_expect_0 0 rfl rfl)
theorem dX0_expect_1 : decode cX0_expect 1 = .ok (.iload_n 1, 1) := dk_27 (dk_at dksX0_expect_0 1 rfl rfl)
theorem dX0_expect_2 : decode cX0_expect 2 = .ok (.invokevirtual 324, 3) := dk_182 1 68 (dk_at dksX0_expect_0 2 rfl rfl)
theorem dX0_expect_5 : decode cX0_expect 5 = .ok (.ifCond .ne 15, 3) := dk_154 0 15 (dk_at dksX0_expect_0 5 rfl rfl)
theorem dX0_expect_8 : decode cX0_expect 8 = .ok (.new 327, 3) := dk_187 1 71 (dk_at dksX0_expect_0 8 rfl rfl)
theorem dX0_expect_11 : decode cX0_expect 11 = .ok (.dup, 1) := dk_89 (dk_at dksX0_expect_0 11 rfl rfl)
theorem dX0_expect_12 : decode cX0_expect 12 = .ok (.aload_n 0, 1) := dk_42 (dk_at dksX0_expect_0 12 rfl rfl)
theorem dX0_expect_13 : decode cX0_expect 13 = .ok (.getfield 318, 3) := dk_180 1 62 (dk_at dksX0_expect_0 13 rfl rfl)
theorem dX0_expect_16 : decode cX0_expect 16 = .ok (.invokespecial 329, 3) := dk_183 1 73 (dk_at dksX0_expect_0 16 rfl rfl)
theorem dX0_expect_19 : decode cX0_expect 19 = .ok (.athrow, 1) := dk_191 (dk_at dksX0_expect_0 19 rfl rfl)
theorem dX0_expect_20 : decode cX0_expect 20 = .ok (.return_, 1) := dk_177 (dk_at dksX0_expect_0 20 rfl rfl)
abbrev cX0_skips : ByteArray := prog_1_method_24_code
def yX0_skips : MethodName := ⟨RX0, "skips", "(I)Z"⟩
def dkwX0_skips_0 : List UInt8 := [42, 182, 1, 65, 27, 159, 0, 5, 3, 172, 42, 89, 180, 1, 62, 4, 96, 181, 1, 62, 4, 172]
abbrev dktX0_skips_0 : List UInt8 := dkwX0_skips_0 ++ []
theorem dksX0_skips_0 : cX0_skips.data.toList.drop 0 = dktX0_skips_0 := by decide +kernel
theorem dX0_skips_0 : decode cX0_skips 0 = .ok (.aload_n 0, 1) := dk_42 (dk_at dksX0_skips_0 0 rfl rfl)
theorem dX0_skips_1 : decode cX0_skips 1 = .ok (.invokevirtual 321, 3) := dk_182 1 65 (dk_at dksX0_skips_0 1 rfl rfl)
theorem dX0_skips_4 : decode cX0_skips 4 = .ok (.iload_n 1, 1) := dk_27 (dk_at dksX0_skips_0 4 rfl rfl)
theorem dX0_skips_5 : decode cX0_skips 5 = .ok (.if_icmp .eq 5, 3) := dk_159 0 5 (dk_at dksX0_skips_0 5 rfl rfl)
theorem dX0_skips_8 : decode cX0_skips 8 = .ok (.iconst 0, 1) := dk_3 (dk_at dksX0_skips_0 8 rfl rfl)
theorem dX0_skips_9 : decode cX0_skips 9 = .ok (.ireturn, 1) := dk_172 (dk_at dksX0_skips_0 9 rfl rfl)
theorem dX0_skips_10 : decode cX0_skips 10 = .ok (.aload_n 0, 1) := dk_42 (dk_at dksX0_skips_0 10 rfl rfl)
theorem dX0_skips_11 : decode cX0_skips 11 = .ok (.dup, 1) := dk_89 (dk_at dksX0_skips_0 11 rfl rfl)
theorem dX0_skips_12 : decode cX0_skips 12 = .ok (.getfield 318, 3) := dk_180 1 62 (dk_at dksX0_skips_0 12 rfl rfl)
theorem dX0_skips_15 : decode cX0_skips 15 = .ok (.iconst 1, 1) := dk_4 (dk_at dksX0_skips_0 15 rfl rfl)
theorem dX0_skips_16 : decode cX0_skips 16 = .ok (.iadd, 1) := dk_96 (dk_at dksX0_skips_0 16 rfl rfl)
theorem dX0_skips_17 : decode cX0_skips 17 = .ok (.putfield 318, 3) := dk_181 1 62 (dk_at dksX0_skips_0 17 rfl rfl)
theorem dX0_skips_20 : decode cX0_skips 20 = .ok (.iconst 1, 1) := dk_4 (dk_at dksX0_skips_0 20 rfl rfl)
theorem dX0_skips_21 : decode cX0_skips 21 = .ok (.ireturn, 1) := dk_172 (dk_at dksX0_skips_0 21 rfl rfl)
abbrev cX0_parts : ByteArray := prog_1_method_27_code
def yX0_parts : MethodName := ⟨RX0, "parts", "(LFreightRoads$Part;)I"⟩
def dkwX0_parts_3 : List UInt8 := [3, 181, 1, 51, 21, 4, 172, 58, 5, 42, 3, 181, 1, 51, 25, 5, 191]
abbrev dktX0_parts_3 : List UInt8 := dkwX0_parts_3 ++ []
def dkwX0_parts_2 : List UInt8 := [183, 1, 73, 191, 28, 62, 42, 3, 181, 1, 51, 29, 172, 78, 16, 156, 45, 180, 1, 82, 100, 54, 4, 42]
abbrev dktX0_parts_2 : List UInt8 := dkwX0_parts_2 ++ dktX0_parts_3
def dkwX0_parts_1 : List UInt8 := [154, 255, 241, 42, 180, 1, 62, 42, 180, 1, 51, 162, 0, 15, 187, 1, 71, 89, 42, 180, 1, 62]
abbrev dktX0_parts_1 : List UInt8 := dkwX0_parts_1 ++ dktX0_parts_2
def dkwX0_parts_0 : List UInt8 := [42, 3, 181, 1, 62, 3, 61, 43, 185, 1, 78, 1, 0, 132, 2, 1, 42, 16, 59, 182, 1, 68]
abbrev dktX0_parts_0 : List UInt8 := dkwX0_parts_0 ++ dktX0_parts_1
theorem dksX0_parts_0 : cX0_parts.data.toList.drop 0 = dktX0_parts_0 := by decide +kernel
theorem dksX0_parts_1 : cX0_parts.data.toList.drop 22 = dktX0_parts_1 := dk_seg dksX0_parts_0 22 rfl rfl
theorem dksX0_parts_2 : cX0_parts.data.toList.drop 44 = dktX0_parts_2 := dk_seg dksX0_parts_1 22 rfl rfl
theorem dksX0_parts_3 : cX0_parts.data.toList.drop 68 = dktX0_parts_3 := dk_seg dksX0_parts_2 24 rfl rfl
theorem dX0_parts_0 : decode cX0_parts 0 = .ok (.aload_n 0, 1) := dk_42 (dk_at dksX0_parts_0 0 rfl rfl)
theorem dX0_parts_1 : decode cX0_parts 1 = .ok (.iconst 0, 1) := dk_3 (dk_at dksX0_parts_0 1 rfl rfl)
theorem dX0_parts_2 : decode cX0_parts 2 = .ok (.putfield 318, 3) := dk_181 1 62 (dk_at dksX0_parts_0 2 rfl rfl)
theorem dX0_parts_5 : decode cX0_parts 5 = .ok (.iconst 0, 1) := dk_3 (dk_at dksX0_parts_0 5 rfl rfl)
theorem dX0_parts_6 : decode cX0_parts 6 = .ok (.istore_n 2, 1) := dk_61 (dk_at dksX0_parts_0 6 rfl rfl)
theorem dX0_parts_7 : decode cX0_parts 7 = .ok (.aload_n 1, 1) := dk_43 (dk_at dksX0_parts_0 7 rfl rfl)
theorem dX0_parts_8 : decode cX0_parts 8 = .ok (.invokeinterface 334 1, 5) := by decide +kernel
theorem dX0_parts_13 : decode cX0_parts 13 = .ok (.iinc 2 1, 3) := dk_132 2 1 (dk_at dksX0_parts_0 13 rfl rfl)
theorem dX0_parts_16 : decode cX0_parts 16 = .ok (.aload_n 0, 1) := dk_42 (dk_at dksX0_parts_0 16 rfl rfl)
theorem dX0_parts_17 : decode cX0_parts 17 = .ok (.bipush 59, 2) := dk_16 59 (dk_at dksX0_parts_0 17 rfl rfl)
theorem dX0_parts_19 : decode cX0_parts 19 = .ok (.invokevirtual 324, 3) := dk_182 1 68 (dk_at dksX0_parts_0 19 rfl rfl)
theorem dX0_parts_22 : decode cX0_parts 22 = .ok (.ifCond .ne (-15), 3) := dk_154 255 241 (dk_at dksX0_parts_1 0 rfl rfl)
theorem dX0_parts_25 : decode cX0_parts 25 = .ok (.aload_n 0, 1) := dk_42 (dk_at dksX0_parts_1 3 rfl rfl)
theorem dX0_parts_26 : decode cX0_parts 26 = .ok (.getfield 318, 3) := dk_180 1 62 (dk_at dksX0_parts_1 4 rfl rfl)
theorem dX0_parts_29 : decode cX0_parts 29 = .ok (.aload_n 0, 1) := dk_42 (dk_at dksX0_parts_1 7 rfl rfl)
theorem dX0_parts_30 : decode cX0_parts 30 = .ok (.getfield 307, 3) := dk_180 1 51 (dk_at dksX0_parts_1 8 rfl rfl)
theorem dX0_parts_33 : decode cX0_parts 33 = .ok (.if_icmp .ge 15, 3) := dk_162 0 15 (dk_at dksX0_parts_1 11 rfl rfl)
theorem dX0_parts_36 : decode cX0_parts 36 = .ok (.new 327, 3) := dk_187 1 71 (dk_at dksX0_parts_1 14 rfl rfl)
theorem dX0_parts_39 : decode cX0_parts 39 = .ok (.dup, 1) := dk_89 (dk_at dksX0_parts_1 17 rfl rfl)
theorem dX0_parts_40 : decode cX0_parts 40 = .ok (.aload_n 0, 1) := dk_42 (dk_at dksX0_parts_1 18 rfl rfl)
theorem dX0_parts_41 : decode cX0_parts 41 = .ok (.getfield 318, 3) := dk_180 1 62 (dk_at dksX0_parts_1 19 rfl rfl)
theorem dX0_parts_44 : decode cX0_parts 44 = .ok (.invokespecial 329, 3) := dk_183 1 73 (dk_at dksX0_parts_2 0 rfl rfl)
theorem dX0_parts_47 : decode cX0_parts 47 = .ok (.athrow, 1) := dk_191 (dk_at dksX0_parts_2 3 rfl rfl)
theorem dX0_parts_48 : decode cX0_parts 48 = .ok (.iload_n 2, 1) := dk_28 (dk_at dksX0_parts_2 4 rfl rfl)
theorem dX0_parts_49 : decode cX0_parts 49 = .ok (.istore_n 3, 1) := dk_62 (dk_at dksX0_parts_2 5 rfl rfl)
theorem dX0_parts_50 : decode cX0_parts 50 = .ok (.aload_n 0, 1) := dk_42 (dk_at dksX0_parts_2 6 rfl rfl)
theorem dX0_parts_51 : decode cX0_parts 51 = .ok (.iconst 0, 1) := dk_3 (dk_at dksX0_parts_2 7 rfl rfl)
theorem dX0_parts_52 : decode cX0_parts 52 = .ok (.putfield 307, 3) := dk_181 1 51 (dk_at dksX0_parts_2 8 rfl rfl)
theorem dX0_parts_55 : decode cX0_parts 55 = .ok (.iload_n 3, 1) := dk_29 (dk_at dksX0_parts_2 11 rfl rfl)
theorem dX0_parts_56 : decode cX0_parts 56 = .ok (.ireturn, 1) := dk_172 (dk_at dksX0_parts_2 12 rfl rfl)
theorem dX0_parts_57 : decode cX0_parts 57 = .ok (.astore_n 3, 1) := dk_78 (dk_at dksX0_parts_2 13 rfl rfl)
theorem dX0_parts_58 : decode cX0_parts 58 = .ok (.bipush (-100), 2) := dk_16 156 (dk_at dksX0_parts_2 14 rfl rfl)
theorem dX0_parts_60 : decode cX0_parts 60 = .ok (.aload_n 3, 1) := dk_45 (dk_at dksX0_parts_2 16 rfl rfl)
theorem dX0_parts_61 : decode cX0_parts 61 = .ok (.getfield 338, 3) := dk_180 1 82 (dk_at dksX0_parts_2 17 rfl rfl)
theorem dX0_parts_64 : decode cX0_parts 64 = .ok (.isub, 1) := dk_100 (dk_at dksX0_parts_2 20 rfl rfl)
theorem dX0_parts_65 : decode cX0_parts 65 = .ok (.istore 4, 2) := dk_54 4 (dk_at dksX0_parts_2 21 rfl rfl)
theorem dX0_parts_67 : decode cX0_parts 67 = .ok (.aload_n 0, 1) := dk_42 (dk_at dksX0_parts_2 23 rfl rfl)
theorem dX0_parts_68 : decode cX0_parts 68 = .ok (.iconst 0, 1) := dk_3 (dk_at dksX0_parts_3 0 rfl rfl)
theorem dX0_parts_69 : decode cX0_parts 69 = .ok (.putfield 307, 3) := dk_181 1 51 (dk_at dksX0_parts_3 1 rfl rfl)
theorem dX0_parts_72 : decode cX0_parts 72 = .ok (.iload 4, 2) := dk_21 4 (dk_at dksX0_parts_3 4 rfl rfl)
theorem dX0_parts_74 : decode cX0_parts 74 = .ok (.ireturn, 1) := dk_172 (dk_at dksX0_parts_3 6 rfl rfl)
theorem dX0_parts_75 : decode cX0_parts 75 = .ok (.astore 5, 2) := dk_58 5 (dk_at dksX0_parts_3 7 rfl rfl)
theorem dX0_parts_77 : decode cX0_parts 77 = .ok (.aload_n 0, 1) := dk_42 (dk_at dksX0_parts_3 9 rfl rfl)
theorem dX0_parts_78 : decode cX0_parts 78 = .ok (.iconst 0, 1) := dk_3 (dk_at dksX0_parts_3 10 rfl rfl)
theorem dX0_parts_79 : decode cX0_parts 79 = .ok (.putfield 307, 3) := dk_181 1 51 (dk_at dksX0_parts_3 11 rfl rfl)
theorem dX0_parts_82 : decode cX0_parts 82 = .ok (.aload 5, 2) := dk_25 5 (dk_at dksX0_parts_3 14 rfl rfl)
theorem dX0_parts_84 : decode cX0_parts 84 = .ok (.athrow, 1) := dk_191 (dk_at dksX0_parts_3 16 rfl rfl)
abbrev cX0_supplies : ByteArray := prog_1_method_31_code
def yX0_supplies : MethodName := ⟨RX0, "supplies", "()I"⟩
def dkwX0_supplies_2 : List UInt8 := [184, 0, 198, 27, 172]
abbrev dktX0_supplies_2 : List UInt8 := dkwX0_supplies_2 ++ []
def dkwX0_supplies_1 : List UInt8 := [182, 1, 98, 60, 27, 158, 0, 22, 42, 182, 1, 10, 42, 180, 0, 58, 3, 42, 180, 0, 15, 3, 16, 8]
abbrev dktX0_supplies_1 : List UInt8 := dkwX0_supplies_1 ++ dktX0_supplies_2
def dkwX0_supplies_0 : List UInt8 := [42, 180, 0, 15, 3, 42, 180, 0, 58, 3, 16, 8, 184, 0, 198, 42, 42, 186, 1, 102, 0, 0]
abbrev dktX0_supplies_0 : List UInt8 := dkwX0_supplies_0 ++ dktX0_supplies_1
theorem dksX0_supplies_0 : cX0_supplies.data.toList.drop 0 = dktX0_supplies_0 := by decide +kernel
theorem dksX0_supplies_1 : cX0_supplies.data.toList.drop 22 = dktX0_supplies_1 := dk_seg dksX0_supplies_0 22 rfl rfl
theorem dksX0_supplies_2 : cX0_supplies.data.toList.drop 46 = dktX0_supplies_2 := dk_seg dksX0_supplies_1 24 rfl rfl
theorem dX0_supplies_0 : decode cX0_supplies 0 = .ok (.aload_n 0, 1) := dk_42 (dk_at dksX0_supplies_0 0 rfl rfl)
theorem dX0_supplies_1 : decode cX0_supplies 1 = .ok (.getfield 15, 3) := dk_180 0 15 (dk_at dksX0_supplies_0 1 rfl rfl)
theorem dX0_supplies_4 : decode cX0_supplies 4 = .ok (.iconst 0, 1) := dk_3 (dk_at dksX0_supplies_0 4 rfl rfl)
theorem dX0_supplies_5 : decode cX0_supplies 5 = .ok (.aload_n 0, 1) := dk_42 (dk_at dksX0_supplies_0 5 rfl rfl)
theorem dX0_supplies_6 : decode cX0_supplies 6 = .ok (.getfield 58, 3) := dk_180 0 58 (dk_at dksX0_supplies_0 6 rfl rfl)
theorem dX0_supplies_9 : decode cX0_supplies 9 = .ok (.iconst 0, 1) := dk_3 (dk_at dksX0_supplies_0 9 rfl rfl)
theorem dX0_supplies_10 : decode cX0_supplies 10 = .ok (.bipush 8, 2) := dk_16 8 (dk_at dksX0_supplies_0 10 rfl rfl)
theorem dX0_supplies_12 : decode cX0_supplies 12 = .ok (.invokestatic 198, 3) := dk_184 0 198 (dk_at dksX0_supplies_0 12 rfl rfl)
theorem dX0_supplies_15 : decode cX0_supplies 15 = .ok (.aload_n 0, 1) := dk_42 (dk_at dksX0_supplies_0 15 rfl rfl)
theorem dX0_supplies_16 : decode cX0_supplies 16 = .ok (.aload_n 0, 1) := dk_42 (dk_at dksX0_supplies_0 16 rfl rfl)
theorem dX0_supplies_17 : decode cX0_supplies 17 = .ok (.invokedynamic 358, 5) := by decide +kernel
theorem dX0_supplies_22 : decode cX0_supplies 22 = .ok (.invokevirtual 354, 3) := dk_182 1 98 (dk_at dksX0_supplies_1 0 rfl rfl)
theorem dX0_supplies_25 : decode cX0_supplies 25 = .ok (.istore_n 1, 1) := dk_60 (dk_at dksX0_supplies_1 3 rfl rfl)
theorem dX0_supplies_26 : decode cX0_supplies 26 = .ok (.iload_n 1, 1) := dk_27 (dk_at dksX0_supplies_1 4 rfl rfl)
theorem dX0_supplies_27 : decode cX0_supplies 27 = .ok (.ifCond .le 22, 3) := dk_158 0 22 (dk_at dksX0_supplies_1 5 rfl rfl)
theorem dX0_supplies_30 : decode cX0_supplies 30 = .ok (.aload_n 0, 1) := dk_42 (dk_at dksX0_supplies_1 8 rfl rfl)
theorem dX0_supplies_31 : decode cX0_supplies 31 = .ok (.invokevirtual 266, 3) := dk_182 1 10 (dk_at dksX0_supplies_1 9 rfl rfl)
theorem dX0_supplies_34 : decode cX0_supplies 34 = .ok (.aload_n 0, 1) := dk_42 (dk_at dksX0_supplies_1 12 rfl rfl)
theorem dX0_supplies_35 : decode cX0_supplies 35 = .ok (.getfield 58, 3) := dk_180 0 58 (dk_at dksX0_supplies_1 13 rfl rfl)
theorem dX0_supplies_38 : decode cX0_supplies 38 = .ok (.iconst 0, 1) := dk_3 (dk_at dksX0_supplies_1 16 rfl rfl)
theorem dX0_supplies_39 : decode cX0_supplies 39 = .ok (.aload_n 0, 1) := dk_42 (dk_at dksX0_supplies_1 17 rfl rfl)
theorem dX0_supplies_40 : decode cX0_supplies 40 = .ok (.getfield 15, 3) := dk_180 0 15 (dk_at dksX0_supplies_1 18 rfl rfl)
theorem dX0_supplies_43 : decode cX0_supplies 43 = .ok (.iconst 0, 1) := dk_3 (dk_at dksX0_supplies_1 21 rfl rfl)
theorem dX0_supplies_44 : decode cX0_supplies 44 = .ok (.bipush 8, 2) := dk_16 8 (dk_at dksX0_supplies_1 22 rfl rfl)
theorem dX0_supplies_46 : decode cX0_supplies 46 = .ok (.invokestatic 198, 3) := dk_184 0 198 (dk_at dksX0_supplies_2 0 rfl rfl)
theorem dX0_supplies_49 : decode cX0_supplies 49 = .ok (.iload_n 1, 1) := dk_27 (dk_at dksX0_supplies_2 3 rfl rfl)
theorem dX0_supplies_50 : decode cX0_supplies 50 = .ok (.ireturn, 1) := dk_172 (dk_at dksX0_supplies_2 4 rfl rfl)
abbrev cX0_readSupply : ByteArray := prog_1_method_30_code
def yX0_readSupply : MethodName := ⟨RX0, "readSupply", "()V"⟩
def dkwX0_readSupply_2 : List UInt8 := [167, 0, 4, 29, 79, 177]
abbrev dktX0_readSupply_2 : List UInt8 := dkwX0_readSupply_2 ++ []
def dkwX0_readSupply_1 : List UInt8 := [182, 1, 68, 61, 42, 5, 3, 16, 99, 182, 1, 85, 62, 42, 180, 0, 58, 27, 28, 153, 0, 8, 29, 116]
abbrev dktX0_readSupply_1 : List UInt8 := dkwX0_readSupply_1 ++ dktX0_readSupply_2
def dkwX0_readSupply_0 : List UInt8 := [42, 4, 3, 42, 180, 0, 11, 4, 100, 182, 1, 85, 60, 42, 16, 61, 182, 1, 89, 42, 16, 45]
abbrev dktX0_readSupply_0 : List UInt8 := dkwX0_readSupply_0 ++ dktX0_readSupply_1
theorem dksX0_readSupply_0 : cX0_readSupply.data.toList.drop 0 = dktX0_readSupply_0 := by decide +kernel
theorem dksX0_readSupply_1 : cX0_readSupply.data.toList.drop 22 = dktX0_readSupply_1 := dk_seg dksX0_readSupply_0 22 rfl rfl
theorem dksX0_readSupply_2 : cX0_readSupply.data.toList.drop 46 = dktX0_readSupply_2 := dk_seg dksX0_readSupply_1 24 rfl rfl
theorem dX0_readSupply_0 : decode cX0_readSupply 0 = .ok (.aload_n 0, 1) := dk_42 (dk_at dksX0_readSupply_0 0 rfl rfl)
theorem dX0_readSupply_1 : decode cX0_readSupply 1 = .ok (.iconst 1, 1) := dk_4 (dk_at dksX0_readSupply_0 1 rfl rfl)
theorem dX0_readSupply_2 : decode cX0_readSupply 2 = .ok (.iconst 0, 1) := dk_3 (dk_at dksX0_readSupply_0 2 rfl rfl)
theorem dX0_readSupply_3 : decode cX0_readSupply 3 = .ok (.aload_n 0, 1) := dk_42 (dk_at dksX0_readSupply_0 3 rfl rfl)
theorem dX0_readSupply_4 : decode cX0_readSupply 4 = .ok (.getfield 11, 3) := dk_180 0 11 (dk_at dksX0_readSupply_0 4 rfl rfl)
theorem dX0_readSupply_7 : decode cX0_readSupply 7 = .ok (.iconst 1, 1) := dk_4 (dk_at dksX0_readSupply_0 7 rfl rfl)
theorem dX0_readSupply_8 : decode cX0_readSupply 8 = .ok (.isub, 1) := dk_100 (dk_at dksX0_readSupply_0 8 rfl rfl)
theorem dX0_readSupply_9 : decode cX0_readSupply 9 = .ok (.invokevirtual 341, 3) := dk_182 1 85 (dk_at dksX0_readSupply_0 9 rfl rfl)
theorem dX0_readSupply_12 : decode cX0_readSupply 12 = .ok (.istore_n 1, 1) := dk_60 (dk_at dksX0_readSupply_0 12 rfl rfl)
theorem dX0_readSupply_13 : decode cX0_readSupply 13 = .ok (.aload_n 0, 1) := dk_42 (dk_at dksX0_readSupply_0 13 rfl rfl)
theorem dX0_readSupply_14 : decode cX0_readSupply 14 = .ok (.bipush 61, 2) := dk_16 61 (dk_at dksX0_readSupply_0 14 rfl rfl)
theorem dX0_readSupply_16 : decode cX0_readSupply 16 = .ok (.invokevirtual 345, 3) := dk_182 1 89 (dk_at dksX0_readSupply_0 16 rfl rfl)
theorem dX0_readSupply_19 : decode cX0_readSupply 19 = .ok (.aload_n 0, 1) := dk_42 (dk_at dksX0_readSupply_0 19 rfl rfl)
theorem dX0_readSupply_20 : decode cX0_readSupply 20 = .ok (.bipush 45, 2) := dk_16 45 (dk_at dksX0_readSupply_0 20 rfl rfl)
theorem dX0_readSupply_22 : decode cX0_readSupply 22 = .ok (.invokevirtual 324, 3) := dk_182 1 68 (dk_at dksX0_readSupply_1 0 rfl rfl)
theorem dX0_readSupply_25 : decode cX0_readSupply 25 = .ok (.istore_n 2, 1) := dk_61 (dk_at dksX0_readSupply_1 3 rfl rfl)
theorem dX0_readSupply_26 : decode cX0_readSupply 26 = .ok (.aload_n 0, 1) := dk_42 (dk_at dksX0_readSupply_1 4 rfl rfl)
theorem dX0_readSupply_27 : decode cX0_readSupply 27 = .ok (.iconst 2, 1) := dk_5 (dk_at dksX0_readSupply_1 5 rfl rfl)
theorem dX0_readSupply_28 : decode cX0_readSupply 28 = .ok (.iconst 0, 1) := dk_3 (dk_at dksX0_readSupply_1 6 rfl rfl)
theorem dX0_readSupply_29 : decode cX0_readSupply 29 = .ok (.bipush 99, 2) := dk_16 99 (dk_at dksX0_readSupply_1 7 rfl rfl)
theorem dX0_readSupply_31 : decode cX0_readSupply 31 = .ok (.invokevirtual 341, 3) := dk_182 1 85 (dk_at dksX0_readSupply_1 9 rfl rfl)
theorem dX0_readSupply_34 : decode cX0_readSupply 34 = .ok (.istore_n 3, 1) := dk_62 (dk_at dksX0_readSupply_1 12 rfl rfl)
theorem dX0_readSupply_35 : decode cX0_readSupply 35 = .ok (.aload_n 0, 1) := dk_42 (dk_at dksX0_readSupply_1 13 rfl rfl)
theorem dX0_readSupply_36 : decode cX0_readSupply 36 = .ok (.getfield 58, 3) := dk_180 0 58 (dk_at dksX0_readSupply_1 14 rfl rfl)
theorem dX0_readSupply_39 : decode cX0_readSupply 39 = .ok (.iload_n 1, 1) := dk_27 (dk_at dksX0_readSupply_1 17 rfl rfl)
theorem dX0_readSupply_40 : decode cX0_readSupply 40 = .ok (.iload_n 2, 1) := dk_28 (dk_at dksX0_readSupply_1 18 rfl rfl)
theorem dX0_readSupply_41 : decode cX0_readSupply 41 = .ok (.ifCond .eq 8, 3) := dk_153 0 8 (dk_at dksX0_readSupply_1 19 rfl rfl)
theorem dX0_readSupply_44 : decode cX0_readSupply 44 = .ok (.iload_n 3, 1) := dk_29 (dk_at dksX0_readSupply_1 22 rfl rfl)
theorem dX0_readSupply_45 : decode cX0_readSupply 45 = .ok (.ineg, 1) := dk_116 (dk_at dksX0_readSupply_1 23 rfl rfl)
theorem dX0_readSupply_46 : decode cX0_readSupply 46 = .ok (.goto 4, 3) := dk_167 0 4 (dk_at dksX0_readSupply_2 0 rfl rfl)
theorem dX0_readSupply_49 : decode cX0_readSupply 49 = .ok (.iload_n 3, 1) := dk_29 (dk_at dksX0_readSupply_2 3 rfl rfl)
theorem dX0_readSupply_50 : decode cX0_readSupply 50 = .ok (.iastore, 1) := dk_79 (dk_at dksX0_readSupply_2 4 rfl rfl)
theorem dX0_readSupply_51 : decode cX0_readSupply 51 = .ok (.return_, 1) := dk_177 (dk_at dksX0_readSupply_2 5 rfl rfl)
abbrev cX0_is : ByteArray := prog_1_method_32_code
def yX0_is : MethodName := ⟨RX0, "is", "()I"⟩
def dkwX0_is_0 : List UInt8 := [42, 182, 1, 103, 154, 0, 6, 16, 253, 172, 42, 180, 0, 29, 182, 1, 105, 88, 4, 172, 76, 16, 250, 172]
abbrev dktX0_is_0 : List UInt8 := dkwX0_is_0 ++ []
theorem dksX0_is_0 : cX0_is.data.toList.drop 0 = dktX0_is_0 := by decide +kernel
theorem dX0_is_0 : decode cX0_is 0 = .ok (.aload_n 0, 1) := dk_42 (dk_at dksX0_is_0 0 rfl rfl)
theorem dX0_is_1 : decode cX0_is 1 = .ok (.invokevirtual 359, 3) := dk_182 1 103 (dk_at dksX0_is_0 1 rfl rfl)
theorem dX0_is_4 : decode cX0_is 4 = .ok (.ifCond .ne 6, 3) := dk_154 0 6 (dk_at dksX0_is_0 4 rfl rfl)
theorem dX0_is_7 : decode cX0_is 7 = .ok (.bipush (-3), 2) := dk_16 253 (dk_at dksX0_is_0 7 rfl rfl)
theorem dX0_is_9 : decode cX0_is 9 = .ok (.ireturn, 1) := dk_172 (dk_at dksX0_is_0 9 rfl rfl)
theorem dX0_is_10 : decode cX0_is 10 = .ok (.aload_n 0, 1) := dk_42 (dk_at dksX0_is_0 10 rfl rfl)
theorem dX0_is_11 : decode cX0_is 11 = .ok (.getfield 29, 3) := dk_180 0 29 (dk_at dksX0_is_0 11 rfl rfl)
theorem dX0_is_14 : decode cX0_is 14 = .ok (.invokevirtual 361, 3) := dk_182 1 105 (dk_at dksX0_is_0 14 rfl rfl)
theorem dX0_is_17 : decode cX0_is 17 = .ok (.pop2, 1) := dk_88 (dk_at dksX0_is_0 17 rfl rfl)
theorem dX0_is_18 : decode cX0_is 18 = .ok (.iconst 1, 1) := dk_4 (dk_at dksX0_is_0 18 rfl rfl)
theorem dX0_is_19 : decode cX0_is 19 = .ok (.ireturn, 1) := dk_172 (dk_at dksX0_is_0 19 rfl rfl)
theorem dX0_is_20 : decode cX0_is 20 = .ok (.astore_n 1, 1) := dk_76 (dk_at dksX0_is_0 20 rfl rfl)
theorem dX0_is_21 : decode cX0_is 21 = .ok (.bipush (-6), 2) := dk_16 250 (dk_at dksX0_is_0 21 rfl rfl)
theorem dX0_is_23 : decode cX0_is 23 = .ok (.ireturn, 1) := dk_172 (dk_at dksX0_is_0 23 rfl rfl)
abbrev cX0_isFlow : ByteArray := prog_1_method_9_code
def yX0_isFlow : MethodName := ⟨RX0, "isFlow", "()Z"⟩
def dkwX0_isFlow_0 : List UInt8 := [42, 182, 0, 211, 180, 0, 215, 172]
abbrev dktX0_isFlow_0 : List UInt8 := dkwX0_isFlow_0 ++ []
theorem dksX0_isFlow_0 : cX0_isFlow.data.toList.drop 0 = dktX0_isFlow_0 := by decide +kernel
theorem dX0_isFlow_0 : decode cX0_isFlow 0 = .ok (.aload_n 0, 1) := dk_42 (dk_at dksX0_isFlow_0 0 rfl rfl)
theorem dX0_isFlow_1 : decode cX0_isFlow 1 = .ok (.invokevirtual 211, 3) := dk_182 0 211 (dk_at dksX0_isFlow_0 1 rfl rfl)
theorem dX0_isFlow_4 : decode cX0_isFlow 4 = .ok (.getfield 215, 3) := dk_180 0 215 (dk_at dksX0_isFlow_0 4 rfl rfl)
theorem dX0_isFlow_7 : decode cX0_isFlow 7 = .ok (.ireturn, 1) := dk_172 (dk_at dksX0_isFlow_0 7 rfl rfl)
abbrev cX0_solved : ByteArray := prog_1_method_8_code
def yX0_solved : MethodName := ⟨RX0, "solved", "()LFreightRoads$Net;"⟩
def dkwX0_solved_1 : List UInt8 := [4, 181, 0, 144, 42, 180, 0, 29, 176]
abbrev dktX0_solved_1 : List UInt8 := dkwX0_solved_1 ++ []
def dkwX0_solved_0 : List UInt8 := [42, 180, 0, 144, 154, 0, 24, 42, 42, 180, 0, 29, 182, 0, 204, 42, 180, 0, 29, 182, 0, 208, 87, 42]
abbrev dktX0_solved_0 : List UInt8 := dkwX0_solved_0 ++ dktX0_solved_1
theorem dksX0_solved_0 : cX0_solved.data.toList.drop 0 = dktX0_solved_0 := by decide +kernel
theorem dksX0_solved_1 : cX0_solved.data.toList.drop 24 = dktX0_solved_1 := dk_seg dksX0_solved_0 24 rfl rfl
theorem dX0_solved_0 : decode cX0_solved 0 = .ok (.aload_n 0, 1) := dk_42 (dk_at dksX0_solved_0 0 rfl rfl)
theorem dX0_solved_1 : decode cX0_solved 1 = .ok (.getfield 144, 3) := dk_180 0 144 (dk_at dksX0_solved_0 1 rfl rfl)
theorem dX0_solved_4 : decode cX0_solved 4 = .ok (.ifCond .ne 24, 3) := dk_154 0 24 (dk_at dksX0_solved_0 4 rfl rfl)
theorem dX0_solved_7 : decode cX0_solved 7 = .ok (.aload_n 0, 1) := dk_42 (dk_at dksX0_solved_0 7 rfl rfl)
theorem dX0_solved_8 : decode cX0_solved 8 = .ok (.aload_n 0, 1) := dk_42 (dk_at dksX0_solved_0 8 rfl rfl)
theorem dX0_solved_9 : decode cX0_solved 9 = .ok (.getfield 29, 3) := dk_180 0 29 (dk_at dksX0_solved_0 9 rfl rfl)
theorem dX0_solved_12 : decode cX0_solved 12 = .ok (.invokevirtual 204, 3) := dk_182 0 204 (dk_at dksX0_solved_0 12 rfl rfl)
theorem dX0_solved_15 : decode cX0_solved 15 = .ok (.aload_n 0, 1) := dk_42 (dk_at dksX0_solved_0 15 rfl rfl)
theorem dX0_solved_16 : decode cX0_solved 16 = .ok (.getfield 29, 3) := dk_180 0 29 (dk_at dksX0_solved_0 16 rfl rfl)
theorem dX0_solved_19 : decode cX0_solved 19 = .ok (.invokevirtual 208, 3) := dk_182 0 208 (dk_at dksX0_solved_0 19 rfl rfl)
theorem dX0_solved_22 : decode cX0_solved 22 = .ok (.pop, 1) := dk_87 (dk_at dksX0_solved_0 22 rfl rfl)
theorem dX0_solved_23 : decode cX0_solved 23 = .ok (.aload_n 0, 1) := dk_42 (dk_at dksX0_solved_0 23 rfl rfl)
theorem dX0_solved_24 : decode cX0_solved 24 = .ok (.iconst 1, 1) := dk_4 (dk_at dksX0_solved_1 0 rfl rfl)
theorem dX0_solved_25 : decode cX0_solved 25 = .ok (.putfield 144, 3) := dk_181 0 144 (dk_at dksX0_solved_1 1 rfl rfl)
theorem dX0_solved_28 : decode cX0_solved 28 = .ok (.aload_n 0, 1) := dk_42 (dk_at dksX0_solved_1 4 rfl rfl)
theorem dX0_solved_29 : decode cX0_solved 29 = .ok (.getfield 29, 3) := dk_180 0 29 (dk_at dksX0_solved_1 5 rfl rfl)
theorem dX0_solved_32 : decode cX0_solved 32 = .ok (.areturn, 1) := dk_176 (dk_at dksX0_solved_1 8 rfl rfl)
abbrev cX0_lays : ByteArray := prog_1_method_7_code
def yX0_lays : MethodName := ⟨RX0, "lays", "(LFreightRoads$Net;)V"⟩
def dkwX0_lays_3 : List UInt8 := [180, 0, 15, 3, 43, 180, 0, 195, 3, 16, 8, 184, 0, 198, 177]
abbrev dktX0_lays_3 : List UInt8 := dkwX0_lays_3 ++ []
def dkwX0_lays_2 : List UInt8 := [180, 0, 178, 45, 180, 0, 181, 45, 180, 0, 184, 45, 180, 0, 187, 182, 0, 191, 167, 255, 213, 42]
abbrev dktX0_lays_2 : List UInt8 := dkwX0_lays_2 ++ dktX0_lays_3
def dkwX0_lays_1 : List UInt8 := [185, 0, 163, 1, 0, 153, 0, 40, 44, 185, 0, 169, 1, 0, 192, 0, 173, 78, 43, 45, 180, 0, 175, 45]
abbrev dktX0_lays_1 : List UInt8 := dkwX0_lays_1 ++ dktX0_lays_2
def dkwX0_lays_0 : List UInt8 := [43, 42, 180, 0, 11, 181, 0, 154, 43, 3, 181, 0, 157, 42, 180, 0, 22, 182, 0, 159, 77, 44]
abbrev dktX0_lays_0 : List UInt8 := dkwX0_lays_0 ++ dktX0_lays_1
theorem dksX0_lays_0 : cX0_lays.data.toList.drop 0 = dktX0_lays_0 := by decide +kernel
theorem dksX0_lays_1 : cX0_lays.data.toList.drop 22 = dktX0_lays_1 := dk_seg dksX0_lays_0 22 rfl rfl
theorem dksX0_lays_2 : cX0_lays.data.toList.drop 46 = dktX0_lays_2 := dk_seg dksX0_lays_1 24 rfl rfl
theorem dksX0_lays_3 : cX0_lays.data.toList.drop 68 = dktX0_lays_3 := dk_seg dksX0_lays_2 22 rfl rfl
theorem dX0_lays_0 : decode cX0_lays 0 = .ok (.aload_n 1, 1) := dk_43 (dk_at dksX0_lays_0 0 rfl rfl)
theorem dX0_lays_1 : decode cX0_lays 1 = .ok (.aload_n 0, 1) := dk_42 (dk_at dksX0_lays_0 1 rfl rfl)
theorem dX0_lays_2 : decode cX0_lays 2 = .ok (.getfield 11, 3) := dk_180 0 11 (dk_at dksX0_lays_0 2 rfl rfl)
theorem dX0_lays_5 : decode cX0_lays 5 = .ok (.putfield 154, 3) := dk_181 0 154 (dk_at dksX0_lays_0 5 rfl rfl)
theorem dX0_lays_8 : decode cX0_lays 8 = .ok (.aload_n 1, 1) := dk_43 (dk_at dksX0_lays_0 8 rfl rfl)
theorem dX0_lays_9 : decode cX0_lays 9 = .ok (.iconst 0, 1) := dk_3 (dk_at dksX0_lays_0 9 rfl rfl)
theorem dX0_lays_10 : decode cX0_lays 10 = .ok (.putfield 157, 3) := dk_181 0 157 (dk_at dksX0_lays_0 10 rfl rfl)
theorem dX0_lays_13 : decode cX0_lays 13 = .ok (.aload_n 0, 1) := dk_42 (dk_at dksX0_lays_0 13 rfl rfl)
theorem dX0_lays_14 : decode cX0_lays 14 = .ok (.getfield 22, 3) := dk_180 0 22 (dk_at dksX0_lays_0 14 rfl rfl)
theorem dX0_lays_17 : decode cX0_lays 17 = .ok (.invokevirtual 159, 3) := dk_182 0 159 (dk_at dksX0_lays_0 17 rfl rfl)
theorem dX0_lays_20 : decode cX0_lays 20 = .ok (.astore_n 2, 1) := dk_77 (dk_at dksX0_lays_0 20 rfl rfl)
theorem dX0_lays_21 : decode cX0_lays 21 = .ok (.aload_n 2, 1) := dk_44 (dk_at dksX0_lays_0 21 rfl rfl)
theorem dX0_lays_22 : decode cX0_lays 22 = .ok (.invokeinterface 163 1, 5) := by decide +kernel
theorem dX0_lays_27 : decode cX0_lays 27 = .ok (.ifCond .eq 40, 3) := dk_153 0 40 (dk_at dksX0_lays_1 5 rfl rfl)
theorem dX0_lays_30 : decode cX0_lays 30 = .ok (.aload_n 2, 1) := dk_44 (dk_at dksX0_lays_1 8 rfl rfl)
theorem dX0_lays_31 : decode cX0_lays 31 = .ok (.invokeinterface 169 1, 5) := by decide +kernel
theorem dX0_lays_36 : decode cX0_lays 36 = .ok (.checkcast 173, 3) := dk_192 0 173 (dk_at dksX0_lays_1 14 rfl rfl)
theorem dX0_lays_39 : decode cX0_lays 39 = .ok (.astore_n 3, 1) := dk_78 (dk_at dksX0_lays_1 17 rfl rfl)
theorem dX0_lays_40 : decode cX0_lays 40 = .ok (.aload_n 1, 1) := dk_43 (dk_at dksX0_lays_1 18 rfl rfl)
theorem dX0_lays_41 : decode cX0_lays 41 = .ok (.aload_n 3, 1) := dk_45 (dk_at dksX0_lays_1 19 rfl rfl)
theorem dX0_lays_42 : decode cX0_lays 42 = .ok (.getfield 175, 3) := dk_180 0 175 (dk_at dksX0_lays_1 20 rfl rfl)
theorem dX0_lays_45 : decode cX0_lays 45 = .ok (.aload_n 3, 1) := dk_45 (dk_at dksX0_lays_1 23 rfl rfl)
theorem dX0_lays_46 : decode cX0_lays 46 = .ok (.getfield 178, 3) := dk_180 0 178 (dk_at dksX0_lays_2 0 rfl rfl)
theorem dX0_lays_49 : decode cX0_lays 49 = .ok (.aload_n 3, 1) := dk_45 (dk_at dksX0_lays_2 3 rfl rfl)
theorem dX0_lays_50 : decode cX0_lays 50 = .ok (.getfield 181, 3) := dk_180 0 181 (dk_at dksX0_lays_2 4 rfl rfl)
theorem dX0_lays_53 : decode cX0_lays 53 = .ok (.aload_n 3, 1) := dk_45 (dk_at dksX0_lays_2 7 rfl rfl)
theorem dX0_lays_54 : decode cX0_lays 54 = .ok (.getfield 184, 3) := dk_180 0 184 (dk_at dksX0_lays_2 8 rfl rfl)
theorem dX0_lays_57 : decode cX0_lays 57 = .ok (.aload_n 3, 1) := dk_45 (dk_at dksX0_lays_2 11 rfl rfl)
theorem dX0_lays_58 : decode cX0_lays 58 = .ok (.getfield 187, 3) := dk_180 0 187 (dk_at dksX0_lays_2 12 rfl rfl)
theorem dX0_lays_61 : decode cX0_lays 61 = .ok (.invokevirtual 191, 3) := dk_182 0 191 (dk_at dksX0_lays_2 15 rfl rfl)
theorem dX0_lays_64 : decode cX0_lays 64 = .ok (.goto (-43), 3) := dk_167 255 213 (dk_at dksX0_lays_2 18 rfl rfl)
theorem dX0_lays_67 : decode cX0_lays 67 = .ok (.aload_n 0, 1) := dk_42 (dk_at dksX0_lays_2 21 rfl rfl)
theorem dX0_lays_68 : decode cX0_lays 68 = .ok (.getfield 15, 3) := dk_180 0 15 (dk_at dksX0_lays_3 0 rfl rfl)
theorem dX0_lays_71 : decode cX0_lays 71 = .ok (.iconst 0, 1) := dk_3 (dk_at dksX0_lays_3 3 rfl rfl)
theorem dX0_lays_72 : decode cX0_lays 72 = .ok (.aload_n 1, 1) := dk_43 (dk_at dksX0_lays_3 4 rfl rfl)
theorem dX0_lays_73 : decode cX0_lays 73 = .ok (.getfield 195, 3) := dk_180 0 195 (dk_at dksX0_lays_3 5 rfl rfl)
theorem dX0_lays_76 : decode cX0_lays 76 = .ok (.iconst 0, 1) := dk_3 (dk_at dksX0_lays_3 8 rfl rfl)
theorem dX0_lays_77 : decode cX0_lays 77 = .ok (.bipush 8, 2) := dk_16 8 (dk_at dksX0_lays_3 9 rfl rfl)
theorem dX0_lays_79 : decode cX0_lays 79 = .ok (.invokestatic 198, 3) := dk_184 0 198 (dk_at dksX0_lays_3 11 rfl rfl)
theorem dX0_lays_82 : decode cX0_lays 82 = .ok (.return_, 1) := dk_177 (dk_at dksX0_lays_3 14 rfl rfl)
abbrev cX0_flow : ByteArray := prog_1_method_33_code
def yX0_flow : MethodName := ⟨RX0, "flow", "(I)I"⟩
def dkwX0_flow_1 : List UInt8 := [27, 46, 167, 0, 5, 16, 253, 172]
abbrev dktX0_flow_1 : List UInt8 := dkwX0_flow_1 ++ []
def dkwX0_flow_0 : List UInt8 := [42, 27, 182, 1, 31, 154, 0, 5, 2, 172, 42, 182, 1, 103, 153, 0, 15, 42, 180, 0, 29, 180, 1, 111]
abbrev dktX0_flow_0 : List UInt8 := dkwX0_flow_0 ++ dktX0_flow_1
theorem dksX0_flow_0 : cX0_flow.data.toList.drop 0 = dktX0_flow_0 := by decide +kernel
theorem dksX0_flow_1 : cX0_flow.data.toList.drop 24 = dktX0_flow_1 := dk_seg dksX0_flow_0 24 rfl rfl
theorem dX0_flow_0 : decode cX0_flow 0 = .ok (.aload_n 0, 1) := dk_42 (dk_at dksX0_flow_0 0 rfl rfl)
theorem dX0_flow_1 : decode cX0_flow 1 = .ok (.iload_n 1, 1) := dk_27 (dk_at dksX0_flow_0 1 rfl rfl)
theorem dX0_flow_2 : decode cX0_flow 2 = .ok (.invokevirtual 287, 3) := dk_182 1 31 (dk_at dksX0_flow_0 2 rfl rfl)
theorem dX0_flow_5 : decode cX0_flow 5 = .ok (.ifCond .ne 5, 3) := dk_154 0 5 (dk_at dksX0_flow_0 5 rfl rfl)
theorem dX0_flow_8 : decode cX0_flow 8 = .ok (.iconst (-1), 1) := dk_2 (dk_at dksX0_flow_0 8 rfl rfl)
theorem dX0_flow_9 : decode cX0_flow 9 = .ok (.ireturn, 1) := dk_172 (dk_at dksX0_flow_0 9 rfl rfl)
theorem dX0_flow_10 : decode cX0_flow 10 = .ok (.aload_n 0, 1) := dk_42 (dk_at dksX0_flow_0 10 rfl rfl)
theorem dX0_flow_11 : decode cX0_flow 11 = .ok (.invokevirtual 359, 3) := dk_182 1 103 (dk_at dksX0_flow_0 11 rfl rfl)
theorem dX0_flow_14 : decode cX0_flow 14 = .ok (.ifCond .eq 15, 3) := dk_153 0 15 (dk_at dksX0_flow_0 14 rfl rfl)
theorem dX0_flow_17 : decode cX0_flow 17 = .ok (.aload_n 0, 1) := dk_42 (dk_at dksX0_flow_0 17 rfl rfl)
theorem dX0_flow_18 : decode cX0_flow 18 = .ok (.getfield 29, 3) := dk_180 0 29 (dk_at dksX0_flow_0 18 rfl rfl)
theorem dX0_flow_21 : decode cX0_flow 21 = .ok (.getfield 367, 3) := dk_180 1 111 (dk_at dksX0_flow_0 21 rfl rfl)
theorem dX0_flow_24 : decode cX0_flow 24 = .ok (.iload_n 1, 1) := dk_27 (dk_at dksX0_flow_1 0 rfl rfl)
theorem dX0_flow_25 : decode cX0_flow 25 = .ok (.iaload, 1) := dk_46 (dk_at dksX0_flow_1 1 rfl rfl)
theorem dX0_flow_26 : decode cX0_flow 26 = .ok (.goto 5, 3) := dk_167 0 5 (dk_at dksX0_flow_1 2 rfl rfl)
theorem dX0_flow_29 : decode cX0_flow 29 = .ok (.bipush (-3), 2) := dk_16 253 (dk_at dksX0_flow_1 5 rfl rfl)
theorem dX0_flow_31 : decode cX0_flow 31 = .ok (.ireturn, 1) := dk_172 (dk_at dksX0_flow_1 7 rfl rfl)
abbrev cX0_total : ByteArray := prog_1_method_34_code
def yX0_total : MethodName := ⟨RX0, "total", "()J"⟩
def dkwX0_total_0 : List UInt8 := [42, 182, 1, 103, 154, 0, 7, 20, 1, 47, 173, 42, 180, 0, 29, 182, 1, 105, 173, 76, 20, 1, 47, 173]
abbrev dktX0_total_0 : List UInt8 := dkwX0_total_0 ++ []
theorem dksX0_total_0 : cX0_total.data.toList.drop 0 = dktX0_total_0 := by decide +kernel
theorem dX0_total_0 : decode cX0_total 0 = .ok (.aload_n 0, 1) := dk_42 (dk_at dksX0_total_0 0 rfl rfl)
theorem dX0_total_1 : decode cX0_total 1 = .ok (.invokevirtual 359, 3) := dk_182 1 103 (dk_at dksX0_total_0 1 rfl rfl)
theorem dX0_total_4 : decode cX0_total 4 = .ok (.ifCond .ne 7, 3) := dk_154 0 7 (dk_at dksX0_total_0 4 rfl rfl)
theorem dX0_total_7 : decode cX0_total 7 = .ok (.ldc2_w 303, 3) := dk_20 1 47 (dk_at dksX0_total_0 7 rfl rfl)
theorem dX0_total_10 : decode cX0_total 10 = .ok (.lreturn, 1) := dk_173 (dk_at dksX0_total_0 10 rfl rfl)
theorem dX0_total_11 : decode cX0_total 11 = .ok (.aload_n 0, 1) := dk_42 (dk_at dksX0_total_0 11 rfl rfl)
theorem dX0_total_12 : decode cX0_total 12 = .ok (.getfield 29, 3) := dk_180 0 29 (dk_at dksX0_total_0 12 rfl rfl)
theorem dX0_total_15 : decode cX0_total 15 = .ok (.invokevirtual 361, 3) := dk_182 1 105 (dk_at dksX0_total_0 15 rfl rfl)
theorem dX0_total_18 : decode cX0_total 18 = .ok (.lreturn, 1) := dk_173 (dk_at dksX0_total_0 18 rfl rfl)
theorem dX0_total_19 : decode cX0_total 19 = .ok (.astore_n 1, 1) := dk_76 (dk_at dksX0_total_0 19 rfl rfl)
theorem dX0_total_20 : decode cX0_total 20 = .ok (.ldc2_w 303, 3) := dk_20 1 47 (dk_at dksX0_total_0 20 rfl rfl)
theorem dX0_total_23 : decode cX0_total 23 = .ok (.lreturn, 1) := dk_173 (dk_at dksX0_total_0 23 rfl rfl)
abbrev cX0_price : ByteArray := prog_1_method_36_code
def yX0_price : MethodName := ⟨RX0, "price", "(I)J"⟩
def dkwX0_price_1 : List UInt8 := [182, 1, 122, 153, 0, 15, 42, 180, 0, 29, 180, 1, 124, 27, 47, 167, 0, 6, 20, 1, 47, 173]
abbrev dktX0_price_1 : List UInt8 := dkwX0_price_1 ++ []
def dkwX0_price_0 : List UInt8 := [42, 27, 182, 0, 136, 153, 0, 36, 42, 182, 1, 103, 153, 0, 29, 42, 182, 1, 117, 180, 1, 120, 27]
abbrev dktX0_price_0 : List UInt8 := dkwX0_price_0 ++ dktX0_price_1
theorem dksX0_price_0 : cX0_price.data.toList.drop 0 = dktX0_price_0 := by decide +kernel
theorem dksX0_price_1 : cX0_price.data.toList.drop 23 = dktX0_price_1 := dk_seg dksX0_price_0 23 rfl rfl
theorem dX0_price_0 : decode cX0_price 0 = .ok (.aload_n 0, 1) := dk_42 (dk_at dksX0_price_0 0 rfl rfl)
theorem dX0_price_1 : decode cX0_price 1 = .ok (.iload_n 1, 1) := dk_27 (dk_at dksX0_price_0 1 rfl rfl)
theorem dX0_price_2 : decode cX0_price 2 = .ok (.invokevirtual 136, 3) := dk_182 0 136 (dk_at dksX0_price_0 2 rfl rfl)
theorem dX0_price_5 : decode cX0_price 5 = .ok (.ifCond .eq 36, 3) := dk_153 0 36 (dk_at dksX0_price_0 5 rfl rfl)
theorem dX0_price_8 : decode cX0_price 8 = .ok (.aload_n 0, 1) := dk_42 (dk_at dksX0_price_0 8 rfl rfl)
theorem dX0_price_9 : decode cX0_price 9 = .ok (.invokevirtual 359, 3) := dk_182 1 103 (dk_at dksX0_price_0 9 rfl rfl)
theorem dX0_price_12 : decode cX0_price 12 = .ok (.ifCond .eq 29, 3) := dk_153 0 29 (dk_at dksX0_price_0 12 rfl rfl)
theorem dX0_price_15 : decode cX0_price 15 = .ok (.aload_n 0, 1) := dk_42 (dk_at dksX0_price_0 15 rfl rfl)
theorem dX0_price_16 : decode cX0_price 16 = .ok (.invokevirtual 373, 3) := dk_182 1 117 (dk_at dksX0_price_0 16 rfl rfl)
theorem dX0_price_19 : decode cX0_price 19 = .ok (.getfield 376, 3) := dk_180 1 120 (dk_at dksX0_price_0 19 rfl rfl)
theorem dX0_price_22 : decode cX0_price 22 = .ok (.iload_n 1, 1) := dk_27 (dk_at dksX0_price_0 22 rfl rfl)
theorem dX0_price_23 : decode cX0_price 23 = .ok (.invokevirtual 378, 3) := dk_182 1 122 (dk_at dksX0_price_1 0 rfl rfl)
theorem dX0_price_26 : decode cX0_price 26 = .ok (.ifCond .eq 15, 3) := dk_153 0 15 (dk_at dksX0_price_1 3 rfl rfl)
theorem dX0_price_29 : decode cX0_price 29 = .ok (.aload_n 0, 1) := dk_42 (dk_at dksX0_price_1 6 rfl rfl)
theorem dX0_price_30 : decode cX0_price 30 = .ok (.getfield 29, 3) := dk_180 0 29 (dk_at dksX0_price_1 7 rfl rfl)
theorem dX0_price_33 : decode cX0_price 33 = .ok (.getfield 380, 3) := dk_180 1 124 (dk_at dksX0_price_1 10 rfl rfl)
theorem dX0_price_36 : decode cX0_price 36 = .ok (.iload_n 1, 1) := dk_27 (dk_at dksX0_price_1 13 rfl rfl)
theorem dX0_price_37 : decode cX0_price 37 = .ok (.laload, 1) := dk_47 (dk_at dksX0_price_1 14 rfl rfl)
theorem dX0_price_38 : decode cX0_price 38 = .ok (.goto 6, 3) := dk_167 0 6 (dk_at dksX0_price_1 15 rfl rfl)
theorem dX0_price_41 : decode cX0_price 41 = .ok (.ldc2_w 303, 3) := dk_20 1 47 (dk_at dksX0_price_1 18 rfl rfl)
theorem dX0_price_44 : decode cX0_price 44 = .ok (.lreturn, 1) := dk_173 (dk_at dksX0_price_1 21 rfl rfl)
abbrev cX0_priced : ByteArray := prog_1_method_35_code
def yX0_priced : MethodName := ⟨RX0, "priced", "()LFreightRoads$Net;"⟩
def dkwX0_priced_0 : List UInt8 := [42, 180, 0, 148, 154, 0, 15, 42, 180, 0, 29, 182, 1, 114, 42, 4, 181, 0, 148, 42, 180, 0, 29, 176]
abbrev dktX0_priced_0 : List UInt8 := dkwX0_priced_0 ++ []
theorem dksX0_priced_0 : cX0_priced.data.toList.drop 0 = dktX0_priced_0 := by decide +kernel
theorem dX0_priced_0 : decode cX0_priced 0 = .ok (.aload_n 0, 1) := dk_42 (dk_at dksX0_priced_0 0 rfl rfl)
theorem dX0_priced_1 : decode cX0_priced 1 = .ok (.getfield 148, 3) := dk_180 0 148 (dk_at dksX0_priced_0 1 rfl rfl)
theorem dX0_priced_4 : decode cX0_priced 4 = .ok (.ifCond .ne 15, 3) := dk_154 0 15 (dk_at dksX0_priced_0 4 rfl rfl)
theorem dX0_priced_7 : decode cX0_priced 7 = .ok (.aload_n 0, 1) := dk_42 (dk_at dksX0_priced_0 7 rfl rfl)
theorem dX0_priced_8 : decode cX0_priced 8 = .ok (.getfield 29, 3) := dk_180 0 29 (dk_at dksX0_priced_0 8 rfl rfl)
theorem dX0_priced_11 : decode cX0_priced 11 = .ok (.invokevirtual 370, 3) := dk_182 1 114 (dk_at dksX0_priced_0 11 rfl rfl)
theorem dX0_priced_14 : decode cX0_priced 14 = .ok (.aload_n 0, 1) := dk_42 (dk_at dksX0_priced_0 14 rfl rfl)
theorem dX0_priced_15 : decode cX0_priced 15 = .ok (.iconst 1, 1) := dk_4 (dk_at dksX0_priced_0 15 rfl rfl)
theorem dX0_priced_16 : decode cX0_priced 16 = .ok (.putfield 148, 3) := dk_181 0 148 (dk_at dksX0_priced_0 16 rfl rfl)
theorem dX0_priced_19 : decode cX0_priced 19 = .ok (.aload_n 0, 1) := dk_42 (dk_at dksX0_priced_0 19 rfl rfl)
theorem dX0_priced_20 : decode cX0_priced 20 = .ok (.getfield 29, 3) := dk_180 0 29 (dk_at dksX0_priced_0 20 rfl rfl)
theorem dX0_priced_23 : decode cX0_priced 23 = .ok (.areturn, 1) := dk_176 (dk_at dksX0_priced_0 23 rfl rfl)
abbrev cX0_reduced : ByteArray := prog_1_method_37_code
def yX0_reduced : MethodName := ⟨RX0, "reduced", "(I)J"⟩
def dkwX0_reduced_3 : List UInt8 := [180, 0, 29, 180, 1, 134, 27, 47, 32, 97, 22, 4, 101, 173]
abbrev dktX0_reduced_3 : List UInt8 := dkwX0_reduced_3 ++ []
def dkwX0_reduced_2 : List UInt8 := [32, 20, 1, 47, 148, 153, 0, 12, 22, 4, 20, 1, 47, 148, 154, 0, 9, 20, 1, 47, 167, 0, 17, 42]
abbrev dktX0_reduced_2 : List UInt8 := dkwX0_reduced_2 ++ dktX0_reduced_3
def dkwX0_reduced_1 : List UInt8 := [180, 1, 127, 27, 46, 182, 1, 129, 65, 42, 42, 180, 0, 29, 180, 1, 132, 27, 46, 182, 1, 129, 55, 4]
abbrev dktX0_reduced_1 : List UInt8 := dkwX0_reduced_1 ++ dktX0_reduced_2
def dkwX0_reduced_0 : List UInt8 := [42, 27, 182, 1, 31, 153, 0, 10, 42, 182, 1, 103, 154, 0, 7, 20, 1, 47, 173, 42, 42, 180, 0, 29]
abbrev dktX0_reduced_0 : List UInt8 := dkwX0_reduced_0 ++ dktX0_reduced_1
theorem dksX0_reduced_0 : cX0_reduced.data.toList.drop 0 = dktX0_reduced_0 := by decide +kernel
theorem dksX0_reduced_1 : cX0_reduced.data.toList.drop 24 = dktX0_reduced_1 := dk_seg dksX0_reduced_0 24 rfl rfl
theorem dksX0_reduced_2 : cX0_reduced.data.toList.drop 48 = dktX0_reduced_2 := dk_seg dksX0_reduced_1 24 rfl rfl
theorem dksX0_reduced_3 : cX0_reduced.data.toList.drop 72 = dktX0_reduced_3 := dk_seg dksX0_reduced_2 24 rfl rfl
theorem dX0_reduced_0 : decode cX0_reduced 0 = .ok (.aload_n 0, 1) := dk_42 (dk_at dksX0_reduced_0 0 rfl rfl)
theorem dX0_reduced_1 : decode cX0_reduced 1 = .ok (.iload_n 1, 1) := dk_27 (dk_at dksX0_reduced_0 1 rfl rfl)
theorem dX0_reduced_2 : decode cX0_reduced 2 = .ok (.invokevirtual 287, 3) := dk_182 1 31 (dk_at dksX0_reduced_0 2 rfl rfl)
theorem dX0_reduced_5 : decode cX0_reduced 5 = .ok (.ifCond .eq 10, 3) := dk_153 0 10 (dk_at dksX0_reduced_0 5 rfl rfl)
theorem dX0_reduced_8 : decode cX0_reduced 8 = .ok (.aload_n 0, 1) := dk_42 (dk_at dksX0_reduced_0 8 rfl rfl)
theorem dX0_reduced_9 : decode cX0_reduced 9 = .ok (.invokevirtual 359, 3) := dk_182 1 103 (dk_at dksX0_reduced_0 9 rfl rfl)
theorem dX0_reduced_12 : decode cX0_reduced 12 = .ok (.ifCond .ne 7, 3) := dk_154 0 7 (dk_at dksX0_reduced_0 12 rfl rfl)
theorem dX0_reduced_15 : decode cX0_reduced 15 = .ok (.ldc2_w 303, 3) := dk_20 1 47 (dk_at dksX0_reduced_0 15 rfl rfl)
theorem dX0_reduced_18 : decode cX0_reduced 18 = .ok (.lreturn, 1) := dk_173 (dk_at dksX0_reduced_0 18 rfl rfl)
theorem dX0_reduced_19 : decode cX0_reduced 19 = .ok (.aload_n 0, 1) := dk_42 (dk_at dksX0_reduced_0 19 rfl rfl)
theorem dX0_reduced_20 : decode cX0_reduced 20 = .ok (.aload_n 0, 1) := dk_42 (dk_at dksX0_reduced_0 20 rfl rfl)
theorem dX0_reduced_21 : decode cX0_reduced 21 = .ok (.getfield 29, 3) := dk_180 0 29 (dk_at dksX0_reduced_0 21 rfl rfl)
theorem dX0_reduced_24 : decode cX0_reduced 24 = .ok (.getfield 383, 3) := dk_180 1 127 (dk_at dksX0_reduced_1 0 rfl rfl)
theorem dX0_reduced_27 : decode cX0_reduced 27 = .ok (.iload_n 1, 1) := dk_27 (dk_at dksX0_reduced_1 3 rfl rfl)
theorem dX0_reduced_28 : decode cX0_reduced 28 = .ok (.iaload, 1) := dk_46 (dk_at dksX0_reduced_1 4 rfl rfl)
theorem dX0_reduced_29 : decode cX0_reduced 29 = .ok (.invokevirtual 385, 3) := dk_182 1 129 (dk_at dksX0_reduced_1 5 rfl rfl)
theorem dX0_reduced_32 : decode cX0_reduced 32 = .ok (.lstore_n 2, 1) := dk_65 (dk_at dksX0_reduced_1 8 rfl rfl)
theorem dX0_reduced_33 : decode cX0_reduced 33 = .ok (.aload_n 0, 1) := dk_42 (dk_at dksX0_reduced_1 9 rfl rfl)
theorem dX0_reduced_34 : decode cX0_reduced 34 = .ok (.aload_n 0, 1) := dk_42 (dk_at dksX0_reduced_1 10 rfl rfl)
theorem dX0_reduced_35 : decode cX0_reduced 35 = .ok (.getfield 29, 3) := dk_180 0 29 (dk_at dksX0_reduced_1 11 rfl rfl)
theorem dX0_reduced_38 : decode cX0_reduced 38 = .ok (.getfield 388, 3) := dk_180 1 132 (dk_at dksX0_reduced_1 14 rfl rfl)
theorem dX0_reduced_41 : decode cX0_reduced 41 = .ok (.iload_n 1, 1) := dk_27 (dk_at dksX0_reduced_1 17 rfl rfl)
theorem dX0_reduced_42 : decode cX0_reduced 42 = .ok (.iaload, 1) := dk_46 (dk_at dksX0_reduced_1 18 rfl rfl)
theorem dX0_reduced_43 : decode cX0_reduced 43 = .ok (.invokevirtual 385, 3) := dk_182 1 129 (dk_at dksX0_reduced_1 19 rfl rfl)
theorem dX0_reduced_46 : decode cX0_reduced 46 = .ok (.lstore 4, 2) := dk_55 4 (dk_at dksX0_reduced_1 22 rfl rfl)
theorem dX0_reduced_48 : decode cX0_reduced 48 = .ok (.lload_n 2, 1) := dk_32 (dk_at dksX0_reduced_2 0 rfl rfl)
theorem dX0_reduced_49 : decode cX0_reduced 49 = .ok (.ldc2_w 303, 3) := dk_20 1 47 (dk_at dksX0_reduced_2 1 rfl rfl)
theorem dX0_reduced_52 : decode cX0_reduced 52 = .ok (.lcmp, 1) := dk_148 (dk_at dksX0_reduced_2 4 rfl rfl)
theorem dX0_reduced_53 : decode cX0_reduced 53 = .ok (.ifCond .eq 12, 3) := dk_153 0 12 (dk_at dksX0_reduced_2 5 rfl rfl)
theorem dX0_reduced_56 : decode cX0_reduced 56 = .ok (.lload 4, 2) := dk_22 4 (dk_at dksX0_reduced_2 8 rfl rfl)
theorem dX0_reduced_58 : decode cX0_reduced 58 = .ok (.ldc2_w 303, 3) := dk_20 1 47 (dk_at dksX0_reduced_2 10 rfl rfl)
theorem dX0_reduced_61 : decode cX0_reduced 61 = .ok (.lcmp, 1) := dk_148 (dk_at dksX0_reduced_2 13 rfl rfl)
theorem dX0_reduced_62 : decode cX0_reduced 62 = .ok (.ifCond .ne 9, 3) := dk_154 0 9 (dk_at dksX0_reduced_2 14 rfl rfl)
theorem dX0_reduced_65 : decode cX0_reduced 65 = .ok (.ldc2_w 303, 3) := dk_20 1 47 (dk_at dksX0_reduced_2 17 rfl rfl)
theorem dX0_reduced_68 : decode cX0_reduced 68 = .ok (.goto 17, 3) := dk_167 0 17 (dk_at dksX0_reduced_2 20 rfl rfl)
theorem dX0_reduced_71 : decode cX0_reduced 71 = .ok (.aload_n 0, 1) := dk_42 (dk_at dksX0_reduced_2 23 rfl rfl)
theorem dX0_reduced_72 : decode cX0_reduced 72 = .ok (.getfield 29, 3) := dk_180 0 29 (dk_at dksX0_reduced_3 0 rfl rfl)
theorem dX0_reduced_75 : decode cX0_reduced 75 = .ok (.getfield 390, 3) := dk_180 1 134 (dk_at dksX0_reduced_3 3 rfl rfl)
theorem dX0_reduced_78 : decode cX0_reduced 78 = .ok (.iload_n 1, 1) := dk_27 (dk_at dksX0_reduced_3 6 rfl rfl)
theorem dX0_reduced_79 : decode cX0_reduced 79 = .ok (.laload, 1) := dk_47 (dk_at dksX0_reduced_3 7 rfl rfl)
theorem dX0_reduced_80 : decode cX0_reduced 80 = .ok (.lload_n 2, 1) := dk_32 (dk_at dksX0_reduced_3 8 rfl rfl)
theorem dX0_reduced_81 : decode cX0_reduced 81 = .ok (.ladd, 1) := dk_97 (dk_at dksX0_reduced_3 9 rfl rfl)
theorem dX0_reduced_82 : decode cX0_reduced 82 = .ok (.lload 4, 2) := dk_22 4 (dk_at dksX0_reduced_3 10 rfl rfl)
theorem dX0_reduced_84 : decode cX0_reduced 84 = .ok (.lsub, 1) := dk_101 (dk_at dksX0_reduced_3 12 rfl rfl)
theorem dX0_reduced_85 : decode cX0_reduced 85 = .ok (.lreturn, 1) := dk_173 (dk_at dksX0_reduced_3 13 rfl rfl)
abbrev cX0_dear : ByteArray := prog_1_method_38_code
def yX0_dear : MethodName := ⟨RX0, "dear", "(I)I"⟩
def dkwX0_dear_4 : List UInt8 := [27, 160, 0, 6, 21, 5, 172, 132, 3, 1, 167, 255, 220, 2, 172]
abbrev dktX0_dear_4 : List UInt8 := dkwX0_dear_4 ++ []
def dkwX0_dear_3 : List UInt8 := [185, 0, 163, 1, 0, 153, 0, 32, 25, 4, 185, 0, 169, 1, 0, 192, 1, 92, 182, 1, 150, 54, 5, 29]
abbrev dktX0_dear_3 : List UInt8 := dkwX0_dear_3 ++ dktX0_dear_4
def dkwX0_dear_2 : List UInt8 := [29, 184, 1, 141, 182, 1, 145, 87, 132, 3, 1, 167, 255, 236, 3, 62, 44, 182, 1, 149, 58, 4, 25, 4]
abbrev dktX0_dear_2 : List UInt8 := dkwX0_dear_2 ++ dktX0_dear_3
def dkwX0_dear_1 : List UInt8 := [87, 187, 1, 136, 89, 42, 180, 0, 66, 183, 1, 138, 77, 3, 62, 29, 42, 180, 0, 11, 162, 0, 18, 44]
abbrev dktX0_dear_1 : List UInt8 := dkwX0_dear_1 ++ dktX0_dear_2
def dkwX0_dear_0 : List UInt8 := [42, 27, 182, 0, 136, 154, 0, 5, 2, 172, 42, 182, 1, 103, 154, 0, 6, 16, 253, 172, 42, 182, 1, 117]
abbrev dktX0_dear_0 : List UInt8 := dkwX0_dear_0 ++ dktX0_dear_1
theorem dksX0_dear_0 : cX0_dear.data.toList.drop 0 = dktX0_dear_0 := by decide +kernel
theorem dksX0_dear_1 : cX0_dear.data.toList.drop 24 = dktX0_dear_1 := dk_seg dksX0_dear_0 24 rfl rfl
theorem dksX0_dear_2 : cX0_dear.data.toList.drop 48 = dktX0_dear_2 := dk_seg dksX0_dear_1 24 rfl rfl
theorem dksX0_dear_3 : cX0_dear.data.toList.drop 72 = dktX0_dear_3 := dk_seg dksX0_dear_2 24 rfl rfl
theorem dksX0_dear_4 : cX0_dear.data.toList.drop 96 = dktX0_dear_4 := dk_seg dksX0_dear_3 24 rfl rfl
theorem dX0_dear_0 : decode cX0_dear 0 = .ok (.aload_n 0, 1) := dk_42 (dk_at dksX0_dear_0 0 rfl rfl)
theorem dX0_dear_1 : decode cX0_dear 1 = .ok (.iload_n 1, 1) := dk_27 (dk_at dksX0_dear_0 1 rfl rfl)
theorem dX0_dear_2 : decode cX0_dear 2 = .ok (.invokevirtual 136, 3) := dk_182 0 136 (dk_at dksX0_dear_0 2 rfl rfl)
theorem dX0_dear_5 : decode cX0_dear 5 = .ok (.ifCond .ne 5, 3) := dk_154 0 5 (dk_at dksX0_dear_0 5 rfl rfl)
theorem dX0_dear_8 : decode cX0_dear 8 = .ok (.iconst (-1), 1) := dk_2 (dk_at dksX0_dear_0 8 rfl rfl)
theorem dX0_dear_9 : decode cX0_dear 9 = .ok (.ireturn, 1) := dk_172 (dk_at dksX0_dear_0 9 rfl rfl)
theorem dX0_dear_10 : decode cX0_dear 10 = .ok (.aload_n 0, 1) := dk_42 (dk_at dksX0_dear_0 10 rfl rfl)
theorem dX0_dear_11 : decode cX0_dear 11 = .ok (.invokevirtual 359, 3) := dk_182 1 103 (dk_at dksX0_dear_0 11 rfl rfl)
theorem dX0_dear_14 : decode cX0_dear 14 = .ok (.ifCond .ne 6, 3) := dk_154 0 6 (dk_at dksX0_dear_0 14 rfl rfl)
theorem dX0_dear_17 : decode cX0_dear 17 = .ok (.bipush (-3), 2) := dk_16 253 (dk_at dksX0_dear_0 17 rfl rfl)
theorem dX0_dear_19 : decode cX0_dear 19 = .ok (.ireturn, 1) := dk_172 (dk_at dksX0_dear_0 19 rfl rfl)
theorem dX0_dear_20 : decode cX0_dear 20 = .ok (.aload_n 0, 1) := dk_42 (dk_at dksX0_dear_0 20 rfl rfl)
theorem dX0_dear_21 : decode cX0_dear 21 = .ok (.invokevirtual 373, 3) := dk_182 1 117 (dk_at dksX0_dear_0 21 rfl rfl)
theorem dX0_dear_24 : decode cX0_dear 24 = .ok (.pop, 1) := dk_87 (dk_at dksX0_dear_1 0 rfl rfl)
theorem dX0_dear_25 : decode cX0_dear 25 = .ok (.new 392, 3) := dk_187 1 136 (dk_at dksX0_dear_1 1 rfl rfl)
theorem dX0_dear_28 : decode cX0_dear 28 = .ok (.dup, 1) := dk_89 (dk_at dksX0_dear_1 4 rfl rfl)
theorem dX0_dear_29 : decode cX0_dear 29 = .ok (.aload_n 0, 1) := dk_42 (dk_at dksX0_dear_1 5 rfl rfl)
theorem dX0_dear_30 : decode cX0_dear 30 = .ok (.getfield 66, 3) := dk_180 0 66 (dk_at dksX0_dear_1 6 rfl rfl)
theorem dX0_dear_33 : decode cX0_dear 33 = .ok (.invokespecial 394, 3) := dk_183 1 138 (dk_at dksX0_dear_1 9 rfl rfl)
theorem dX0_dear_36 : decode cX0_dear 36 = .ok (.astore_n 2, 1) := dk_77 (dk_at dksX0_dear_1 12 rfl rfl)
theorem dX0_dear_37 : decode cX0_dear 37 = .ok (.iconst 0, 1) := dk_3 (dk_at dksX0_dear_1 13 rfl rfl)
theorem dX0_dear_38 : decode cX0_dear 38 = .ok (.istore_n 3, 1) := dk_62 (dk_at dksX0_dear_1 14 rfl rfl)
theorem dX0_dear_39 : decode cX0_dear 39 = .ok (.iload_n 3, 1) := dk_29 (dk_at dksX0_dear_1 15 rfl rfl)
theorem dX0_dear_40 : decode cX0_dear 40 = .ok (.aload_n 0, 1) := dk_42 (dk_at dksX0_dear_1 16 rfl rfl)
theorem dX0_dear_41 : decode cX0_dear 41 = .ok (.getfield 11, 3) := dk_180 0 11 (dk_at dksX0_dear_1 17 rfl rfl)
theorem dX0_dear_44 : decode cX0_dear 44 = .ok (.if_icmp .ge 18, 3) := dk_162 0 18 (dk_at dksX0_dear_1 20 rfl rfl)
theorem dX0_dear_47 : decode cX0_dear 47 = .ok (.aload_n 2, 1) := dk_44 (dk_at dksX0_dear_1 23 rfl rfl)
theorem dX0_dear_48 : decode cX0_dear 48 = .ok (.iload_n 3, 1) := dk_29 (dk_at dksX0_dear_2 0 rfl rfl)
theorem dX0_dear_49 : decode cX0_dear 49 = .ok (.invokestatic 397, 3) := dk_184 1 141 (dk_at dksX0_dear_2 1 rfl rfl)
theorem dX0_dear_52 : decode cX0_dear 52 = .ok (.invokevirtual 401, 3) := dk_182 1 145 (dk_at dksX0_dear_2 4 rfl rfl)
theorem dX0_dear_55 : decode cX0_dear 55 = .ok (.pop, 1) := dk_87 (dk_at dksX0_dear_2 7 rfl rfl)
theorem dX0_dear_56 : decode cX0_dear 56 = .ok (.iinc 3 1, 3) := dk_132 3 1 (dk_at dksX0_dear_2 8 rfl rfl)
theorem dX0_dear_59 : decode cX0_dear 59 = .ok (.goto (-20), 3) := dk_167 255 236 (dk_at dksX0_dear_2 11 rfl rfl)
theorem dX0_dear_62 : decode cX0_dear 62 = .ok (.iconst 0, 1) := dk_3 (dk_at dksX0_dear_2 14 rfl rfl)
theorem dX0_dear_63 : decode cX0_dear 63 = .ok (.istore_n 3, 1) := dk_62 (dk_at dksX0_dear_2 15 rfl rfl)
theorem dX0_dear_64 : decode cX0_dear 64 = .ok (.aload_n 2, 1) := dk_44 (dk_at dksX0_dear_2 16 rfl rfl)
theorem dX0_dear_65 : decode cX0_dear 65 = .ok (.invokevirtual 405, 3) := dk_182 1 149 (dk_at dksX0_dear_2 17 rfl rfl)
theorem dX0_dear_68 : decode cX0_dear 68 = .ok (.astore 4, 2) := dk_58 4 (dk_at dksX0_dear_2 20 rfl rfl)
theorem dX0_dear_70 : decode cX0_dear 70 = .ok (.aload 4, 2) := dk_25 4 (dk_at dksX0_dear_2 22 rfl rfl)
theorem dX0_dear_72 : decode cX0_dear 72 = .ok (.invokeinterface 163 1, 5) := by decide +kernel
theorem dX0_dear_77 : decode cX0_dear 77 = .ok (.ifCond .eq 32, 3) := dk_153 0 32 (dk_at dksX0_dear_3 5 rfl rfl)
theorem dX0_dear_80 : decode cX0_dear 80 = .ok (.aload 4, 2) := dk_25 4 (dk_at dksX0_dear_3 8 rfl rfl)
theorem dX0_dear_82 : decode cX0_dear 82 = .ok (.invokeinterface 169 1, 5) := by decide +kernel
theorem dX0_dear_87 : decode cX0_dear 87 = .ok (.checkcast 348, 3) := dk_192 1 92 (dk_at dksX0_dear_3 15 rfl rfl)
theorem dX0_dear_90 : decode cX0_dear 90 = .ok (.invokevirtual 406, 3) := dk_182 1 150 (dk_at dksX0_dear_3 18 rfl rfl)
theorem dX0_dear_93 : decode cX0_dear 93 = .ok (.istore 5, 2) := dk_54 5 (dk_at dksX0_dear_3 21 rfl rfl)
theorem dX0_dear_95 : decode cX0_dear 95 = .ok (.iload_n 3, 1) := dk_29 (dk_at dksX0_dear_3 23 rfl rfl)
theorem dX0_dear_96 : decode cX0_dear 96 = .ok (.iload_n 1, 1) := dk_27 (dk_at dksX0_dear_4 0 rfl rfl)
theorem dX0_dear_97 : decode cX0_dear 97 = .ok (.if_icmp .ne 6, 3) := dk_160 0 6 (dk_at dksX0_dear_4 1 rfl rfl)
theorem dX0_dear_100 : decode cX0_dear 100 = .ok (.iload 5, 2) := dk_21 5 (dk_at dksX0_dear_4 4 rfl rfl)
theorem dX0_dear_102 : decode cX0_dear 102 = .ok (.ireturn, 1) := dk_172 (dk_at dksX0_dear_4 6 rfl rfl)
theorem dX0_dear_103 : decode cX0_dear 103 = .ok (.iinc 3 1, 3) := dk_132 3 1 (dk_at dksX0_dear_4 7 rfl rfl)
theorem dX0_dear_106 : decode cX0_dear 106 = .ok (.goto (-36), 3) := dk_167 255 220 (dk_at dksX0_dear_4 10 rfl rfl)
theorem dX0_dear_109 : decode cX0_dear 109 = .ok (.iconst (-1), 1) := dk_2 (dk_at dksX0_dear_4 13 rfl rfl)
theorem dX0_dear_110 : decode cX0_dear 110 = .ok (.ireturn, 1) := dk_172 (dk_at dksX0_dear_4 14 rfl rfl)
abbrev cX0_cut : ByteArray := prog_1_method_40_code
def yX0_cut : MethodName := ⟨RX0, "cut", "()I"⟩
def dkwX0_cut_0 : List UInt8 := [42, 182, 1, 153, 154, 0, 13, 42, 182, 0, 211, 182, 1, 156, 167, 0, 5, 16, 253, 172]
abbrev dktX0_cut_0 : List UInt8 := dkwX0_cut_0 ++ []
theorem dksX0_cut_0 : cX0_cut.data.toList.drop 0 = dktX0_cut_0 := by decide +kernel
theorem dX0_cut_0 : decode cX0_cut 0 = .ok (.aload_n 0, 1) := dk_42 (dk_at dksX0_cut_0 0 rfl rfl)
theorem dX0_cut_1 : decode cX0_cut 1 = .ok (.invokevirtual 409, 3) := dk_182 1 153 (dk_at dksX0_cut_0 1 rfl rfl)
theorem dX0_cut_4 : decode cX0_cut 4 = .ok (.ifCond .ne 13, 3) := dk_154 0 13 (dk_at dksX0_cut_0 4 rfl rfl)
theorem dX0_cut_7 : decode cX0_cut 7 = .ok (.aload_n 0, 1) := dk_42 (dk_at dksX0_cut_0 7 rfl rfl)
theorem dX0_cut_8 : decode cX0_cut 8 = .ok (.invokevirtual 211, 3) := dk_182 0 211 (dk_at dksX0_cut_0 8 rfl rfl)
theorem dX0_cut_11 : decode cX0_cut 11 = .ok (.invokevirtual 412, 3) := dk_182 1 156 (dk_at dksX0_cut_0 11 rfl rfl)
theorem dX0_cut_14 : decode cX0_cut 14 = .ok (.goto 5, 3) := dk_167 0 5 (dk_at dksX0_cut_0 14 rfl rfl)
theorem dX0_cut_17 : decode cX0_cut 17 = .ok (.bipush (-3), 2) := dk_16 253 (dk_at dksX0_cut_0 17 rfl rfl)
theorem dX0_cut_19 : decode cX0_cut 19 = .ok (.ireturn, 1) := dk_172 (dk_at dksX0_cut_0 19 rfl rfl)
abbrev cX0_step : ByteArray := prog_1_method_41_code
def yX0_step : MethodName := ⟨RX0, "step", "(II)I"⟩
def dkwX0_step_1 : List UInt8 := [182, 1, 159, 167, 0, 5, 16, 253, 172]
abbrev dktX0_step_1 : List UInt8 := dkwX0_step_1 ++ []
def dkwX0_step_0 : List UInt8 := [42, 27, 28, 182, 1, 16, 154, 0, 5, 2, 172, 42, 182, 1, 103, 153, 0, 15, 42, 180, 0, 29, 27, 28]
abbrev dktX0_step_0 : List UInt8 := dkwX0_step_0 ++ dktX0_step_1
theorem dksX0_step_0 : cX0_step.data.toList.drop 0 = dktX0_step_0 := by decide +kernel
theorem dksX0_step_1 : cX0_step.data.toList.drop 24 = dktX0_step_1 := dk_seg dksX0_step_0 24 rfl rfl
theorem dX0_step_0 : decode cX0_step 0 = .ok (.aload_n 0, 1) := dk_42 (dk_at dksX0_step_0 0 rfl rfl)
theorem dX0_step_1 : decode cX0_step 1 = .ok (.iload_n 1, 1) := dk_27 (dk_at dksX0_step_0 1 rfl rfl)
theorem dX0_step_2 : decode cX0_step 2 = .ok (.iload_n 2, 1) := dk_28 (dk_at dksX0_step_0 2 rfl rfl)
theorem dX0_step_3 : decode cX0_step 3 = .ok (.invokevirtual 272, 3) := dk_182 1 16 (dk_at dksX0_step_0 3 rfl rfl)
theorem dX0_step_6 : decode cX0_step 6 = .ok (.ifCond .ne 5, 3) := dk_154 0 5 (dk_at dksX0_step_0 6 rfl rfl)
theorem dX0_step_9 : decode cX0_step 9 = .ok (.iconst (-1), 1) := dk_2 (dk_at dksX0_step_0 9 rfl rfl)
theorem dX0_step_10 : decode cX0_step 10 = .ok (.ireturn, 1) := dk_172 (dk_at dksX0_step_0 10 rfl rfl)
theorem dX0_step_11 : decode cX0_step 11 = .ok (.aload_n 0, 1) := dk_42 (dk_at dksX0_step_0 11 rfl rfl)
theorem dX0_step_12 : decode cX0_step 12 = .ok (.invokevirtual 359, 3) := dk_182 1 103 (dk_at dksX0_step_0 12 rfl rfl)
theorem dX0_step_15 : decode cX0_step 15 = .ok (.ifCond .eq 15, 3) := dk_153 0 15 (dk_at dksX0_step_0 15 rfl rfl)
theorem dX0_step_18 : decode cX0_step 18 = .ok (.aload_n 0, 1) := dk_42 (dk_at dksX0_step_0 18 rfl rfl)
theorem dX0_step_19 : decode cX0_step 19 = .ok (.getfield 29, 3) := dk_180 0 29 (dk_at dksX0_step_0 19 rfl rfl)
theorem dX0_step_22 : decode cX0_step 22 = .ok (.iload_n 1, 1) := dk_27 (dk_at dksX0_step_0 22 rfl rfl)
theorem dX0_step_23 : decode cX0_step 23 = .ok (.iload_n 2, 1) := dk_28 (dk_at dksX0_step_0 23 rfl rfl)
theorem dX0_step_24 : decode cX0_step 24 = .ok (.invokevirtual 415, 3) := dk_182 1 159 (dk_at dksX0_step_1 0 rfl rfl)
theorem dX0_step_27 : decode cX0_step 27 = .ok (.goto 5, 3) := dk_167 0 5 (dk_at dksX0_step_1 3 rfl rfl)
theorem dX0_step_30 : decode cX0_step 30 = .ok (.bipush (-3), 2) := dk_16 253 (dk_at dksX0_step_1 6 rfl rfl)
theorem dX0_step_32 : decode cX0_step 32 = .ok (.ireturn, 1) := dk_172 (dk_at dksX0_step_1 8 rfl rfl)
abbrev cX0_wider : ByteArray := prog_1_method_45_code
def yX0_wider : MethodName := ⟨RX0, "wider", "(II)J"⟩
def dkwX0_wider_1 : List UInt8 := [42, 27, 28, 186, 1, 178, 0, 0, 186, 1, 181, 0, 0, 182, 1, 184, 173]
abbrev dktX0_wider_1 : List UInt8 := dkwX0_wider_1 ++ []
def dkwX0_wider_0 : List UInt8 := [42, 27, 182, 1, 31, 153, 0, 15, 28, 133, 10, 20, 1, 14, 184, 0, 132, 154, 0, 7, 20, 1, 47, 173]
abbrev dktX0_wider_0 : List UInt8 := dkwX0_wider_0 ++ dktX0_wider_1
theorem dksX0_wider_0 : cX0_wider.data.toList.drop 0 = dktX0_wider_0 := by decide +kernel
theorem dksX0_wider_1 : cX0_wider.data.toList.drop 24 = dktX0_wider_1 := dk_seg dksX0_wider_0 24 rfl rfl
theorem dX0_wider_0 : decode cX0_wider 0 = .ok (.aload_n 0, 1) := dk_42 (dk_at dksX0_wider_0 0 rfl rfl)
theorem dX0_wider_1 : decode cX0_wider 1 = .ok (.iload_n 1, 1) := dk_27 (dk_at dksX0_wider_0 1 rfl rfl)
theorem dX0_wider_2 : decode cX0_wider 2 = .ok (.invokevirtual 287, 3) := dk_182 1 31 (dk_at dksX0_wider_0 2 rfl rfl)
theorem dX0_wider_5 : decode cX0_wider 5 = .ok (.ifCond .eq 15, 3) := dk_153 0 15 (dk_at dksX0_wider_0 5 rfl rfl)
theorem dX0_wider_8 : decode cX0_wider 8 = .ok (.iload_n 2, 1) := dk_28 (dk_at dksX0_wider_0 8 rfl rfl)
theorem dX0_wider_9 : decode cX0_wider 9 = .ok (.i2l, 1) := dk_133 (dk_at dksX0_wider_0 9 rfl rfl)
theorem dX0_wider_10 : decode cX0_wider 10 = .ok (.lconst 1, 1) := dk_10 (dk_at dksX0_wider_0 10 rfl rfl)
theorem dX0_wider_11 : decode cX0_wider 11 = .ok (.ldc2_w 270, 3) := dk_20 1 14 (dk_at dksX0_wider_0 11 rfl rfl)
theorem dX0_wider_14 : decode cX0_wider 14 = .ok (.invokestatic 132, 3) := dk_184 0 132 (dk_at dksX0_wider_0 14 rfl rfl)
theorem dX0_wider_17 : decode cX0_wider 17 = .ok (.ifCond .ne 7, 3) := dk_154 0 7 (dk_at dksX0_wider_0 17 rfl rfl)
theorem dX0_wider_20 : decode cX0_wider 20 = .ok (.ldc2_w 303, 3) := dk_20 1 47 (dk_at dksX0_wider_0 20 rfl rfl)
theorem dX0_wider_23 : decode cX0_wider 23 = .ok (.lreturn, 1) := dk_173 (dk_at dksX0_wider_0 23 rfl rfl)
theorem dX0_wider_24 : decode cX0_wider 24 = .ok (.aload_n 0, 1) := dk_42 (dk_at dksX0_wider_1 0 rfl rfl)
theorem dX0_wider_25 : decode cX0_wider 25 = .ok (.iload_n 1, 1) := dk_27 (dk_at dksX0_wider_1 1 rfl rfl)
theorem dX0_wider_26 : decode cX0_wider 26 = .ok (.iload_n 2, 1) := dk_28 (dk_at dksX0_wider_1 2 rfl rfl)
theorem dX0_wider_27 : decode cX0_wider 27 = .ok (.invokedynamic 434, 5) := by decide +kernel
theorem dX0_wider_32 : decode cX0_wider 32 = .ok (.invokedynamic 437, 5) := by decide +kernel
theorem dX0_wider_37 : decode cX0_wider 37 = .ok (.invokevirtual 440, 3) := dk_182 1 184 (dk_at dksX0_wider_1 13 rfl rfl)
theorem dX0_wider_40 : decode cX0_wider 40 = .ok (.lreturn, 1) := dk_173 (dk_at dksX0_wider_1 16 rfl rfl)
abbrev cX0_lambda_wider_0 : ByteArray := prog_1_method_92_code
def yX0_lambda_wider_0 : MethodName := ⟨RX0, "lambda$wider$0", "(IILFreightRoads$Net;)V"⟩
def dkwX0_lambda_wider_0_0 : List UInt8 := [44, 180, 2, 10, 26, 92, 46, 27, 96, 79, 177]
abbrev dktX0_lambda_wider_0_0 : List UInt8 := dkwX0_lambda_wider_0_0 ++ []
theorem dksX0_lambda_wider_0_0 : cX0_lambda_wider_0.data.toList.drop 0 = dktX0_lambda_wider_0_0 := by decide +kernel
theorem dX0_lambda_wider_0_0 : decode cX0_lambda_wider_0 0 = .ok (.aload_n 2, 1) := dk_44 (dk_at dksX0_lambda_wider_0_0 0 rfl rfl)
theorem dX0_lambda_wider_0_1 : decode cX0_lambda_wider_0 1 = .ok (.getfield 522, 3) := dk_180 2 10 (dk_at dksX0_lambda_wider_0_0 1 rfl rfl)
theorem dX0_lambda_wider_0_4 : decode cX0_lambda_wider_0 4 = .ok (.iload_n 0, 1) := dk_26 (dk_at dksX0_lambda_wider_0_0 4 rfl rfl)
theorem dX0_lambda_wider_0_5 : decode cX0_lambda_wider_0 5 = .ok (.dup2, 1) := dk_92 (dk_at dksX0_lambda_wider_0_0 5 rfl rfl)
theorem dX0_lambda_wider_0_6 : decode cX0_lambda_wider_0 6 = .ok (.iaload, 1) := dk_46 (dk_at dksX0_lambda_wider_0_0 6 rfl rfl)
theorem dX0_lambda_wider_0_7 : decode cX0_lambda_wider_0 7 = .ok (.iload_n 1, 1) := dk_27 (dk_at dksX0_lambda_wider_0_0 7 rfl rfl)
theorem dX0_lambda_wider_0_8 : decode cX0_lambda_wider_0 8 = .ok (.iadd, 1) := dk_96 (dk_at dksX0_lambda_wider_0_0 8 rfl rfl)
theorem dX0_lambda_wider_0_9 : decode cX0_lambda_wider_0 9 = .ok (.iastore, 1) := dk_79 (dk_at dksX0_lambda_wider_0_0 9 rfl rfl)
theorem dX0_lambda_wider_0_10 : decode cX0_lambda_wider_0 10 = .ok (.return_, 1) := dk_177 (dk_at dksX0_lambda_wider_0_0 10 rfl rfl)
abbrev cX0_less : ByteArray := prog_1_method_43_code
def yX0_less : MethodName := ⟨RX0, "less", "(JJ)J"⟩
def dkwX0_less_0 : List UInt8 := [30, 32, 184, 1, 173, 173]
abbrev dktX0_less_0 : List UInt8 := dkwX0_less_0 ++ []
theorem dksX0_less_0 : cX0_less.data.toList.drop 0 = dktX0_less_0 := by decide +kernel
theorem dX0_less_0 : decode cX0_less 0 = .ok (.lload_n 0, 1) := dk_30 (dk_at dksX0_less_0 0 rfl rfl)
theorem dX0_less_1 : decode cX0_less 1 = .ok (.lload_n 2, 1) := dk_32 (dk_at dksX0_less_0 1 rfl rfl)
theorem dX0_less_2 : decode cX0_less 2 = .ok (.invokestatic 429, 3) := dk_184 1 173 (dk_at dksX0_less_0 2 rfl rfl)
theorem dX0_less_5 : decode cX0_less 5 = .ok (.lreturn, 1) := dk_173 (dk_at dksX0_less_0 5 rfl rfl)
abbrev cX0_supposed : ByteArray := prog_1_method_42_code
def yX0_supposed : MethodName := ⟨RX0, "supposed", "(LFreightRoads$Thought;LFreightRoads$Loss;)J"⟩
def dkwX0_supposed_2 : List UInt8 := [182, 1, 105, 42, 180, 0, 33, 182, 1, 105, 185, 1, 168, 5, 0, 173, 78, 20, 1, 47, 173]
abbrev dktX0_supposed_2 : List UInt8 := dkwX0_supposed_2 ++ []
def dkwX0_supposed_1 : List UInt8 := [153, 0, 13, 42, 180, 0, 33, 182, 0, 208, 154, 0, 7, 20, 1, 47, 173, 44, 42, 180, 0, 29]
abbrev dktX0_supposed_1 : List UInt8 := dkwX0_supposed_1 ++ dktX0_supposed_2
def dkwX0_supposed_0 : List UInt8 := [42, 42, 180, 0, 33, 182, 0, 204, 43, 42, 180, 0, 33, 185, 1, 163, 2, 0, 42, 182, 1, 103]
abbrev dktX0_supposed_0 : List UInt8 := dkwX0_supposed_0 ++ dktX0_supposed_1
theorem dksX0_supposed_0 : cX0_supposed.data.toList.drop 0 = dktX0_supposed_0 := by decide +kernel
theorem dksX0_supposed_1 : cX0_supposed.data.toList.drop 22 = dktX0_supposed_1 := dk_seg dksX0_supposed_0 22 rfl rfl
theorem dksX0_supposed_2 : cX0_supposed.data.toList.drop 44 = dktX0_supposed_2 := dk_seg dksX0_supposed_1 22 rfl rfl
theorem dX0_supposed_0 : decode cX0_supposed 0 = .ok (.aload_n 0, 1) := dk_42 (dk_at dksX0_supposed_0 0 rfl rfl)
theorem dX0_supposed_1 : decode cX0_supposed 1 = .ok (.aload_n 0, 1) := dk_42 (dk_at dksX0_supposed_0 1 rfl rfl)
theorem dX0_supposed_2 : decode cX0_supposed 2 = .ok (.getfield 33, 3) := dk_180 0 33 (dk_at dksX0_supposed_0 2 rfl rfl)
theorem dX0_supposed_5 : decode cX0_supposed 5 = .ok (.invokevirtual 204, 3) := dk_182 0 204 (dk_at dksX0_supposed_0 5 rfl rfl)
theorem dX0_supposed_8 : decode cX0_supposed 8 = .ok (.aload_n 1, 1) := dk_43 (dk_at dksX0_supposed_0 8 rfl rfl)
theorem dX0_supposed_9 : decode cX0_supposed 9 = .ok (.aload_n 0, 1) := dk_42 (dk_at dksX0_supposed_0 9 rfl rfl)
theorem dX0_supposed_10 : decode cX0_supposed 10 = .ok (.getfield 33, 3) := dk_180 0 33 (dk_at dksX0_supposed_0 10 rfl rfl)
theorem dX0_supposed_13 : decode cX0_supposed 13 = .ok (.invokeinterface 419 2, 5) := by decide +kernel
theorem dX0_supposed_18 : decode cX0_supposed 18 = .ok (.aload_n 0, 1) := dk_42 (dk_at dksX0_supposed_0 18 rfl rfl)
theorem dX0_supposed_19 : decode cX0_supposed 19 = .ok (.invokevirtual 359, 3) := dk_182 1 103 (dk_at dksX0_supposed_0 19 rfl rfl)
theorem dX0_supposed_22 : decode cX0_supposed 22 = .ok (.ifCond .eq 13, 3) := dk_153 0 13 (dk_at dksX0_supposed_1 0 rfl rfl)
theorem dX0_supposed_25 : decode cX0_supposed 25 = .ok (.aload_n 0, 1) := dk_42 (dk_at dksX0_supposed_1 3 rfl rfl)
theorem dX0_supposed_26 : decode cX0_supposed 26 = .ok (.getfield 33, 3) := dk_180 0 33 (dk_at dksX0_supposed_1 4 rfl rfl)
theorem dX0_supposed_29 : decode cX0_supposed 29 = .ok (.invokevirtual 208, 3) := dk_182 0 208 (dk_at dksX0_supposed_1 7 rfl rfl)
theorem dX0_supposed_32 : decode cX0_supposed 32 = .ok (.ifCond .ne 7, 3) := dk_154 0 7 (dk_at dksX0_supposed_1 10 rfl rfl)
theorem dX0_supposed_35 : decode cX0_supposed 35 = .ok (.ldc2_w 303, 3) := dk_20 1 47 (dk_at dksX0_supposed_1 13 rfl rfl)
theorem dX0_supposed_38 : decode cX0_supposed 38 = .ok (.lreturn, 1) := dk_173 (dk_at dksX0_supposed_1 16 rfl rfl)
theorem dX0_supposed_39 : decode cX0_supposed 39 = .ok (.aload_n 2, 1) := dk_44 (dk_at dksX0_supposed_1 17 rfl rfl)
theorem dX0_supposed_40 : decode cX0_supposed 40 = .ok (.aload_n 0, 1) := dk_42 (dk_at dksX0_supposed_1 18 rfl rfl)
theorem dX0_supposed_41 : decode cX0_supposed 41 = .ok (.getfield 29, 3) := dk_180 0 29 (dk_at dksX0_supposed_1 19 rfl rfl)
theorem dX0_supposed_44 : decode cX0_supposed 44 = .ok (.invokevirtual 361, 3) := dk_182 1 105 (dk_at dksX0_supposed_2 0 rfl rfl)
theorem dX0_supposed_47 : decode cX0_supposed 47 = .ok (.aload_n 0, 1) := dk_42 (dk_at dksX0_supposed_2 3 rfl rfl)
theorem dX0_supposed_48 : decode cX0_supposed 48 = .ok (.getfield 33, 3) := dk_180 0 33 (dk_at dksX0_supposed_2 4 rfl rfl)
theorem dX0_supposed_51 : decode cX0_supposed 51 = .ok (.invokevirtual 361, 3) := dk_182 1 105 (dk_at dksX0_supposed_2 7 rfl rfl)
theorem dX0_supposed_54 : decode cX0_supposed 54 = .ok (.invokeinterface 424 5, 5) := by decide +kernel
theorem dX0_supposed_59 : decode cX0_supposed 59 = .ok (.lreturn, 1) := dk_173 (dk_at dksX0_supposed_2 15 rfl rfl)
theorem dX0_supposed_60 : decode cX0_supposed 60 = .ok (.astore_n 3, 1) := dk_78 (dk_at dksX0_supposed_2 16 rfl rfl)
theorem dX0_supposed_61 : decode cX0_supposed 61 = .ok (.ldc2_w 303, 3) := dk_20 1 47 (dk_at dksX0_supposed_2 17 rfl rfl)
theorem dX0_supposed_64 : decode cX0_supposed 64 = .ok (.lreturn, 1) := dk_173 (dk_at dksX0_supposed_2 20 rfl rfl)
abbrev cX0_without : ByteArray := prog_1_method_46_code
def yX0_without : MethodName := ⟨RX0, "without", "(I)J"⟩
def dkwX0_without_1 : List UInt8 := [167, 0, 6, 20, 1, 47, 173]
abbrev dktX0_without_1 : List UInt8 := dkwX0_without_1 ++ []
def dkwX0_without_0 : List UInt8 := [42, 27, 182, 1, 31, 153, 0, 21, 42, 27, 186, 1, 188, 0, 0, 186, 1, 191, 0, 0, 182, 1, 184]
abbrev dktX0_without_0 : List UInt8 := dkwX0_without_0 ++ dktX0_without_1
theorem dksX0_without_0 : cX0_without.data.toList.drop 0 = dktX0_without_0 := by decide +kernel
theorem dksX0_without_1 : cX0_without.data.toList.drop 23 = dktX0_without_1 := dk_seg dksX0_without_0 23 rfl rfl
theorem dX0_without_0 : decode cX0_without 0 = .ok (.aload_n 0, 1) := dk_42 (dk_at dksX0_without_0 0 rfl rfl)
theorem dX0_without_1 : decode cX0_without 1 = .ok (.iload_n 1, 1) := dk_27 (dk_at dksX0_without_0 1 rfl rfl)
theorem dX0_without_2 : decode cX0_without 2 = .ok (.invokevirtual 287, 3) := dk_182 1 31 (dk_at dksX0_without_0 2 rfl rfl)
theorem dX0_without_5 : decode cX0_without 5 = .ok (.ifCond .eq 21, 3) := dk_153 0 21 (dk_at dksX0_without_0 5 rfl rfl)
theorem dX0_without_8 : decode cX0_without 8 = .ok (.aload_n 0, 1) := dk_42 (dk_at dksX0_without_0 8 rfl rfl)
theorem dX0_without_9 : decode cX0_without 9 = .ok (.iload_n 1, 1) := dk_27 (dk_at dksX0_without_0 9 rfl rfl)
theorem dX0_without_10 : decode cX0_without 10 = .ok (.invokedynamic 444, 5) := by decide +kernel
theorem dX0_without_15 : decode cX0_without 15 = .ok (.invokedynamic 447, 5) := by decide +kernel
theorem dX0_without_20 : decode cX0_without 20 = .ok (.invokevirtual 440, 3) := dk_182 1 184 (dk_at dksX0_without_0 20 rfl rfl)
theorem dX0_without_23 : decode cX0_without 23 = .ok (.goto 6, 3) := dk_167 0 6 (dk_at dksX0_without_1 0 rfl rfl)
theorem dX0_without_26 : decode cX0_without 26 = .ok (.ldc2_w 303, 3) := dk_20 1 47 (dk_at dksX0_without_1 3 rfl rfl)
theorem dX0_without_29 : decode cX0_without 29 = .ok (.lreturn, 1) := dk_173 (dk_at dksX0_without_1 6 rfl rfl)
abbrev cX0_lambda_without_1 : ByteArray := prog_1_method_91_code
def yX0_lambda_without_1 : MethodName := ⟨RX0, "lambda$without$1", "(ILFreightRoads$Net;)V"⟩
def dkwX0_lambda_without_1_0 : List UInt8 := [43, 26, 182, 1, 253, 177]
abbrev dktX0_lambda_without_1_0 : List UInt8 := dkwX0_lambda_without_1_0 ++ []
theorem dksX0_lambda_without_1_0 : cX0_lambda_without_1.data.toList.drop 0 = dktX0_lambda_without_1_0 := by decide +kernel
theorem dX0_lambda_without_1_0 : decode cX0_lambda_without_1 0 = .ok (.aload_n 1, 1) := dk_43 (dk_at dksX0_lambda_without_1_0 0 rfl rfl)
theorem dX0_lambda_without_1_1 : decode cX0_lambda_without_1 1 = .ok (.iload_n 0, 1) := dk_26 (dk_at dksX0_lambda_without_1_0 1 rfl rfl)
theorem dX0_lambda_without_1_2 : decode cX0_lambda_without_1 2 = .ok (.invokevirtual 509, 3) := dk_182 1 253 (dk_at dksX0_lambda_without_1_0 2 rfl rfl)
theorem dX0_lambda_without_1_5 : decode cX0_lambda_without_1 5 = .ok (.return_, 1) := dk_177 (dk_at dksX0_lambda_without_1_0 5 rfl rfl)
abbrev cX0_more : ByteArray := prog_1_method_44_code
def yX0_more : MethodName := ⟨RX0, "more", "(JJ)J"⟩
def dkwX0_more_0 : List UInt8 := [32, 30, 184, 1, 173, 173]
abbrev dktX0_more_0 : List UInt8 := dkwX0_more_0 ++ []
theorem dksX0_more_0 : cX0_more.data.toList.drop 0 = dktX0_more_0 := by decide +kernel
theorem dX0_more_0 : decode cX0_more 0 = .ok (.lload_n 2, 1) := dk_32 (dk_at dksX0_more_0 0 rfl rfl)
theorem dX0_more_1 : decode cX0_more 1 = .ok (.lload_n 0, 1) := dk_30 (dk_at dksX0_more_0 1 rfl rfl)
theorem dX0_more_2 : decode cX0_more 2 = .ok (.invokestatic 429, 3) := dk_184 1 173 (dk_at dksX0_more_0 2 rfl rfl)
theorem dX0_more_5 : decode cX0_more 5 = .ok (.lreturn, 1) := dk_173 (dk_at dksX0_more_0 5 rfl rfl)
abbrev cX0_adding : ByteArray := prog_1_method_47_code
def yX0_adding : MethodName := ⟨RX0, "adding", "(IIIJ)J"⟩
def dkwX0_adding_1 : List UInt8 := [27, 28, 29, 22, 4, 186, 1, 192, 0, 0, 186, 1, 181, 0, 0, 182, 1, 184, 173]
abbrev dktX0_adding_1 : List UInt8 := dkwX0_adding_1 ++ []
def dkwX0_adding_0 : List UInt8 := [42, 27, 28, 182, 1, 16, 153, 0, 13, 3, 29, 22, 4, 184, 1, 20, 154, 0, 7, 20, 1, 47, 173, 42]
abbrev dktX0_adding_0 : List UInt8 := dkwX0_adding_0 ++ dktX0_adding_1
theorem dksX0_adding_0 : cX0_adding.data.toList.drop 0 = dktX0_adding_0 := by decide +kernel
theorem dksX0_adding_1 : cX0_adding.data.toList.drop 24 = dktX0_adding_1 := dk_seg dksX0_adding_0 24 rfl rfl
theorem dX0_adding_0 : decode cX0_adding 0 = .ok (.aload_n 0, 1) := dk_42 (dk_at dksX0_adding_0 0 rfl rfl)
theorem dX0_adding_1 : decode cX0_adding 1 = .ok (.iload_n 1, 1) := dk_27 (dk_at dksX0_adding_0 1 rfl rfl)
theorem dX0_adding_2 : decode cX0_adding 2 = .ok (.iload_n 2, 1) := dk_28 (dk_at dksX0_adding_0 2 rfl rfl)
theorem dX0_adding_3 : decode cX0_adding 3 = .ok (.invokevirtual 272, 3) := dk_182 1 16 (dk_at dksX0_adding_0 3 rfl rfl)
theorem dX0_adding_6 : decode cX0_adding 6 = .ok (.ifCond .eq 13, 3) := dk_153 0 13 (dk_at dksX0_adding_0 6 rfl rfl)
theorem dX0_adding_9 : decode cX0_adding 9 = .ok (.iconst 0, 1) := dk_3 (dk_at dksX0_adding_0 9 rfl rfl)
theorem dX0_adding_10 : decode cX0_adding 10 = .ok (.iload_n 3, 1) := dk_29 (dk_at dksX0_adding_0 10 rfl rfl)
theorem dX0_adding_11 : decode cX0_adding 11 = .ok (.lload 4, 2) := dk_22 4 (dk_at dksX0_adding_0 11 rfl rfl)
theorem dX0_adding_13 : decode cX0_adding 13 = .ok (.invokestatic 276, 3) := dk_184 1 20 (dk_at dksX0_adding_0 13 rfl rfl)
theorem dX0_adding_16 : decode cX0_adding 16 = .ok (.ifCond .ne 7, 3) := dk_154 0 7 (dk_at dksX0_adding_0 16 rfl rfl)
theorem dX0_adding_19 : decode cX0_adding 19 = .ok (.ldc2_w 303, 3) := dk_20 1 47 (dk_at dksX0_adding_0 19 rfl rfl)
theorem dX0_adding_22 : decode cX0_adding 22 = .ok (.lreturn, 1) := dk_173 (dk_at dksX0_adding_0 22 rfl rfl)
theorem dX0_adding_23 : decode cX0_adding 23 = .ok (.aload_n 0, 1) := dk_42 (dk_at dksX0_adding_0 23 rfl rfl)
theorem dX0_adding_24 : decode cX0_adding 24 = .ok (.iload_n 1, 1) := dk_27 (dk_at dksX0_adding_1 0 rfl rfl)
theorem dX0_adding_25 : decode cX0_adding 25 = .ok (.iload_n 2, 1) := dk_28 (dk_at dksX0_adding_1 1 rfl rfl)
theorem dX0_adding_26 : decode cX0_adding 26 = .ok (.iload_n 3, 1) := dk_29 (dk_at dksX0_adding_1 2 rfl rfl)
theorem dX0_adding_27 : decode cX0_adding 27 = .ok (.lload 4, 2) := dk_22 4 (dk_at dksX0_adding_1 3 rfl rfl)
theorem dX0_adding_29 : decode cX0_adding 29 = .ok (.invokedynamic 448, 5) := by decide +kernel
theorem dX0_adding_34 : decode cX0_adding 34 = .ok (.invokedynamic 437, 5) := by decide +kernel
theorem dX0_adding_39 : decode cX0_adding 39 = .ok (.invokevirtual 440, 3) := dk_182 1 184 (dk_at dksX0_adding_1 15 rfl rfl)
theorem dX0_adding_42 : decode cX0_adding 42 = .ok (.lreturn, 1) := dk_173 (dk_at dksX0_adding_1 18 rfl rfl)
abbrev cX0_lambda_adding_2 : ByteArray := prog_1_method_90_code
def yX0_lambda_adding_2 : MethodName := ⟨RX0, "lambda$adding$2", "(IIIJLFreightRoads$Net;)V"⟩
def dkwX0_lambda_adding_2_0 : List UInt8 := [25, 5, 26, 27, 3, 28, 33, 182, 0, 191, 177]
abbrev dktX0_lambda_adding_2_0 : List UInt8 := dkwX0_lambda_adding_2_0 ++ []
theorem dksX0_lambda_adding_2_0 : cX0_lambda_adding_2.data.toList.drop 0 = dktX0_lambda_adding_2_0 := by decide +kernel
theorem dX0_lambda_adding_2_0 : decode cX0_lambda_adding_2 0 = .ok (.aload 5, 2) := dk_25 5 (dk_at dksX0_lambda_adding_2_0 0 rfl rfl)
theorem dX0_lambda_adding_2_2 : decode cX0_lambda_adding_2 2 = .ok (.iload_n 0, 1) := dk_26 (dk_at dksX0_lambda_adding_2_0 2 rfl rfl)
theorem dX0_lambda_adding_2_3 : decode cX0_lambda_adding_2 3 = .ok (.iload_n 1, 1) := dk_27 (dk_at dksX0_lambda_adding_2_0 3 rfl rfl)
theorem dX0_lambda_adding_2_4 : decode cX0_lambda_adding_2 4 = .ok (.iconst 0, 1) := dk_3 (dk_at dksX0_lambda_adding_2_0 4 rfl rfl)
theorem dX0_lambda_adding_2_5 : decode cX0_lambda_adding_2 5 = .ok (.iload_n 2, 1) := dk_28 (dk_at dksX0_lambda_adding_2_0 5 rfl rfl)
theorem dX0_lambda_adding_2_6 : decode cX0_lambda_adding_2 6 = .ok (.lload_n 3, 1) := dk_33 (dk_at dksX0_lambda_adding_2_0 6 rfl rfl)
theorem dX0_lambda_adding_2_7 : decode cX0_lambda_adding_2 7 = .ok (.invokevirtual 191, 3) := dk_182 0 191 (dk_at dksX0_lambda_adding_2_0 7 rfl rfl)
theorem dX0_lambda_adding_2_10 : decode cX0_lambda_adding_2 10 = .ok (.return_, 1) := dk_177 (dk_at dksX0_lambda_adding_2_0 10 rfl rfl)
abbrev cX0_sent : ByteArray := prog_1_method_49_code
def yX0_sent : MethodName := ⟨RX0, "sent", "(III)J"⟩
def dkwX0_sent_1 : List UInt8 := [173, 42, 27, 28, 29, 186, 1, 195, 0, 0, 186, 1, 191, 0, 0, 182, 1, 184, 173]
abbrev dktX0_sent_1 : List UInt8 := dkwX0_sent_1 ++ []
def dkwX0_sent_0 : List UInt8 := [42, 27, 28, 182, 1, 16, 153, 0, 15, 29, 133, 9, 20, 1, 14, 184, 0, 132, 154, 0, 7, 20, 1, 47]
abbrev dktX0_sent_0 : List UInt8 := dkwX0_sent_0 ++ dktX0_sent_1
theorem dksX0_sent_0 : cX0_sent.data.toList.drop 0 = dktX0_sent_0 := by decide +kernel
theorem dksX0_sent_1 : cX0_sent.data.toList.drop 24 = dktX0_sent_1 := dk_seg dksX0_sent_0 24 rfl rfl
theorem dX0_sent_0 : decode cX0_sent 0 = .ok (.aload_n 0, 1) := dk_42 (dk_at dksX0_sent_0 0 rfl rfl)
theorem dX0_sent_1 : decode cX0_sent 1 = .ok (.iload_n 1, 1) := dk_27 (dk_at dksX0_sent_0 1 rfl rfl)
theorem dX0_sent_2 : decode cX0_sent 2 = .ok (.iload_n 2, 1) := dk_28 (dk_at dksX0_sent_0 2 rfl rfl)
theorem dX0_sent_3 : decode cX0_sent 3 = .ok (.invokevirtual 272, 3) := dk_182 1 16 (dk_at dksX0_sent_0 3 rfl rfl)
theorem dX0_sent_6 : decode cX0_sent 6 = .ok (.ifCond .eq 15, 3) := dk_153 0 15 (dk_at dksX0_sent_0 6 rfl rfl)
theorem dX0_sent_9 : decode cX0_sent 9 = .ok (.iload_n 3, 1) := dk_29 (dk_at dksX0_sent_0 9 rfl rfl)
theorem dX0_sent_10 : decode cX0_sent 10 = .ok (.i2l, 1) := dk_133 (dk_at dksX0_sent_0 10 rfl rfl)
theorem dX0_sent_11 : decode cX0_sent 11 = .ok (.lconst 0, 1) := dk_9 (dk_at dksX0_sent_0 11 rfl rfl)
theorem dX0_sent_12 : decode cX0_sent 12 = .ok (.ldc2_w 270, 3) := dk_20 1 14 (dk_at dksX0_sent_0 12 rfl rfl)
theorem dX0_sent_15 : decode cX0_sent 15 = .ok (.invokestatic 132, 3) := dk_184 0 132 (dk_at dksX0_sent_0 15 rfl rfl)
theorem dX0_sent_18 : decode cX0_sent 18 = .ok (.ifCond .ne 7, 3) := dk_154 0 7 (dk_at dksX0_sent_0 18 rfl rfl)
theorem dX0_sent_21 : decode cX0_sent 21 = .ok (.ldc2_w 303, 3) := dk_20 1 47 (dk_at dksX0_sent_0 21 rfl rfl)
theorem dX0_sent_24 : decode cX0_sent 24 = .ok (.lreturn, 1) := dk_173 (dk_at dksX0_sent_1 0 rfl rfl)
theorem dX0_sent_25 : decode cX0_sent 25 = .ok (.aload_n 0, 1) := dk_42 (dk_at dksX0_sent_1 1 rfl rfl)
theorem dX0_sent_26 : decode cX0_sent 26 = .ok (.iload_n 1, 1) := dk_27 (dk_at dksX0_sent_1 2 rfl rfl)
theorem dX0_sent_27 : decode cX0_sent 27 = .ok (.iload_n 2, 1) := dk_28 (dk_at dksX0_sent_1 3 rfl rfl)
theorem dX0_sent_28 : decode cX0_sent 28 = .ok (.iload_n 3, 1) := dk_29 (dk_at dksX0_sent_1 4 rfl rfl)
theorem dX0_sent_29 : decode cX0_sent 29 = .ok (.invokedynamic 451, 5) := by decide +kernel
theorem dX0_sent_34 : decode cX0_sent 34 = .ok (.invokedynamic 447, 5) := by decide +kernel
theorem dX0_sent_39 : decode cX0_sent 39 = .ok (.invokevirtual 440, 3) := dk_182 1 184 (dk_at dksX0_sent_1 15 rfl rfl)
theorem dX0_sent_42 : decode cX0_sent 42 = .ok (.lreturn, 1) := dk_173 (dk_at dksX0_sent_1 18 rfl rfl)
abbrev cX0_lambda_sent_3 : ByteArray := prog_1_method_89_code
def yX0_lambda_sent_3 : MethodName := ⟨RX0, "lambda$sent$3", "(IIILFreightRoads$Net;)V"⟩
def dkwX0_lambda_sent_3_0 : List UInt8 := [45, 26, 27, 28, 184, 2, 129, 177]
abbrev dktX0_lambda_sent_3_0 : List UInt8 := dkwX0_lambda_sent_3_0 ++ []
theorem dksX0_lambda_sent_3_0 : cX0_lambda_sent_3.data.toList.drop 0 = dktX0_lambda_sent_3_0 := by decide +kernel
theorem dX0_lambda_sent_3_0 : decode cX0_lambda_sent_3 0 = .ok (.aload_n 3, 1) := dk_45 (dk_at dksX0_lambda_sent_3_0 0 rfl rfl)
theorem dX0_lambda_sent_3_1 : decode cX0_lambda_sent_3 1 = .ok (.iload_n 0, 1) := dk_26 (dk_at dksX0_lambda_sent_3_0 1 rfl rfl)
theorem dX0_lambda_sent_3_2 : decode cX0_lambda_sent_3 2 = .ok (.iload_n 1, 1) := dk_27 (dk_at dksX0_lambda_sent_3_0 2 rfl rfl)
theorem dX0_lambda_sent_3_3 : decode cX0_lambda_sent_3 3 = .ok (.iload_n 2, 1) := dk_28 (dk_at dksX0_lambda_sent_3_0 3 rfl rfl)
theorem dX0_lambda_sent_3_4 : decode cX0_lambda_sent_3 4 = .ok (.invokestatic 641, 3) := dk_184 2 129 (dk_at dksX0_lambda_sent_3_0 4 rfl rfl)
theorem dX0_lambda_sent_3_7 : decode cX0_lambda_sent_3 7 = .ok (.return_, 1) := dk_177 (dk_at dksX0_lambda_sent_3_0 7 rfl rfl)
abbrev cX0_sends : ByteArray := prog_1_method_48_code
def yX0_sends : MethodName := ⟨RX0, "sends", "(LFreightRoads$Net;III)V"⟩
def dkwX0_sends_0 : List UInt8 := [42, 180, 0, 195, 27, 92, 46, 29, 96, 79, 42, 180, 0, 195, 28, 92, 46, 29, 100, 79, 177]
abbrev dktX0_sends_0 : List UInt8 := dkwX0_sends_0 ++ []
theorem dksX0_sends_0 : cX0_sends.data.toList.drop 0 = dktX0_sends_0 := by decide +kernel
theorem dX0_sends_0 : decode cX0_sends 0 = .ok (.aload_n 0, 1) := dk_42 (dk_at dksX0_sends_0 0 rfl rfl)
theorem dX0_sends_1 : decode cX0_sends 1 = .ok (.getfield 195, 3) := dk_180 0 195 (dk_at dksX0_sends_0 1 rfl rfl)
theorem dX0_sends_4 : decode cX0_sends 4 = .ok (.iload_n 1, 1) := dk_27 (dk_at dksX0_sends_0 4 rfl rfl)
theorem dX0_sends_5 : decode cX0_sends 5 = .ok (.dup2, 1) := dk_92 (dk_at dksX0_sends_0 5 rfl rfl)
theorem dX0_sends_6 : decode cX0_sends 6 = .ok (.iaload, 1) := dk_46 (dk_at dksX0_sends_0 6 rfl rfl)
theorem dX0_sends_7 : decode cX0_sends 7 = .ok (.iload_n 3, 1) := dk_29 (dk_at dksX0_sends_0 7 rfl rfl)
theorem dX0_sends_8 : decode cX0_sends 8 = .ok (.iadd, 1) := dk_96 (dk_at dksX0_sends_0 8 rfl rfl)
theorem dX0_sends_9 : decode cX0_sends 9 = .ok (.iastore, 1) := dk_79 (dk_at dksX0_sends_0 9 rfl rfl)
theorem dX0_sends_10 : decode cX0_sends 10 = .ok (.aload_n 0, 1) := dk_42 (dk_at dksX0_sends_0 10 rfl rfl)
theorem dX0_sends_11 : decode cX0_sends 11 = .ok (.getfield 195, 3) := dk_180 0 195 (dk_at dksX0_sends_0 11 rfl rfl)
theorem dX0_sends_14 : decode cX0_sends 14 = .ok (.iload_n 2, 1) := dk_28 (dk_at dksX0_sends_0 14 rfl rfl)
theorem dX0_sends_15 : decode cX0_sends 15 = .ok (.dup2, 1) := dk_92 (dk_at dksX0_sends_0 15 rfl rfl)
theorem dX0_sends_16 : decode cX0_sends 16 = .ok (.iaload, 1) := dk_46 (dk_at dksX0_sends_0 16 rfl rfl)
theorem dX0_sends_17 : decode cX0_sends 17 = .ok (.iload_n 3, 1) := dk_29 (dk_at dksX0_sends_0 17 rfl rfl)
theorem dX0_sends_18 : decode cX0_sends 18 = .ok (.isub, 1) := dk_100 (dk_at dksX0_sends_0 18 rfl rfl)
theorem dX0_sends_19 : decode cX0_sends 19 = .ok (.iastore, 1) := dk_79 (dk_at dksX0_sends_0 19 rfl rfl)
theorem dX0_sends_20 : decode cX0_sends 20 = .ok (.return_, 1) := dk_177 (dk_at dksX0_sends_0 20 rfl rfl)
abbrev cX0_greatest : ByteArray := prog_1_method_51_code
def yX0_greatest : MethodName := ⟨RX0, "greatest", "(II)I"⟩
def dkwX0_greatest_1 : List UInt8 := [182, 1, 228, 87, 42, 180, 1, 201, 172]
abbrev dktX0_greatest_1 : List UInt8 := dkwX0_greatest_1 ++ []
def dkwX0_greatest_0 : List UInt8 := [42, 27, 28, 182, 1, 16, 154, 0, 5, 2, 172, 42, 182, 1, 103, 154, 0, 6, 16, 253, 172, 42, 27, 28]
abbrev dktX0_greatest_0 : List UInt8 := dkwX0_greatest_0 ++ dktX0_greatest_1
theorem dksX0_greatest_0 : cX0_greatest.data.toList.drop 0 = dktX0_greatest_0 := by decide +kernel
theorem dksX0_greatest_1 : cX0_greatest.data.toList.drop 24 = dktX0_greatest_1 := dk_seg dksX0_greatest_0 24 rfl rfl
theorem dX0_greatest_0 : decode cX0_greatest 0 = .ok (.aload_n 0, 1) := dk_42 (dk_at dksX0_greatest_0 0 rfl rfl)
theorem dX0_greatest_1 : decode cX0_greatest 1 = .ok (.iload_n 1, 1) := dk_27 (dk_at dksX0_greatest_0 1 rfl rfl)
theorem dX0_greatest_2 : decode cX0_greatest 2 = .ok (.iload_n 2, 1) := dk_28 (dk_at dksX0_greatest_0 2 rfl rfl)
theorem dX0_greatest_3 : decode cX0_greatest 3 = .ok (.invokevirtual 272, 3) := dk_182 1 16 (dk_at dksX0_greatest_0 3 rfl rfl)
theorem dX0_greatest_6 : decode cX0_greatest 6 = .ok (.ifCond .ne 5, 3) := dk_154 0 5 (dk_at dksX0_greatest_0 6 rfl rfl)
theorem dX0_greatest_9 : decode cX0_greatest 9 = .ok (.iconst (-1), 1) := dk_2 (dk_at dksX0_greatest_0 9 rfl rfl)
theorem dX0_greatest_10 : decode cX0_greatest 10 = .ok (.ireturn, 1) := dk_172 (dk_at dksX0_greatest_0 10 rfl rfl)
theorem dX0_greatest_11 : decode cX0_greatest 11 = .ok (.aload_n 0, 1) := dk_42 (dk_at dksX0_greatest_0 11 rfl rfl)
theorem dX0_greatest_12 : decode cX0_greatest 12 = .ok (.invokevirtual 359, 3) := dk_182 1 103 (dk_at dksX0_greatest_0 12 rfl rfl)
theorem dX0_greatest_15 : decode cX0_greatest 15 = .ok (.ifCond .ne 6, 3) := dk_154 0 6 (dk_at dksX0_greatest_0 15 rfl rfl)
theorem dX0_greatest_18 : decode cX0_greatest 18 = .ok (.bipush (-3), 2) := dk_16 253 (dk_at dksX0_greatest_0 18 rfl rfl)
theorem dX0_greatest_20 : decode cX0_greatest 20 = .ok (.ireturn, 1) := dk_172 (dk_at dksX0_greatest_0 20 rfl rfl)
theorem dX0_greatest_21 : decode cX0_greatest 21 = .ok (.aload_n 0, 1) := dk_42 (dk_at dksX0_greatest_0 21 rfl rfl)
theorem dX0_greatest_22 : decode cX0_greatest 22 = .ok (.iload_n 1, 1) := dk_27 (dk_at dksX0_greatest_0 22 rfl rfl)
theorem dX0_greatest_23 : decode cX0_greatest 23 = .ok (.iload_n 2, 1) := dk_28 (dk_at dksX0_greatest_0 23 rfl rfl)
theorem dX0_greatest_24 : decode cX0_greatest 24 = .ok (.invokevirtual 484, 3) := dk_182 1 228 (dk_at dksX0_greatest_1 0 rfl rfl)
theorem dX0_greatest_27 : decode cX0_greatest 27 = .ok (.pop, 1) := dk_87 (dk_at dksX0_greatest_1 3 rfl rfl)
theorem dX0_greatest_28 : decode cX0_greatest 28 = .ok (.aload_n 0, 1) := dk_42 (dk_at dksX0_greatest_1 4 rfl rfl)
theorem dX0_greatest_29 : decode cX0_greatest 29 = .ok (.getfield 457, 3) := dk_180 1 201 (dk_at dksX0_greatest_1 5 rfl rfl)
theorem dX0_greatest_32 : decode cX0_greatest 32 = .ok (.ireturn, 1) := dk_172 (dk_at dksX0_greatest_1 8 rfl rfl)
abbrev cX0_stretched : ByteArray := prog_1_method_50_code
def yX0_stretched : MethodName := ⟨RX0, "stretched", "(II)Ljava/util/TreeMap;"⟩
def dkwX0_stretched_6 : List UInt8 := [158, 0, 16, 42, 180, 1, 201, 16, 99, 162, 0, 7, 4, 167, 0, 4, 3, 54, 4, 167, 255, 132, 45, 176]
abbrev dktX0_stretched_6 : List UInt8 := dkwX0_stretched_6 ++ []
def dkwX0_stretched_5 : List UInt8 := [180, 1, 227, 21, 5, 96, 181, 1, 227, 42, 89, 180, 1, 201, 21, 5, 96, 181, 1, 201, 21, 5]
abbrev dktX0_stretched_5 : List UInt8 := dkwX0_stretched_5 ++ dktX0_stretched_6
def dkwX0_stretched_4 : List UInt8 := [187, 1, 218, 89, 25, 6, 183, 1, 220, 58, 7, 45, 25, 6, 25, 7, 182, 1, 223, 87, 25, 7, 89]
abbrev dktX0_stretched_4 : List UInt8 := dkwX0_stretched_4 ++ dktX0_stretched_5
def dkwX0_stretched_3 : List UInt8 := [180, 1, 209, 183, 1, 212, 58, 6, 45, 25, 6, 182, 1, 215, 192, 1, 218, 58, 7, 25, 7, 199, 0, 23]
abbrev dktX0_stretched_3 : List UInt8 := dkwX0_stretched_3 ++ dktX0_stretched_4
def dkwX0_stretched_2 : List UInt8 := [180, 1, 201, 100, 182, 1, 204, 54, 5, 21, 5, 158, 0, 67, 187, 1, 207, 89, 42, 180, 0, 33]
abbrev dktX0_stretched_2 : List UInt8 := dkwX0_stretched_2 ++ dktX0_stretched_3
def dkwX0_stretched_1 : List UInt8 := [42, 3, 181, 1, 201, 4, 54, 4, 21, 4, 153, 0, 125, 42, 180, 0, 33, 27, 28, 16, 99, 42]
abbrev dktX0_stretched_1 : List UInt8 := dkwX0_stretched_1 ++ dktX0_stretched_2
def dkwX0_stretched_0 : List UInt8 := [187, 1, 198, 89, 183, 1, 200, 78, 42, 42, 180, 0, 33, 182, 0, 204, 42, 180, 0, 33, 182, 0, 208, 87]
abbrev dktX0_stretched_0 : List UInt8 := dkwX0_stretched_0 ++ dktX0_stretched_1
theorem dksX0_stretched_0 : cX0_stretched.data.toList.drop 0 = dktX0_stretched_0 := by decide +kernel
theorem dksX0_stretched_1 : cX0_stretched.data.toList.drop 24 = dktX0_stretched_1 := dk_seg dksX0_stretched_0 24 rfl rfl
theorem dksX0_stretched_2 : cX0_stretched.data.toList.drop 46 = dktX0_stretched_2 := dk_seg dksX0_stretched_1 22 rfl rfl
theorem dksX0_stretched_3 : cX0_stretched.data.toList.drop 68 = dktX0_stretched_3 := dk_seg dksX0_stretched_2 22 rfl rfl
theorem dksX0_stretched_4 : cX0_stretched.data.toList.drop 92 = dktX0_stretched_4 := dk_seg dksX0_stretched_3 24 rfl rfl
theorem dksX0_stretched_5 : cX0_stretched.data.toList.drop 115 = dktX0_stretched_5 := dk_seg dksX0_stretched_4 23 rfl rfl
theorem dksX0_stretched_6 : cX0_stretched.data.toList.drop 137 = dktX0_stretched_6 := dk_seg dksX0_stretched_5 22 rfl rfl
theorem dX0_stretched_0 : decode cX0_stretched 0 = .ok (.new 454, 3) := dk_187 1 198 (dk_at dksX0_stretched_0 0 rfl rfl)
theorem dX0_stretched_3 : decode cX0_stretched 3 = .ok (.dup, 1) := dk_89 (dk_at dksX0_stretched_0 3 rfl rfl)
theorem dX0_stretched_4 : decode cX0_stretched 4 = .ok (.invokespecial 456, 3) := dk_183 1 200 (dk_at dksX0_stretched_0 4 rfl rfl)
theorem dX0_stretched_7 : decode cX0_stretched 7 = .ok (.astore_n 3, 1) := dk_78 (dk_at dksX0_stretched_0 7 rfl rfl)
theorem dX0_stretched_8 : decode cX0_stretched 8 = .ok (.aload_n 0, 1) := dk_42 (dk_at dksX0_stretched_0 8 rfl rfl)
theorem dX0_stretched_9 : decode cX0_stretched 9 = .ok (.aload_n 0, 1) := dk_42 (dk_at dksX0_stretched_0 9 rfl rfl)
theorem dX0_stretched_10 : decode cX0_stretched 10 = .ok (.getfield 33, 3) := dk_180 0 33 (dk_at dksX0_stretched_0 10 rfl rfl)
theorem dX0_stretched_13 : decode cX0_stretched 13 = .ok (.invokevirtual 204, 3) := dk_182 0 204 (dk_at dksX0_stretched_0 13 rfl rfl)
theorem dX0_stretched_16 : decode cX0_stretched 16 = .ok (.aload_n 0, 1) := dk_42 (dk_at dksX0_stretched_0 16 rfl rfl)
theorem dX0_stretched_17 : decode cX0_stretched 17 = .ok (.getfield 33, 3) := dk_180 0 33 (dk_at dksX0_stretched_0 17 rfl rfl)
theorem dX0_stretched_20 : decode cX0_stretched 20 = .ok (.invokevirtual 208, 3) := dk_182 0 208 (dk_at dksX0_stretched_0 20 rfl rfl)
theorem dX0_stretched_23 : decode cX0_stretched 23 = .ok (.pop, 1) := dk_87 (dk_at dksX0_stretched_0 23 rfl rfl)
theorem dX0_stretched_24 : decode cX0_stretched 24 = .ok (.aload_n 0, 1) := dk_42 (dk_at dksX0_stretched_1 0 rfl rfl)
theorem dX0_stretched_25 : decode cX0_stretched 25 = .ok (.iconst 0, 1) := dk_3 (dk_at dksX0_stretched_1 1 rfl rfl)
theorem dX0_stretched_26 : decode cX0_stretched 26 = .ok (.putfield 457, 3) := dk_181 1 201 (dk_at dksX0_stretched_1 2 rfl rfl)
theorem dX0_stretched_29 : decode cX0_stretched 29 = .ok (.iconst 1, 1) := dk_4 (dk_at dksX0_stretched_1 5 rfl rfl)
theorem dX0_stretched_30 : decode cX0_stretched 30 = .ok (.istore 4, 2) := dk_54 4 (dk_at dksX0_stretched_1 6 rfl rfl)
theorem dX0_stretched_32 : decode cX0_stretched 32 = .ok (.iload 4, 2) := dk_21 4 (dk_at dksX0_stretched_1 8 rfl rfl)
theorem dX0_stretched_34 : decode cX0_stretched 34 = .ok (.ifCond .eq 125, 3) := dk_153 0 125 (dk_at dksX0_stretched_1 10 rfl rfl)
theorem dX0_stretched_37 : decode cX0_stretched 37 = .ok (.aload_n 0, 1) := dk_42 (dk_at dksX0_stretched_1 13 rfl rfl)
theorem dX0_stretched_38 : decode cX0_stretched 38 = .ok (.getfield 33, 3) := dk_180 0 33 (dk_at dksX0_stretched_1 14 rfl rfl)
theorem dX0_stretched_41 : decode cX0_stretched 41 = .ok (.iload_n 1, 1) := dk_27 (dk_at dksX0_stretched_1 17 rfl rfl)
theorem dX0_stretched_42 : decode cX0_stretched 42 = .ok (.iload_n 2, 1) := dk_28 (dk_at dksX0_stretched_1 18 rfl rfl)
theorem dX0_stretched_43 : decode cX0_stretched 43 = .ok (.bipush 99, 2) := dk_16 99 (dk_at dksX0_stretched_1 19 rfl rfl)
theorem dX0_stretched_45 : decode cX0_stretched 45 = .ok (.aload_n 0, 1) := dk_42 (dk_at dksX0_stretched_1 21 rfl rfl)
theorem dX0_stretched_46 : decode cX0_stretched 46 = .ok (.getfield 457, 3) := dk_180 1 201 (dk_at dksX0_stretched_2 0 rfl rfl)
theorem dX0_stretched_49 : decode cX0_stretched 49 = .ok (.isub, 1) := dk_100 (dk_at dksX0_stretched_2 3 rfl rfl)
theorem dX0_stretched_50 : decode cX0_stretched 50 = .ok (.invokevirtual 460, 3) := dk_182 1 204 (dk_at dksX0_stretched_2 4 rfl rfl)
theorem dX0_stretched_53 : decode cX0_stretched 53 = .ok (.istore 5, 2) := dk_54 5 (dk_at dksX0_stretched_2 7 rfl rfl)
theorem dX0_stretched_55 : decode cX0_stretched 55 = .ok (.iload 5, 2) := dk_21 5 (dk_at dksX0_stretched_2 9 rfl rfl)
theorem dX0_stretched_57 : decode cX0_stretched 57 = .ok (.ifCond .le 67, 3) := dk_158 0 67 (dk_at dksX0_stretched_2 11 rfl rfl)
theorem dX0_stretched_60 : decode cX0_stretched 60 = .ok (.new 463, 3) := dk_187 1 207 (dk_at dksX0_stretched_2 14 rfl rfl)
theorem dX0_stretched_63 : decode cX0_stretched 63 = .ok (.dup, 1) := dk_89 (dk_at dksX0_stretched_2 17 rfl rfl)
theorem dX0_stretched_64 : decode cX0_stretched 64 = .ok (.aload_n 0, 1) := dk_42 (dk_at dksX0_stretched_2 18 rfl rfl)
theorem dX0_stretched_65 : decode cX0_stretched 65 = .ok (.getfield 33, 3) := dk_180 0 33 (dk_at dksX0_stretched_2 19 rfl rfl)
theorem dX0_stretched_68 : decode cX0_stretched 68 = .ok (.getfield 465, 3) := dk_180 1 209 (dk_at dksX0_stretched_3 0 rfl rfl)
theorem dX0_stretched_71 : decode cX0_stretched 71 = .ok (.invokespecial 468, 3) := dk_183 1 212 (dk_at dksX0_stretched_3 3 rfl rfl)
theorem dX0_stretched_74 : decode cX0_stretched 74 = .ok (.astore 6, 2) := dk_58 6 (dk_at dksX0_stretched_3 6 rfl rfl)
theorem dX0_stretched_76 : decode cX0_stretched 76 = .ok (.aload_n 3, 1) := dk_45 (dk_at dksX0_stretched_3 8 rfl rfl)
theorem dX0_stretched_77 : decode cX0_stretched 77 = .ok (.aload 6, 2) := dk_25 6 (dk_at dksX0_stretched_3 9 rfl rfl)
theorem dX0_stretched_79 : decode cX0_stretched 79 = .ok (.invokevirtual 471, 3) := dk_182 1 215 (dk_at dksX0_stretched_3 11 rfl rfl)
theorem dX0_stretched_82 : decode cX0_stretched 82 = .ok (.checkcast 474, 3) := dk_192 1 218 (dk_at dksX0_stretched_3 14 rfl rfl)
theorem dX0_stretched_85 : decode cX0_stretched 85 = .ok (.astore 7, 2) := dk_58 7 (dk_at dksX0_stretched_3 17 rfl rfl)
theorem dX0_stretched_87 : decode cX0_stretched 87 = .ok (.aload 7, 2) := dk_25 7 (dk_at dksX0_stretched_3 19 rfl rfl)
theorem dX0_stretched_89 : decode cX0_stretched 89 = .ok (.ifnonnull 23, 3) := dk_199 0 23 (dk_at dksX0_stretched_3 21 rfl rfl)
theorem dX0_stretched_92 : decode cX0_stretched 92 = .ok (.new 474, 3) := dk_187 1 218 (dk_at dksX0_stretched_4 0 rfl rfl)
theorem dX0_stretched_95 : decode cX0_stretched 95 = .ok (.dup, 1) := dk_89 (dk_at dksX0_stretched_4 3 rfl rfl)
theorem dX0_stretched_96 : decode cX0_stretched 96 = .ok (.aload 6, 2) := dk_25 6 (dk_at dksX0_stretched_4 4 rfl rfl)
theorem dX0_stretched_98 : decode cX0_stretched 98 = .ok (.invokespecial 476, 3) := dk_183 1 220 (dk_at dksX0_stretched_4 6 rfl rfl)
theorem dX0_stretched_101 : decode cX0_stretched 101 = .ok (.astore 7, 2) := dk_58 7 (dk_at dksX0_stretched_4 9 rfl rfl)
theorem dX0_stretched_103 : decode cX0_stretched 103 = .ok (.aload_n 3, 1) := dk_45 (dk_at dksX0_stretched_4 11 rfl rfl)
theorem dX0_stretched_104 : decode cX0_stretched 104 = .ok (.aload 6, 2) := dk_25 6 (dk_at dksX0_stretched_4 12 rfl rfl)
theorem dX0_stretched_106 : decode cX0_stretched 106 = .ok (.aload 7, 2) := dk_25 7 (dk_at dksX0_stretched_4 14 rfl rfl)
theorem dX0_stretched_108 : decode cX0_stretched 108 = .ok (.invokevirtual 479, 3) := dk_182 1 223 (dk_at dksX0_stretched_4 16 rfl rfl)
theorem dX0_stretched_111 : decode cX0_stretched 111 = .ok (.pop, 1) := dk_87 (dk_at dksX0_stretched_4 19 rfl rfl)
theorem dX0_stretched_112 : decode cX0_stretched 112 = .ok (.aload 7, 2) := dk_25 7 (dk_at dksX0_stretched_4 20 rfl rfl)
theorem dX0_stretched_114 : decode cX0_stretched 114 = .ok (.dup, 1) := dk_89 (dk_at dksX0_stretched_4 22 rfl rfl)
theorem dX0_stretched_115 : decode cX0_stretched 115 = .ok (.getfield 483, 3) := dk_180 1 227 (dk_at dksX0_stretched_5 0 rfl rfl)
theorem dX0_stretched_118 : decode cX0_stretched 118 = .ok (.iload 5, 2) := dk_21 5 (dk_at dksX0_stretched_5 3 rfl rfl)
theorem dX0_stretched_120 : decode cX0_stretched 120 = .ok (.iadd, 1) := dk_96 (dk_at dksX0_stretched_5 5 rfl rfl)
theorem dX0_stretched_121 : decode cX0_stretched 121 = .ok (.putfield 483, 3) := dk_181 1 227 (dk_at dksX0_stretched_5 6 rfl rfl)
theorem dX0_stretched_124 : decode cX0_stretched 124 = .ok (.aload_n 0, 1) := dk_42 (dk_at dksX0_stretched_5 9 rfl rfl)
theorem dX0_stretched_125 : decode cX0_stretched 125 = .ok (.dup, 1) := dk_89 (dk_at dksX0_stretched_5 10 rfl rfl)
theorem dX0_stretched_126 : decode cX0_stretched 126 = .ok (.getfield 457, 3) := dk_180 1 201 (dk_at dksX0_stretched_5 11 rfl rfl)
theorem dX0_stretched_129 : decode cX0_stretched 129 = .ok (.iload 5, 2) := dk_21 5 (dk_at dksX0_stretched_5 14 rfl rfl)
theorem dX0_stretched_131 : decode cX0_stretched 131 = .ok (.iadd, 1) := dk_96 (dk_at dksX0_stretched_5 16 rfl rfl)
theorem dX0_stretched_132 : decode cX0_stretched 132 = .ok (.putfield 457, 3) := dk_181 1 201 (dk_at dksX0_stretched_5 17 rfl rfl)
theorem dX0_stretched_135 : decode cX0_stretched 135 = .ok (.iload 5, 2) := dk_21 5 (dk_at dksX0_stretched_5 20 rfl rfl)
theorem dX0_stretched_137 : decode cX0_stretched 137 = .ok (.ifCond .le 16, 3) := dk_158 0 16 (dk_at dksX0_stretched_6 0 rfl rfl)
theorem dX0_stretched_140 : decode cX0_stretched 140 = .ok (.aload_n 0, 1) := dk_42 (dk_at dksX0_stretched_6 3 rfl rfl)
theorem dX0_stretched_141 : decode cX0_stretched 141 = .ok (.getfield 457, 3) := dk_180 1 201 (dk_at dksX0_stretched_6 4 rfl rfl)
theorem dX0_stretched_144 : decode cX0_stretched 144 = .ok (.bipush 99, 2) := dk_16 99 (dk_at dksX0_stretched_6 7 rfl rfl)
theorem dX0_stretched_146 : decode cX0_stretched 146 = .ok (.if_icmp .ge 7, 3) := dk_162 0 7 (dk_at dksX0_stretched_6 9 rfl rfl)
theorem dX0_stretched_149 : decode cX0_stretched 149 = .ok (.iconst 1, 1) := dk_4 (dk_at dksX0_stretched_6 12 rfl rfl)
theorem dX0_stretched_150 : decode cX0_stretched 150 = .ok (.goto 4, 3) := dk_167 0 4 (dk_at dksX0_stretched_6 13 rfl rfl)
theorem dX0_stretched_153 : decode cX0_stretched 153 = .ok (.iconst 0, 1) := dk_3 (dk_at dksX0_stretched_6 16 rfl rfl)
theorem dX0_stretched_154 : decode cX0_stretched 154 = .ok (.istore 4, 2) := dk_54 4 (dk_at dksX0_stretched_6 17 rfl rfl)
theorem dX0_stretched_156 : decode cX0_stretched 156 = .ok (.goto (-124), 3) := dk_167 255 132 (dk_at dksX0_stretched_6 19 rfl rfl)
theorem dX0_stretched_159 : decode cX0_stretched 159 = .ok (.aload_n 3, 1) := dk_45 (dk_at dksX0_stretched_6 22 rfl rfl)
theorem dX0_stretched_160 : decode cX0_stretched 160 = .ok (.areturn, 1) := dk_176 (dk_at dksX0_stretched_6 23 rfl rfl)
abbrev cX0_stretch : ByteArray := prog_1_method_52_code
def yX0_stretch : MethodName := ⟨RX0, "stretch", "(IIII)J"⟩
def dkwX0_stretch_4 : List UInt8 := [180, 1, 227, 133, 173, 132, 5, 1, 167, 255, 202, 20, 1, 47, 173]
abbrev dktX0_stretch_4 : List UInt8 := dkwX0_stretch_4 ++ []
def dkwX0_stretch_3 : List UInt8 := [21, 5, 29, 160, 0, 26, 21, 4, 154, 0, 14, 25, 7, 180, 1, 239, 180, 1, 242, 167, 0, 9, 25, 7]
abbrev dktX0_stretch_3 : List UInt8 := dkwX0_stretch_3 ++ dktX0_stretch_4
def dkwX0_stretch_2 : List UInt8 := [58, 6, 25, 6, 185, 0, 163, 1, 0, 153, 0, 50, 25, 6, 185, 0, 169, 1, 0, 192, 1, 218, 58, 7]
abbrev dktX0_stretch_2 : List UInt8 := dkwX0_stretch_2 ++ dktX0_stretch_3
def dkwX0_stretch_1 : List UInt8 := [154, 0, 7, 20, 1, 47, 173, 3, 54, 5, 42, 27, 28, 182, 1, 228, 182, 1, 232, 185, 1, 236, 1, 0]
abbrev dktX0_stretch_1 : List UInt8 := dkwX0_stretch_1 ++ dktX0_stretch_2
def dkwX0_stretch_0 : List UInt8 := [42, 27, 28, 182, 1, 16, 153, 0, 21, 21, 4, 133, 9, 10, 184, 0, 132, 153, 0, 10, 42, 182, 1, 103]
abbrev dktX0_stretch_0 : List UInt8 := dkwX0_stretch_0 ++ dktX0_stretch_1
theorem dksX0_stretch_0 : cX0_stretch.data.toList.drop 0 = dktX0_stretch_0 := by decide +kernel
theorem dksX0_stretch_1 : cX0_stretch.data.toList.drop 24 = dktX0_stretch_1 := dk_seg dksX0_stretch_0 24 rfl rfl
theorem dksX0_stretch_2 : cX0_stretch.data.toList.drop 48 = dktX0_stretch_2 := dk_seg dksX0_stretch_1 24 rfl rfl
theorem dksX0_stretch_3 : cX0_stretch.data.toList.drop 72 = dktX0_stretch_3 := dk_seg dksX0_stretch_2 24 rfl rfl
theorem dksX0_stretch_4 : cX0_stretch.data.toList.drop 96 = dktX0_stretch_4 := dk_seg dksX0_stretch_3 24 rfl rfl
theorem dX0_stretch_0 : decode cX0_stretch 0 = .ok (.aload_n 0, 1) := dk_42 (dk_at dksX0_stretch_0 0 rfl rfl)
theorem dX0_stretch_1 : decode cX0_stretch 1 = .ok (.iload_n 1, 1) := dk_27 (dk_at dksX0_stretch_0 1 rfl rfl)
theorem dX0_stretch_2 : decode cX0_stretch 2 = .ok (.iload_n 2, 1) := dk_28 (dk_at dksX0_stretch_0 2 rfl rfl)
theorem dX0_stretch_3 : decode cX0_stretch 3 = .ok (.invokevirtual 272, 3) := dk_182 1 16 (dk_at dksX0_stretch_0 3 rfl rfl)
theorem dX0_stretch_6 : decode cX0_stretch 6 = .ok (.ifCond .eq 21, 3) := dk_153 0 21 (dk_at dksX0_stretch_0 6 rfl rfl)
theorem dX0_stretch_9 : decode cX0_stretch 9 = .ok (.iload 4, 2) := dk_21 4 (dk_at dksX0_stretch_0 9 rfl rfl)
theorem dX0_stretch_11 : decode cX0_stretch 11 = .ok (.i2l, 1) := dk_133 (dk_at dksX0_stretch_0 11 rfl rfl)
theorem dX0_stretch_12 : decode cX0_stretch 12 = .ok (.lconst 0, 1) := dk_9 (dk_at dksX0_stretch_0 12 rfl rfl)
theorem dX0_stretch_13 : decode cX0_stretch 13 = .ok (.lconst 1, 1) := dk_10 (dk_at dksX0_stretch_0 13 rfl rfl)
theorem dX0_stretch_14 : decode cX0_stretch 14 = .ok (.invokestatic 132, 3) := dk_184 0 132 (dk_at dksX0_stretch_0 14 rfl rfl)
theorem dX0_stretch_17 : decode cX0_stretch 17 = .ok (.ifCond .eq 10, 3) := dk_153 0 10 (dk_at dksX0_stretch_0 17 rfl rfl)
theorem dX0_stretch_20 : decode cX0_stretch 20 = .ok (.aload_n 0, 1) := dk_42 (dk_at dksX0_stretch_0 20 rfl rfl)
theorem dX0_stretch_21 : decode cX0_stretch 21 = .ok (.invokevirtual 359, 3) := dk_182 1 103 (dk_at dksX0_stretch_0 21 rfl rfl)
theorem dX0_stretch_24 : decode cX0_stretch 24 = .ok (.ifCond .ne 7, 3) := dk_154 0 7 (dk_at dksX0_stretch_1 0 rfl rfl)
theorem dX0_stretch_27 : decode cX0_stretch 27 = .ok (.ldc2_w 303, 3) := dk_20 1 47 (dk_at dksX0_stretch_1 3 rfl rfl)
theorem dX0_stretch_30 : decode cX0_stretch 30 = .ok (.lreturn, 1) := dk_173 (dk_at dksX0_stretch_1 6 rfl rfl)
theorem dX0_stretch_31 : decode cX0_stretch 31 = .ok (.iconst 0, 1) := dk_3 (dk_at dksX0_stretch_1 7 rfl rfl)
theorem dX0_stretch_32 : decode cX0_stretch 32 = .ok (.istore 5, 2) := dk_54 5 (dk_at dksX0_stretch_1 8 rfl rfl)
theorem dX0_stretch_34 : decode cX0_stretch 34 = .ok (.aload_n 0, 1) := dk_42 (dk_at dksX0_stretch_1 10 rfl rfl)
theorem dX0_stretch_35 : decode cX0_stretch 35 = .ok (.iload_n 1, 1) := dk_27 (dk_at dksX0_stretch_1 11 rfl rfl)
theorem dX0_stretch_36 : decode cX0_stretch 36 = .ok (.iload_n 2, 1) := dk_28 (dk_at dksX0_stretch_1 12 rfl rfl)
theorem dX0_stretch_37 : decode cX0_stretch 37 = .ok (.invokevirtual 484, 3) := dk_182 1 228 (dk_at dksX0_stretch_1 13 rfl rfl)
theorem dX0_stretch_40 : decode cX0_stretch 40 = .ok (.invokevirtual 488, 3) := dk_182 1 232 (dk_at dksX0_stretch_1 16 rfl rfl)
theorem dX0_stretch_43 : decode cX0_stretch 43 = .ok (.invokeinterface 492 1, 5) := by decide +kernel
theorem dX0_stretch_48 : decode cX0_stretch 48 = .ok (.astore 6, 2) := dk_58 6 (dk_at dksX0_stretch_2 0 rfl rfl)
theorem dX0_stretch_50 : decode cX0_stretch 50 = .ok (.aload 6, 2) := dk_25 6 (dk_at dksX0_stretch_2 2 rfl rfl)
theorem dX0_stretch_52 : decode cX0_stretch 52 = .ok (.invokeinterface 163 1, 5) := by decide +kernel
theorem dX0_stretch_57 : decode cX0_stretch 57 = .ok (.ifCond .eq 50, 3) := dk_153 0 50 (dk_at dksX0_stretch_2 9 rfl rfl)
theorem dX0_stretch_60 : decode cX0_stretch 60 = .ok (.aload 6, 2) := dk_25 6 (dk_at dksX0_stretch_2 12 rfl rfl)
theorem dX0_stretch_62 : decode cX0_stretch 62 = .ok (.invokeinterface 169 1, 5) := by decide +kernel
theorem dX0_stretch_67 : decode cX0_stretch 67 = .ok (.checkcast 474, 3) := dk_192 1 218 (dk_at dksX0_stretch_2 19 rfl rfl)
theorem dX0_stretch_70 : decode cX0_stretch 70 = .ok (.astore 7, 2) := dk_58 7 (dk_at dksX0_stretch_2 22 rfl rfl)
theorem dX0_stretch_72 : decode cX0_stretch 72 = .ok (.iload 5, 2) := dk_21 5 (dk_at dksX0_stretch_3 0 rfl rfl)
theorem dX0_stretch_74 : decode cX0_stretch 74 = .ok (.iload_n 3, 1) := dk_29 (dk_at dksX0_stretch_3 2 rfl rfl)
theorem dX0_stretch_75 : decode cX0_stretch 75 = .ok (.if_icmp .ne 26, 3) := dk_160 0 26 (dk_at dksX0_stretch_3 3 rfl rfl)
theorem dX0_stretch_78 : decode cX0_stretch 78 = .ok (.iload 4, 2) := dk_21 4 (dk_at dksX0_stretch_3 6 rfl rfl)
theorem dX0_stretch_80 : decode cX0_stretch 80 = .ok (.ifCond .ne 14, 3) := dk_154 0 14 (dk_at dksX0_stretch_3 8 rfl rfl)
theorem dX0_stretch_83 : decode cX0_stretch 83 = .ok (.aload 7, 2) := dk_25 7 (dk_at dksX0_stretch_3 11 rfl rfl)
theorem dX0_stretch_85 : decode cX0_stretch 85 = .ok (.getfield 495, 3) := dk_180 1 239 (dk_at dksX0_stretch_3 13 rfl rfl)
theorem dX0_stretch_88 : decode cX0_stretch 88 = .ok (.getfield 498, 3) := dk_180 1 242 (dk_at dksX0_stretch_3 16 rfl rfl)
theorem dX0_stretch_91 : decode cX0_stretch 91 = .ok (.goto 9, 3) := dk_167 0 9 (dk_at dksX0_stretch_3 19 rfl rfl)
theorem dX0_stretch_94 : decode cX0_stretch 94 = .ok (.aload 7, 2) := dk_25 7 (dk_at dksX0_stretch_3 22 rfl rfl)
theorem dX0_stretch_96 : decode cX0_stretch 96 = .ok (.getfield 483, 3) := dk_180 1 227 (dk_at dksX0_stretch_4 0 rfl rfl)
theorem dX0_stretch_99 : decode cX0_stretch 99 = .ok (.i2l, 1) := dk_133 (dk_at dksX0_stretch_4 3 rfl rfl)
theorem dX0_stretch_100 : decode cX0_stretch 100 = .ok (.lreturn, 1) := dk_173 (dk_at dksX0_stretch_4 4 rfl rfl)
theorem dX0_stretch_101 : decode cX0_stretch 101 = .ok (.iinc 5 1, 3) := dk_132 5 1 (dk_at dksX0_stretch_4 5 rfl rfl)
theorem dX0_stretch_104 : decode cX0_stretch 104 = .ok (.goto (-54), 3) := dk_167 255 202 (dk_at dksX0_stretch_4 8 rfl rfl)
theorem dX0_stretch_107 : decode cX0_stretch 107 = .ok (.ldc2_w 303, 3) := dk_20 1 47 (dk_at dksX0_stretch_4 11 rfl rfl)
theorem dX0_stretch_110 : decode cX0_stretch 110 = .ok (.lreturn, 1) := dk_173 (dk_at dksX0_stretch_4 14 rfl rfl)
abbrev cX0_stretches : ByteArray := prog_1_method_53_code
def yX0_stretches : MethodName := ⟨RX0, "stretches", "(II)I"⟩
def dkwX0_stretches_1 : List UInt8 := [182, 1, 243, 167, 0, 5, 16, 253, 172]
abbrev dktX0_stretches_1 : List UInt8 := dkwX0_stretches_1 ++ []
def dkwX0_stretches_0 : List UInt8 := [42, 27, 28, 182, 1, 16, 154, 0, 5, 2, 172, 42, 182, 1, 103, 153, 0, 15, 42, 27, 28, 182, 1, 228]
abbrev dktX0_stretches_0 : List UInt8 := dkwX0_stretches_0 ++ dktX0_stretches_1
theorem dksX0_stretches_0 : cX0_stretches.data.toList.drop 0 = dktX0_stretches_0 := by decide +kernel
theorem dksX0_stretches_1 : cX0_stretches.data.toList.drop 24 = dktX0_stretches_1 := dk_seg dksX0_stretches_0 24 rfl rfl
theorem dX0_stretches_0 : decode cX0_stretches 0 = .ok (.aload_n 0, 1) := dk_42 (dk_at dksX0_stretches_0 0 rfl rfl)
theorem dX0_stretches_1 : decode cX0_stretches 1 = .ok (.iload_n 1, 1) := dk_27 (dk_at dksX0_stretches_0 1 rfl rfl)
theorem dX0_stretches_2 : decode cX0_stretches 2 = .ok (.iload_n 2, 1) := dk_28 (dk_at dksX0_stretches_0 2 rfl rfl)
theorem dX0_stretches_3 : decode cX0_stretches 3 = .ok (.invokevirtual 272, 3) := dk_182 1 16 (dk_at dksX0_stretches_0 3 rfl rfl)
theorem dX0_stretches_6 : decode cX0_stretches 6 = .ok (.ifCond .ne 5, 3) := dk_154 0 5 (dk_at dksX0_stretches_0 6 rfl rfl)
theorem dX0_stretches_9 : decode cX0_stretches 9 = .ok (.iconst (-1), 1) := dk_2 (dk_at dksX0_stretches_0 9 rfl rfl)
theorem dX0_stretches_10 : decode cX0_stretches 10 = .ok (.ireturn, 1) := dk_172 (dk_at dksX0_stretches_0 10 rfl rfl)
theorem dX0_stretches_11 : decode cX0_stretches 11 = .ok (.aload_n 0, 1) := dk_42 (dk_at dksX0_stretches_0 11 rfl rfl)
theorem dX0_stretches_12 : decode cX0_stretches 12 = .ok (.invokevirtual 359, 3) := dk_182 1 103 (dk_at dksX0_stretches_0 12 rfl rfl)
theorem dX0_stretches_15 : decode cX0_stretches 15 = .ok (.ifCond .eq 15, 3) := dk_153 0 15 (dk_at dksX0_stretches_0 15 rfl rfl)
theorem dX0_stretches_18 : decode cX0_stretches 18 = .ok (.aload_n 0, 1) := dk_42 (dk_at dksX0_stretches_0 18 rfl rfl)
theorem dX0_stretches_19 : decode cX0_stretches 19 = .ok (.iload_n 1, 1) := dk_27 (dk_at dksX0_stretches_0 19 rfl rfl)
theorem dX0_stretches_20 : decode cX0_stretches 20 = .ok (.iload_n 2, 1) := dk_28 (dk_at dksX0_stretches_0 20 rfl rfl)
theorem dX0_stretches_21 : decode cX0_stretches 21 = .ok (.invokevirtual 484, 3) := dk_182 1 228 (dk_at dksX0_stretches_0 21 rfl rfl)
theorem dX0_stretches_24 : decode cX0_stretches 24 = .ok (.invokevirtual 499, 3) := dk_182 1 243 (dk_at dksX0_stretches_1 0 rfl rfl)
theorem dX0_stretches_27 : decode cX0_stretches 27 = .ok (.goto 5, 3) := dk_167 0 5 (dk_at dksX0_stretches_1 3 rfl rfl)
theorem dX0_stretches_30 : decode cX0_stretches 30 = .ok (.bipush (-3), 2) := dk_16 253 (dk_at dksX0_stretches_1 6 rfl rfl)
theorem dX0_stretches_32 : decode cX0_stretches 32 = .ok (.ireturn, 1) := dk_172 (dk_at dksX0_stretches_1 8 rfl rfl)
abbrev cX0_dearest : ByteArray := prog_1_method_54_code
def yX0_dearest : MethodName := ⟨RX0, "dearest", "()I"⟩
def dkwX0_dearest_3 : List UInt8 := [172]
abbrev dktX0_dearest_3 : List UInt8 := dkwX0_dearest_3 ++ []
def dkwX0_dearest_2 : List UInt8 := [42, 180, 1, 250, 33, 148, 158, 0, 11, 21, 5, 61, 42, 180, 1, 250, 66, 132, 5, 1, 167, 255, 209, 28]
abbrev dktX0_dearest_2 : List UInt8 := dkwX0_dearest_2 ++ dktX0_dearest_3
def dkwX0_dearest_1 : List UInt8 := [180, 0, 22, 182, 0, 140, 162, 0, 41, 42, 21, 5, 182, 1, 247, 153, 0, 26, 28, 16, 251, 159, 0, 12]
abbrev dktX0_dearest_1 : List UInt8 := dkwX0_dearest_1 ++ dktX0_dearest_2
def dkwX0_dearest_0 : List UInt8 := [42, 182, 1, 244, 60, 27, 4, 159, 0, 5, 27, 172, 16, 251, 61, 9, 66, 3, 54, 5, 21, 5, 42]
abbrev dktX0_dearest_0 : List UInt8 := dkwX0_dearest_0 ++ dktX0_dearest_1
theorem dksX0_dearest_0 : cX0_dearest.data.toList.drop 0 = dktX0_dearest_0 := by decide +kernel
theorem dksX0_dearest_1 : cX0_dearest.data.toList.drop 23 = dktX0_dearest_1 := dk_seg dksX0_dearest_0 23 rfl rfl
theorem dksX0_dearest_2 : cX0_dearest.data.toList.drop 47 = dktX0_dearest_2 := dk_seg dksX0_dearest_1 24 rfl rfl
theorem dksX0_dearest_3 : cX0_dearest.data.toList.drop 71 = dktX0_dearest_3 := dk_seg dksX0_dearest_2 24 rfl rfl
theorem dX0_dearest_0 : decode cX0_dearest 0 = .ok (.aload_n 0, 1) := dk_42 (dk_at dksX0_dearest_0 0 rfl rfl)
theorem dX0_dearest_1 : decode cX0_dearest 1 = .ok (.invokevirtual 500, 3) := dk_182 1 244 (dk_at dksX0_dearest_0 1 rfl rfl)
theorem dX0_dearest_4 : decode cX0_dearest 4 = .ok (.istore_n 1, 1) := dk_60 (dk_at dksX0_dearest_0 4 rfl rfl)
theorem dX0_dearest_5 : decode cX0_dearest 5 = .ok (.iload_n 1, 1) := dk_27 (dk_at dksX0_dearest_0 5 rfl rfl)
theorem dX0_dearest_6 : decode cX0_dearest 6 = .ok (.iconst 1, 1) := dk_4 (dk_at dksX0_dearest_0 6 rfl rfl)
theorem dX0_dearest_7 : decode cX0_dearest 7 = .ok (.if_icmp .eq 5, 3) := dk_159 0 5 (dk_at dksX0_dearest_0 7 rfl rfl)
theorem dX0_dearest_10 : decode cX0_dearest 10 = .ok (.iload_n 1, 1) := dk_27 (dk_at dksX0_dearest_0 10 rfl rfl)
theorem dX0_dearest_11 : decode cX0_dearest 11 = .ok (.ireturn, 1) := dk_172 (dk_at dksX0_dearest_0 11 rfl rfl)
theorem dX0_dearest_12 : decode cX0_dearest 12 = .ok (.bipush (-5), 2) := dk_16 251 (dk_at dksX0_dearest_0 12 rfl rfl)
theorem dX0_dearest_14 : decode cX0_dearest 14 = .ok (.istore_n 2, 1) := dk_61 (dk_at dksX0_dearest_0 14 rfl rfl)
theorem dX0_dearest_15 : decode cX0_dearest 15 = .ok (.lconst 0, 1) := dk_9 (dk_at dksX0_dearest_0 15 rfl rfl)
theorem dX0_dearest_16 : decode cX0_dearest 16 = .ok (.lstore_n 3, 1) := dk_66 (dk_at dksX0_dearest_0 16 rfl rfl)
theorem dX0_dearest_17 : decode cX0_dearest 17 = .ok (.iconst 0, 1) := dk_3 (dk_at dksX0_dearest_0 17 rfl rfl)
theorem dX0_dearest_18 : decode cX0_dearest 18 = .ok (.istore 5, 2) := dk_54 5 (dk_at dksX0_dearest_0 18 rfl rfl)
theorem dX0_dearest_20 : decode cX0_dearest 20 = .ok (.iload 5, 2) := dk_21 5 (dk_at dksX0_dearest_0 20 rfl rfl)
theorem dX0_dearest_22 : decode cX0_dearest 22 = .ok (.aload_n 0, 1) := dk_42 (dk_at dksX0_dearest_0 22 rfl rfl)
theorem dX0_dearest_23 : decode cX0_dearest 23 = .ok (.getfield 22, 3) := dk_180 0 22 (dk_at dksX0_dearest_1 0 rfl rfl)
theorem dX0_dearest_26 : decode cX0_dearest 26 = .ok (.invokevirtual 140, 3) := dk_182 0 140 (dk_at dksX0_dearest_1 3 rfl rfl)
theorem dX0_dearest_29 : decode cX0_dearest 29 = .ok (.if_icmp .ge 41, 3) := dk_162 0 41 (dk_at dksX0_dearest_1 6 rfl rfl)
theorem dX0_dearest_32 : decode cX0_dearest 32 = .ok (.aload_n 0, 1) := dk_42 (dk_at dksX0_dearest_1 9 rfl rfl)
theorem dX0_dearest_33 : decode cX0_dearest 33 = .ok (.iload 5, 2) := dk_21 5 (dk_at dksX0_dearest_1 10 rfl rfl)
theorem dX0_dearest_35 : decode cX0_dearest 35 = .ok (.invokevirtual 503, 3) := dk_182 1 247 (dk_at dksX0_dearest_1 12 rfl rfl)
theorem dX0_dearest_38 : decode cX0_dearest 38 = .ok (.ifCond .eq 26, 3) := dk_153 0 26 (dk_at dksX0_dearest_1 15 rfl rfl)
theorem dX0_dearest_41 : decode cX0_dearest 41 = .ok (.iload_n 2, 1) := dk_28 (dk_at dksX0_dearest_1 18 rfl rfl)
theorem dX0_dearest_42 : decode cX0_dearest 42 = .ok (.bipush (-5), 2) := dk_16 251 (dk_at dksX0_dearest_1 19 rfl rfl)
theorem dX0_dearest_44 : decode cX0_dearest 44 = .ok (.if_icmp .eq 12, 3) := dk_159 0 12 (dk_at dksX0_dearest_1 21 rfl rfl)
theorem dX0_dearest_47 : decode cX0_dearest 47 = .ok (.aload_n 0, 1) := dk_42 (dk_at dksX0_dearest_2 0 rfl rfl)
theorem dX0_dearest_48 : decode cX0_dearest 48 = .ok (.getfield 506, 3) := dk_180 1 250 (dk_at dksX0_dearest_2 1 rfl rfl)
theorem dX0_dearest_51 : decode cX0_dearest 51 = .ok (.lload_n 3, 1) := dk_33 (dk_at dksX0_dearest_2 4 rfl rfl)
theorem dX0_dearest_52 : decode cX0_dearest 52 = .ok (.lcmp, 1) := dk_148 (dk_at dksX0_dearest_2 5 rfl rfl)
theorem dX0_dearest_53 : decode cX0_dearest 53 = .ok (.ifCond .le 11, 3) := dk_158 0 11 (dk_at dksX0_dearest_2 6 rfl rfl)
theorem dX0_dearest_56 : decode cX0_dearest 56 = .ok (.iload 5, 2) := dk_21 5 (dk_at dksX0_dearest_2 9 rfl rfl)
theorem dX0_dearest_58 : decode cX0_dearest 58 = .ok (.istore_n 2, 1) := dk_61 (dk_at dksX0_dearest_2 11 rfl rfl)
theorem dX0_dearest_59 : decode cX0_dearest 59 = .ok (.aload_n 0, 1) := dk_42 (dk_at dksX0_dearest_2 12 rfl rfl)
theorem dX0_dearest_60 : decode cX0_dearest 60 = .ok (.getfield 506, 3) := dk_180 1 250 (dk_at dksX0_dearest_2 13 rfl rfl)
theorem dX0_dearest_63 : decode cX0_dearest 63 = .ok (.lstore_n 3, 1) := dk_66 (dk_at dksX0_dearest_2 16 rfl rfl)
theorem dX0_dearest_64 : decode cX0_dearest 64 = .ok (.iinc 5 1, 3) := dk_132 5 1 (dk_at dksX0_dearest_2 17 rfl rfl)
theorem dX0_dearest_67 : decode cX0_dearest 67 = .ok (.goto (-47), 3) := dk_167 255 209 (dk_at dksX0_dearest_2 20 rfl rfl)
theorem dX0_dearest_70 : decode cX0_dearest 70 = .ok (.iload_n 2, 1) := dk_28 (dk_at dksX0_dearest_2 23 rfl rfl)
theorem dX0_dearest_71 : decode cX0_dearest 71 = .ok (.ireturn, 1) := dk_172 (dk_at dksX0_dearest_3 0 rfl rfl)
abbrev cX0_hasTotalWithout : ByteArray := prog_1_method_55_code
def yX0_hasTotalWithout : MethodName := ⟨RX0, "hasTotalWithout", "(I)Z"⟩
def dkwX0_hasTotalWithout_1 : List UInt8 := [154, 0, 5, 3, 172, 42, 42, 180, 0, 33, 182, 1, 105, 181, 1, 250, 4, 172, 77, 3, 172]
abbrev dktX0_hasTotalWithout_1 : List UInt8 := dkwX0_hasTotalWithout_1 ++ []
def dkwX0_hasTotalWithout_0 : List UInt8 := [42, 42, 180, 0, 33, 182, 0, 204, 42, 180, 0, 33, 27, 182, 1, 253, 42, 180, 0, 33, 182, 0, 208]
abbrev dktX0_hasTotalWithout_0 : List UInt8 := dkwX0_hasTotalWithout_0 ++ dktX0_hasTotalWithout_1
theorem dksX0_hasTotalWithout_0 : cX0_hasTotalWithout.data.toList.drop 0 = dktX0_hasTotalWithout_0 := by decide +kernel
theorem dksX0_hasTotalWithout_1 : cX0_hasTotalWithout.data.toList.drop 23 = dktX0_hasTotalWithout_1 := dk_seg dksX0_hasTotalWithout_0 23 rfl rfl
theorem dX0_hasTotalWithout_0 : decode cX0_hasTotalWithout 0 = .ok (.aload_n 0, 1) := dk_42 (dk_at dksX0_hasTotalWithout_0 0 rfl rfl)
theorem dX0_hasTotalWithout_1 : decode cX0_hasTotalWithout 1 = .ok (.aload_n 0, 1) := dk_42 (dk_at dksX0_hasTotalWithout_0 1 rfl rfl)
theorem dX0_hasTotalWithout_2 : decode cX0_hasTotalWithout 2 = .ok (.getfield 33, 3) := dk_180 0 33 (dk_at dksX0_hasTotalWithout_0 2 rfl rfl)
theorem dX0_hasTotalWithout_5 : decode cX0_hasTotalWithout 5 = .ok (.invokevirtual 204, 3) := dk_182 0 204 (dk_at dksX0_hasTotalWithout_0 5 rfl rfl)
theorem dX0_hasTotalWithout_8 : decode cX0_hasTotalWithout 8 = .ok (.aload_n 0, 1) := dk_42 (dk_at dksX0_hasTotalWithout_0 8 rfl rfl)
theorem dX0_hasTotalWithout_9 : decode cX0_hasTotalWithout 9 = .ok (.getfield 33, 3) := dk_180 0 33 (dk_at dksX0_hasTotalWithout_0 9 rfl rfl)
theorem dX0_hasTotalWithout_12 : decode cX0_hasTotalWithout 12 = .ok (.iload_n 1, 1) := dk_27 (dk_at dksX0_hasTotalWithout_0 12 rfl rfl)
theorem dX0_hasTotalWithout_13 : decode cX0_hasTotalWithout 13 = .ok (.invokevirtual 509, 3) := dk_182 1 253 (dk_at dksX0_hasTotalWithout_0 13 rfl rfl)
theorem dX0_hasTotalWithout_16 : decode cX0_hasTotalWithout 16 = .ok (.aload_n 0, 1) := dk_42 (dk_at dksX0_hasTotalWithout_0 16 rfl rfl)
theorem dX0_hasTotalWithout_17 : decode cX0_hasTotalWithout 17 = .ok (.getfield 33, 3) := dk_180 0 33 (dk_at dksX0_hasTotalWithout_0 17 rfl rfl)
theorem dX0_hasTotalWithout_20 : decode cX0_hasTotalWithout 20 = .ok (.invokevirtual 208, 3) := dk_182 0 208 (dk_at dksX0_hasTotalWithout_0 20 rfl rfl)
theorem dX0_hasTotalWithout_23 : decode cX0_hasTotalWithout 23 = .ok (.ifCond .ne 5, 3) := dk_154 0 5 (dk_at dksX0_hasTotalWithout_1 0 rfl rfl)
theorem dX0_hasTotalWithout_26 : decode cX0_hasTotalWithout 26 = .ok (.iconst 0, 1) := dk_3 (dk_at dksX0_hasTotalWithout_1 3 rfl rfl)
theorem dX0_hasTotalWithout_27 : decode cX0_hasTotalWithout 27 = .ok (.ireturn, 1) := dk_172 (dk_at dksX0_hasTotalWithout_1 4 rfl rfl)
theorem dX0_hasTotalWithout_28 : decode cX0_hasTotalWithout 28 = .ok (.aload_n 0, 1) := dk_42 (dk_at dksX0_hasTotalWithout_1 5 rfl rfl)
theorem dX0_hasTotalWithout_29 : decode cX0_hasTotalWithout 29 = .ok (.aload_n 0, 1) := dk_42 (dk_at dksX0_hasTotalWithout_1 6 rfl rfl)
theorem dX0_hasTotalWithout_30 : decode cX0_hasTotalWithout 30 = .ok (.getfield 33, 3) := dk_180 0 33 (dk_at dksX0_hasTotalWithout_1 7 rfl rfl)
theorem dX0_hasTotalWithout_33 : decode cX0_hasTotalWithout 33 = .ok (.invokevirtual 361, 3) := dk_182 1 105 (dk_at dksX0_hasTotalWithout_1 10 rfl rfl)
theorem dX0_hasTotalWithout_36 : decode cX0_hasTotalWithout 36 = .ok (.putfield 506, 3) := dk_181 1 250 (dk_at dksX0_hasTotalWithout_1 13 rfl rfl)
theorem dX0_hasTotalWithout_39 : decode cX0_hasTotalWithout 39 = .ok (.iconst 1, 1) := dk_4 (dk_at dksX0_hasTotalWithout_1 16 rfl rfl)
theorem dX0_hasTotalWithout_40 : decode cX0_hasTotalWithout 40 = .ok (.ireturn, 1) := dk_172 (dk_at dksX0_hasTotalWithout_1 17 rfl rfl)
theorem dX0_hasTotalWithout_41 : decode cX0_hasTotalWithout 41 = .ok (.astore_n 2, 1) := dk_77 (dk_at dksX0_hasTotalWithout_1 18 rfl rfl)
theorem dX0_hasTotalWithout_42 : decode cX0_hasTotalWithout 42 = .ok (.iconst 0, 1) := dk_3 (dk_at dksX0_hasTotalWithout_1 19 rfl rfl)
theorem dX0_hasTotalWithout_43 : decode cX0_hasTotalWithout 43 = .ok (.ireturn, 1) := dk_172 (dk_at dksX0_hasTotalWithout_1 20 rfl rfl)
abbrev cX0_judge : ByteArray := prog_1_method_63_code
def yX0_judge : MethodName := ⟨RX0, "judge", "(II)I"⟩
def dkwX0_judge_4 : List UInt8 := [167, 255, 206, 21, 4, 153, 0, 7, 6, 167, 0, 4, 5, 172]
abbrev dktX0_judge_4 : List UInt8 := dkwX0_judge_4 ++ []
def dkwX0_judge_3 : List UInt8 := [180, 0, 76, 180, 1, 111, 21, 5, 46, 160, 0, 7, 4, 167, 0, 4, 3, 54, 4, 132, 5, 1]
abbrev dktX0_judge_3 : List UInt8 := dkwX0_judge_3 ++ dktX0_judge_4
def dkwX0_judge_2 : List UInt8 := [180, 0, 157, 162, 0, 44, 21, 4, 153, 0, 30, 42, 180, 0, 29, 180, 1, 111, 21, 5, 46, 42]
abbrev dktX0_judge_2 : List UInt8 := dkwX0_judge_2 ++ dktX0_judge_3
def dkwX0_judge_1 : List UInt8 := [42, 182, 2, 49, 153, 0, 5, 4, 172, 42, 182, 1, 103, 54, 4, 3, 54, 5, 21, 5, 42, 180, 0, 29]
abbrev dktX0_judge_1 : List UInt8 := dkwX0_judge_1 ++ dktX0_judge_2
def dkwX0_judge_0 : List UInt8 := [42, 27, 28, 182, 2, 43, 62, 29, 153, 0, 5, 29, 172, 42, 27, 28, 182, 2, 46, 154, 0, 5, 3, 172]
abbrev dktX0_judge_0 : List UInt8 := dkwX0_judge_0 ++ dktX0_judge_1
theorem dksX0_judge_0 : cX0_judge.data.toList.drop 0 = dktX0_judge_0 := by decide +kernel
theorem dksX0_judge_1 : cX0_judge.data.toList.drop 24 = dktX0_judge_1 := dk_seg dksX0_judge_0 24 rfl rfl
theorem dksX0_judge_2 : cX0_judge.data.toList.drop 48 = dktX0_judge_2 := dk_seg dksX0_judge_1 24 rfl rfl
theorem dksX0_judge_3 : cX0_judge.data.toList.drop 70 = dktX0_judge_3 := dk_seg dksX0_judge_2 22 rfl rfl
theorem dksX0_judge_4 : cX0_judge.data.toList.drop 92 = dktX0_judge_4 := dk_seg dksX0_judge_3 22 rfl rfl
theorem dX0_judge_0 : decode cX0_judge 0 = .ok (.aload_n 0, 1) := dk_42 (dk_at dksX0_judge_0 0 rfl rfl)
theorem dX0_judge_1 : decode cX0_judge 1 = .ok (.iload_n 1, 1) := dk_27 (dk_at dksX0_judge_0 1 rfl rfl)
theorem dX0_judge_2 : decode cX0_judge 2 = .ok (.iload_n 2, 1) := dk_28 (dk_at dksX0_judge_0 2 rfl rfl)
theorem dX0_judge_3 : decode cX0_judge 3 = .ok (.invokevirtual 555, 3) := dk_182 2 43 (dk_at dksX0_judge_0 3 rfl rfl)
theorem dX0_judge_6 : decode cX0_judge 6 = .ok (.istore_n 3, 1) := dk_62 (dk_at dksX0_judge_0 6 rfl rfl)
theorem dX0_judge_7 : decode cX0_judge 7 = .ok (.iload_n 3, 1) := dk_29 (dk_at dksX0_judge_0 7 rfl rfl)
theorem dX0_judge_8 : decode cX0_judge 8 = .ok (.ifCond .eq 5, 3) := dk_153 0 5 (dk_at dksX0_judge_0 8 rfl rfl)
theorem dX0_judge_11 : decode cX0_judge 11 = .ok (.iload_n 3, 1) := dk_29 (dk_at dksX0_judge_0 11 rfl rfl)
theorem dX0_judge_12 : decode cX0_judge 12 = .ok (.ireturn, 1) := dk_172 (dk_at dksX0_judge_0 12 rfl rfl)
theorem dX0_judge_13 : decode cX0_judge 13 = .ok (.aload_n 0, 1) := dk_42 (dk_at dksX0_judge_0 13 rfl rfl)
theorem dX0_judge_14 : decode cX0_judge 14 = .ok (.iload_n 1, 1) := dk_27 (dk_at dksX0_judge_0 14 rfl rfl)
theorem dX0_judge_15 : decode cX0_judge 15 = .ok (.iload_n 2, 1) := dk_28 (dk_at dksX0_judge_0 15 rfl rfl)
theorem dX0_judge_16 : decode cX0_judge 16 = .ok (.invokevirtual 558, 3) := dk_182 2 46 (dk_at dksX0_judge_0 16 rfl rfl)
theorem dX0_judge_19 : decode cX0_judge 19 = .ok (.ifCond .ne 5, 3) := dk_154 0 5 (dk_at dksX0_judge_0 19 rfl rfl)
theorem dX0_judge_22 : decode cX0_judge 22 = .ok (.iconst 0, 1) := dk_3 (dk_at dksX0_judge_0 22 rfl rfl)
theorem dX0_judge_23 : decode cX0_judge 23 = .ok (.ireturn, 1) := dk_172 (dk_at dksX0_judge_0 23 rfl rfl)
theorem dX0_judge_24 : decode cX0_judge 24 = .ok (.aload_n 0, 1) := dk_42 (dk_at dksX0_judge_1 0 rfl rfl)
theorem dX0_judge_25 : decode cX0_judge 25 = .ok (.invokevirtual 561, 3) := dk_182 2 49 (dk_at dksX0_judge_1 1 rfl rfl)
theorem dX0_judge_28 : decode cX0_judge 28 = .ok (.ifCond .eq 5, 3) := dk_153 0 5 (dk_at dksX0_judge_1 4 rfl rfl)
theorem dX0_judge_31 : decode cX0_judge 31 = .ok (.iconst 1, 1) := dk_4 (dk_at dksX0_judge_1 7 rfl rfl)
theorem dX0_judge_32 : decode cX0_judge 32 = .ok (.ireturn, 1) := dk_172 (dk_at dksX0_judge_1 8 rfl rfl)
theorem dX0_judge_33 : decode cX0_judge 33 = .ok (.aload_n 0, 1) := dk_42 (dk_at dksX0_judge_1 9 rfl rfl)
theorem dX0_judge_34 : decode cX0_judge 34 = .ok (.invokevirtual 359, 3) := dk_182 1 103 (dk_at dksX0_judge_1 10 rfl rfl)
theorem dX0_judge_37 : decode cX0_judge 37 = .ok (.istore 4, 2) := dk_54 4 (dk_at dksX0_judge_1 13 rfl rfl)
theorem dX0_judge_39 : decode cX0_judge 39 = .ok (.iconst 0, 1) := dk_3 (dk_at dksX0_judge_1 15 rfl rfl)
theorem dX0_judge_40 : decode cX0_judge 40 = .ok (.istore 5, 2) := dk_54 5 (dk_at dksX0_judge_1 16 rfl rfl)
theorem dX0_judge_42 : decode cX0_judge 42 = .ok (.iload 5, 2) := dk_21 5 (dk_at dksX0_judge_1 18 rfl rfl)
theorem dX0_judge_44 : decode cX0_judge 44 = .ok (.aload_n 0, 1) := dk_42 (dk_at dksX0_judge_1 20 rfl rfl)
theorem dX0_judge_45 : decode cX0_judge 45 = .ok (.getfield 29, 3) := dk_180 0 29 (dk_at dksX0_judge_1 21 rfl rfl)
theorem dX0_judge_48 : decode cX0_judge 48 = .ok (.getfield 157, 3) := dk_180 0 157 (dk_at dksX0_judge_2 0 rfl rfl)
theorem dX0_judge_51 : decode cX0_judge 51 = .ok (.if_icmp .ge 44, 3) := dk_162 0 44 (dk_at dksX0_judge_2 3 rfl rfl)
theorem dX0_judge_54 : decode cX0_judge 54 = .ok (.iload 4, 2) := dk_21 4 (dk_at dksX0_judge_2 6 rfl rfl)
theorem dX0_judge_56 : decode cX0_judge 56 = .ok (.ifCond .eq 30, 3) := dk_153 0 30 (dk_at dksX0_judge_2 8 rfl rfl)
theorem dX0_judge_59 : decode cX0_judge 59 = .ok (.aload_n 0, 1) := dk_42 (dk_at dksX0_judge_2 11 rfl rfl)
theorem dX0_judge_60 : decode cX0_judge 60 = .ok (.getfield 29, 3) := dk_180 0 29 (dk_at dksX0_judge_2 12 rfl rfl)
theorem dX0_judge_63 : decode cX0_judge 63 = .ok (.getfield 367, 3) := dk_180 1 111 (dk_at dksX0_judge_2 15 rfl rfl)
theorem dX0_judge_66 : decode cX0_judge 66 = .ok (.iload 5, 2) := dk_21 5 (dk_at dksX0_judge_2 18 rfl rfl)
theorem dX0_judge_68 : decode cX0_judge 68 = .ok (.iaload, 1) := dk_46 (dk_at dksX0_judge_2 20 rfl rfl)
theorem dX0_judge_69 : decode cX0_judge 69 = .ok (.aload_n 0, 1) := dk_42 (dk_at dksX0_judge_2 21 rfl rfl)
theorem dX0_judge_70 : decode cX0_judge 70 = .ok (.getfield 76, 3) := dk_180 0 76 (dk_at dksX0_judge_3 0 rfl rfl)
theorem dX0_judge_73 : decode cX0_judge 73 = .ok (.getfield 367, 3) := dk_180 1 111 (dk_at dksX0_judge_3 3 rfl rfl)
theorem dX0_judge_76 : decode cX0_judge 76 = .ok (.iload 5, 2) := dk_21 5 (dk_at dksX0_judge_3 6 rfl rfl)
theorem dX0_judge_78 : decode cX0_judge 78 = .ok (.iaload, 1) := dk_46 (dk_at dksX0_judge_3 8 rfl rfl)
theorem dX0_judge_79 : decode cX0_judge 79 = .ok (.if_icmp .ne 7, 3) := dk_160 0 7 (dk_at dksX0_judge_3 9 rfl rfl)
theorem dX0_judge_82 : decode cX0_judge 82 = .ok (.iconst 1, 1) := dk_4 (dk_at dksX0_judge_3 12 rfl rfl)
theorem dX0_judge_83 : decode cX0_judge 83 = .ok (.goto 4, 3) := dk_167 0 4 (dk_at dksX0_judge_3 13 rfl rfl)
theorem dX0_judge_86 : decode cX0_judge 86 = .ok (.iconst 0, 1) := dk_3 (dk_at dksX0_judge_3 16 rfl rfl)
theorem dX0_judge_87 : decode cX0_judge 87 = .ok (.istore 4, 2) := dk_54 4 (dk_at dksX0_judge_3 17 rfl rfl)
theorem dX0_judge_89 : decode cX0_judge 89 = .ok (.iinc 5 1, 3) := dk_132 5 1 (dk_at dksX0_judge_3 19 rfl rfl)
theorem dX0_judge_92 : decode cX0_judge 92 = .ok (.goto (-50), 3) := dk_167 255 206 (dk_at dksX0_judge_4 0 rfl rfl)
theorem dX0_judge_95 : decode cX0_judge 95 = .ok (.iload 4, 2) := dk_21 4 (dk_at dksX0_judge_4 3 rfl rfl)
theorem dX0_judge_97 : decode cX0_judge 97 = .ok (.ifCond .eq 7, 3) := dk_153 0 7 (dk_at dksX0_judge_4 5 rfl rfl)
theorem dX0_judge_100 : decode cX0_judge 100 = .ok (.iconst 3, 1) := dk_6 (dk_at dksX0_judge_4 8 rfl rfl)
theorem dX0_judge_101 : decode cX0_judge 101 = .ok (.goto 4, 3) := dk_167 0 4 (dk_at dksX0_judge_4 9 rfl rfl)
theorem dX0_judge_104 : decode cX0_judge 104 = .ok (.iconst 2, 1) := dk_5 (dk_at dksX0_judge_4 12 rfl rfl)
theorem dX0_judge_105 : decode cX0_judge 105 = .ok (.ireturn, 1) := dk_172 (dk_at dksX0_judge_4 13 rfl rfl)
abbrev cX0_refusal : ByteArray := prog_1_method_57_code
def yX0_refusal : MethodName := ⟨RX0, "refusal", "(II)I"⟩
def dkwX0_refusal_2 : List UInt8 := [167, 0, 4, 3, 172]
abbrev dktX0_refusal_2 : List UInt8 := dkwX0_refusal_2 ++ []
def dkwX0_refusal_1 : List UInt8 := [155, 0, 22, 28, 42, 180, 0, 72, 27, 50, 190, 42, 180, 0, 22, 182, 0, 140, 100, 164, 0, 8, 16, 243]
abbrev dktX0_refusal_1 : List UInt8 := dkwX0_refusal_1 ++ dktX0_refusal_2
def dkwX0_refusal_0 : List UInt8 := [27, 184, 2, 2, 154, 0, 5, 2, 172, 42, 180, 0, 72, 27, 50, 199, 0, 6, 16, 245, 172, 28]
abbrev dktX0_refusal_0 : List UInt8 := dkwX0_refusal_0 ++ dktX0_refusal_1
theorem dksX0_refusal_0 : cX0_refusal.data.toList.drop 0 = dktX0_refusal_0 := by decide +kernel
theorem dksX0_refusal_1 : cX0_refusal.data.toList.drop 22 = dktX0_refusal_1 := dk_seg dksX0_refusal_0 22 rfl rfl
theorem dksX0_refusal_2 : cX0_refusal.data.toList.drop 46 = dktX0_refusal_2 := dk_seg dksX0_refusal_1 24 rfl rfl
theorem dX0_refusal_0 : decode cX0_refusal 0 = .ok (.iload_n 1, 1) := dk_27 (dk_at dksX0_refusal_0 0 rfl rfl)
theorem dX0_refusal_1 : decode cX0_refusal 1 = .ok (.invokestatic 514, 3) := dk_184 2 2 (dk_at dksX0_refusal_0 1 rfl rfl)
theorem dX0_refusal_4 : decode cX0_refusal 4 = .ok (.ifCond .ne 5, 3) := dk_154 0 5 (dk_at dksX0_refusal_0 4 rfl rfl)
theorem dX0_refusal_7 : decode cX0_refusal 7 = .ok (.iconst (-1), 1) := dk_2 (dk_at dksX0_refusal_0 7 rfl rfl)
theorem dX0_refusal_8 : decode cX0_refusal 8 = .ok (.ireturn, 1) := dk_172 (dk_at dksX0_refusal_0 8 rfl rfl)
theorem dX0_refusal_9 : decode cX0_refusal 9 = .ok (.aload_n 0, 1) := dk_42 (dk_at dksX0_refusal_0 9 rfl rfl)
theorem dX0_refusal_10 : decode cX0_refusal 10 = .ok (.getfield 72, 3) := dk_180 0 72 (dk_at dksX0_refusal_0 10 rfl rfl)
theorem dX0_refusal_13 : decode cX0_refusal 13 = .ok (.iload_n 1, 1) := dk_27 (dk_at dksX0_refusal_0 13 rfl rfl)
theorem dX0_refusal_14 : decode cX0_refusal 14 = .ok (.aaload, 1) := dk_50 (dk_at dksX0_refusal_0 14 rfl rfl)
theorem dX0_refusal_15 : decode cX0_refusal 15 = .ok (.ifnonnull 6, 3) := dk_199 0 6 (dk_at dksX0_refusal_0 15 rfl rfl)
theorem dX0_refusal_18 : decode cX0_refusal 18 = .ok (.bipush (-11), 2) := dk_16 245 (dk_at dksX0_refusal_0 18 rfl rfl)
theorem dX0_refusal_20 : decode cX0_refusal 20 = .ok (.ireturn, 1) := dk_172 (dk_at dksX0_refusal_0 20 rfl rfl)
theorem dX0_refusal_21 : decode cX0_refusal 21 = .ok (.iload_n 2, 1) := dk_28 (dk_at dksX0_refusal_0 21 rfl rfl)
theorem dX0_refusal_22 : decode cX0_refusal 22 = .ok (.ifCond .lt 22, 3) := dk_155 0 22 (dk_at dksX0_refusal_1 0 rfl rfl)
theorem dX0_refusal_25 : decode cX0_refusal 25 = .ok (.iload_n 2, 1) := dk_28 (dk_at dksX0_refusal_1 3 rfl rfl)
theorem dX0_refusal_26 : decode cX0_refusal 26 = .ok (.aload_n 0, 1) := dk_42 (dk_at dksX0_refusal_1 4 rfl rfl)
theorem dX0_refusal_27 : decode cX0_refusal 27 = .ok (.getfield 72, 3) := dk_180 0 72 (dk_at dksX0_refusal_1 5 rfl rfl)
theorem dX0_refusal_30 : decode cX0_refusal 30 = .ok (.iload_n 1, 1) := dk_27 (dk_at dksX0_refusal_1 8 rfl rfl)
theorem dX0_refusal_31 : decode cX0_refusal 31 = .ok (.aaload, 1) := dk_50 (dk_at dksX0_refusal_1 9 rfl rfl)
theorem dX0_refusal_32 : decode cX0_refusal 32 = .ok (.arraylength, 1) := dk_190 (dk_at dksX0_refusal_1 10 rfl rfl)
theorem dX0_refusal_33 : decode cX0_refusal 33 = .ok (.aload_n 0, 1) := dk_42 (dk_at dksX0_refusal_1 11 rfl rfl)
theorem dX0_refusal_34 : decode cX0_refusal 34 = .ok (.getfield 22, 3) := dk_180 0 22 (dk_at dksX0_refusal_1 12 rfl rfl)
theorem dX0_refusal_37 : decode cX0_refusal 37 = .ok (.invokevirtual 140, 3) := dk_182 0 140 (dk_at dksX0_refusal_1 15 rfl rfl)
theorem dX0_refusal_40 : decode cX0_refusal 40 = .ok (.isub, 1) := dk_100 (dk_at dksX0_refusal_1 18 rfl rfl)
theorem dX0_refusal_41 : decode cX0_refusal 41 = .ok (.if_icmp .le 8, 3) := dk_164 0 8 (dk_at dksX0_refusal_1 19 rfl rfl)
theorem dX0_refusal_44 : decode cX0_refusal 44 = .ok (.bipush (-13), 2) := dk_16 243 (dk_at dksX0_refusal_1 22 rfl rfl)
theorem dX0_refusal_46 : decode cX0_refusal 46 = .ok (.goto 4, 3) := dk_167 0 4 (dk_at dksX0_refusal_2 0 rfl rfl)
theorem dX0_refusal_49 : decode cX0_refusal 49 = .ok (.iconst 0, 1) := dk_3 (dk_at dksX0_refusal_2 3 rfl rfl)
theorem dX0_refusal_50 : decode cX0_refusal 50 = .ok (.ireturn, 1) := dk_172 (dk_at dksX0_refusal_2 4 rfl rfl)
abbrev cX0_isList : ByteArray := prog_1_method_56_code
def yX0_isList : MethodName := ⟨RX0, "isList", "(I)Z"⟩
def dkwX0_isList_0 : List UInt8 := [26, 133, 9, 20, 2, 0, 184, 0, 132, 172]
abbrev dktX0_isList_0 : List UInt8 := dkwX0_isList_0 ++ []
theorem dksX0_isList_0 : cX0_isList.data.toList.drop 0 = dktX0_isList_0 := by decide +kernel
theorem dX0_isList_0 : decode cX0_isList 0 = .ok (.iload_n 0, 1) := dk_26 (dk_at dksX0_isList_0 0 rfl rfl)
theorem dX0_isList_1 : decode cX0_isList 1 = .ok (.i2l, 1) := dk_133 (dk_at dksX0_isList_0 1 rfl rfl)
theorem dX0_isList_2 : decode cX0_isList 2 = .ok (.lconst 0, 1) := dk_9 (dk_at dksX0_isList_0 2 rfl rfl)
theorem dX0_isList_3 : decode cX0_isList 3 = .ok (.ldc2_w 512, 3) := dk_20 2 0 (dk_at dksX0_isList_0 3 rfl rfl)
theorem dX0_isList_6 : decode cX0_isList 6 = .ok (.invokestatic 132, 3) := dk_184 0 132 (dk_at dksX0_isList_0 6 rfl rfl)
theorem dX0_isList_9 : decode cX0_isList 9 = .ok (.ireturn, 1) := dk_172 (dk_at dksX0_isList_0 9 rfl rfl)
abbrev cX0_isToldFlow : ByteArray := prog_1_method_58_code
def yX0_isToldFlow : MethodName := ⟨RX0, "isToldFlow", "(II)Z"⟩
def dkwX0_isToldFlow_9 : List UInt8 := [154, 0, 7, 4, 167, 0, 4, 3, 62, 132, 6, 1, 167, 255, 224, 29, 172]
abbrev dktX0_isToldFlow_9 : List UInt8 := dkwX0_isToldFlow_9 ++ []
def dkwX0_isToldFlow_8 : List UInt8 := [54, 6, 21, 6, 21, 5, 162, 0, 31, 25, 4, 21, 6, 46, 54, 7, 29, 153, 0, 12, 21, 7]
abbrev dktX0_isToldFlow_8 : List UInt8 := dkwX0_isToldFlow_8 ++ dktX0_isToldFlow_9
def dkwX0_isToldFlow_7 : List UInt8 := [79, 132, 3, 1, 167, 255, 130, 4, 62, 42, 180, 0, 76, 180, 2, 5, 58, 4, 25, 4, 190, 54, 5, 3]
abbrev dktX0_isToldFlow_7 : List UInt8 := dkwX0_isToldFlow_7 ++ dktX0_isToldFlow_8
def dkwX0_isToldFlow_6 : List UInt8 := [180, 2, 5, 42, 180, 0, 76, 180, 1, 132, 29, 46, 92, 46, 42, 180, 0, 76, 180, 1, 111, 29, 46, 96]
abbrev dktX0_isToldFlow_6 : List UInt8 := dkwX0_isToldFlow_6 ++ dktX0_isToldFlow_7
def dkwX0_isToldFlow_5 : List UInt8 := [180, 1, 127, 29, 46, 92, 46, 42, 180, 0, 76, 180, 1, 111, 29, 46, 100, 79, 42, 180, 0, 76]
abbrev dktX0_isToldFlow_5 : List UInt8 := dkwX0_isToldFlow_5 ++ dktX0_isToldFlow_6
def dkwX0_isToldFlow_4 : List UInt8 := [180, 0, 76, 180, 1, 111, 29, 22, 4, 136, 79, 42, 180, 0, 76, 180, 2, 5, 42, 180, 0, 76]
abbrev dktX0_isToldFlow_4 : List UInt8 := dkwX0_isToldFlow_4 ++ dktX0_isToldFlow_5
def dkwX0_isToldFlow_3 : List UInt8 := [29, 46, 133, 42, 180, 0, 76, 180, 2, 10, 29, 46, 133, 184, 0, 132, 154, 0, 5, 3, 172, 42]
abbrev dktX0_isToldFlow_3 : List UInt8 := dkwX0_isToldFlow_3 ++ dktX0_isToldFlow_4
def dkwX0_isToldFlow_2 : List UInt8 := [162, 0, 121, 42, 180, 0, 72, 27, 50, 28, 29, 96, 47, 55, 4, 22, 4, 42, 180, 0, 76, 180, 2, 8]
abbrev dktX0_isToldFlow_2 : List UInt8 := dkwX0_isToldFlow_2 ++ dktX0_isToldFlow_3
def dkwX0_isToldFlow_1 : List UInt8 := [42, 180, 0, 15, 29, 46, 79, 132, 3, 1, 167, 255, 232, 3, 62, 29, 42, 180, 0, 76, 180, 0, 157]
abbrev dktX0_isToldFlow_1 : List UInt8 := dkwX0_isToldFlow_1 ++ dktX0_isToldFlow_2
def dkwX0_isToldFlow_0 : List UInt8 := [42, 42, 180, 0, 76, 182, 0, 204, 3, 62, 29, 16, 8, 162, 0, 24, 42, 180, 0, 76, 180, 2, 5, 29]
abbrev dktX0_isToldFlow_0 : List UInt8 := dkwX0_isToldFlow_0 ++ dktX0_isToldFlow_1
theorem dksX0_isToldFlow_0 : cX0_isToldFlow.data.toList.drop 0 = dktX0_isToldFlow_0 := by decide +kernel
theorem dksX0_isToldFlow_1 : cX0_isToldFlow.data.toList.drop 24 = dktX0_isToldFlow_1 := dk_seg dksX0_isToldFlow_0 24 rfl rfl
theorem dksX0_isToldFlow_2 : cX0_isToldFlow.data.toList.drop 47 = dktX0_isToldFlow_2 := dk_seg dksX0_isToldFlow_1 23 rfl rfl
theorem dksX0_isToldFlow_3 : cX0_isToldFlow.data.toList.drop 71 = dktX0_isToldFlow_3 := dk_seg dksX0_isToldFlow_2 24 rfl rfl
theorem dksX0_isToldFlow_4 : cX0_isToldFlow.data.toList.drop 93 = dktX0_isToldFlow_4 := dk_seg dksX0_isToldFlow_3 22 rfl rfl
theorem dksX0_isToldFlow_5 : cX0_isToldFlow.data.toList.drop 115 = dktX0_isToldFlow_5 := dk_seg dksX0_isToldFlow_4 22 rfl rfl
theorem dksX0_isToldFlow_6 : cX0_isToldFlow.data.toList.drop 137 = dktX0_isToldFlow_6 := dk_seg dksX0_isToldFlow_5 22 rfl rfl
theorem dksX0_isToldFlow_7 : cX0_isToldFlow.data.toList.drop 161 = dktX0_isToldFlow_7 := dk_seg dksX0_isToldFlow_6 24 rfl rfl
theorem dksX0_isToldFlow_8 : cX0_isToldFlow.data.toList.drop 185 = dktX0_isToldFlow_8 := dk_seg dksX0_isToldFlow_7 24 rfl rfl
theorem dksX0_isToldFlow_9 : cX0_isToldFlow.data.toList.drop 207 = dktX0_isToldFlow_9 := dk_seg dksX0_isToldFlow_8 22 rfl rfl
theorem dX0_isToldFlow_0 : decode cX0_isToldFlow 0 = .ok (.aload_n 0, 1) := dk_42 (dk_at dksX0_isToldFlow_0 0 rfl rfl)
theorem dX0_isToldFlow_1 : decode cX0_isToldFlow 1 = .ok (.aload_n 0, 1) := dk_42 (dk_at dksX0_isToldFlow_0 1 rfl rfl)
theorem dX0_isToldFlow_2 : decode cX0_isToldFlow 2 = .ok (.getfield 76, 3) := dk_180 0 76 (dk_at dksX0_isToldFlow_0 2 rfl rfl)
theorem dX0_isToldFlow_5 : decode cX0_isToldFlow 5 = .ok (.invokevirtual 204, 3) := dk_182 0 204 (dk_at dksX0_isToldFlow_0 5 rfl rfl)
theorem dX0_isToldFlow_8 : decode cX0_isToldFlow 8 = .ok (.iconst 0, 1) := dk_3 (dk_at dksX0_isToldFlow_0 8 rfl rfl)
theorem dX0_isToldFlow_9 : decode cX0_isToldFlow 9 = .ok (.istore_n 3, 1) := dk_62 (dk_at dksX0_isToldFlow_0 9 rfl rfl)
theorem dX0_isToldFlow_10 : decode cX0_isToldFlow 10 = .ok (.iload_n 3, 1) := dk_29 (dk_at dksX0_isToldFlow_0 10 rfl rfl)
theorem dX0_isToldFlow_11 : decode cX0_isToldFlow 11 = .ok (.bipush 8, 2) := dk_16 8 (dk_at dksX0_isToldFlow_0 11 rfl rfl)
theorem dX0_isToldFlow_13 : decode cX0_isToldFlow 13 = .ok (.if_icmp .ge 24, 3) := dk_162 0 24 (dk_at dksX0_isToldFlow_0 13 rfl rfl)
theorem dX0_isToldFlow_16 : decode cX0_isToldFlow 16 = .ok (.aload_n 0, 1) := dk_42 (dk_at dksX0_isToldFlow_0 16 rfl rfl)
theorem dX0_isToldFlow_17 : decode cX0_isToldFlow 17 = .ok (.getfield 76, 3) := dk_180 0 76 (dk_at dksX0_isToldFlow_0 17 rfl rfl)
theorem dX0_isToldFlow_20 : decode cX0_isToldFlow 20 = .ok (.getfield 517, 3) := dk_180 2 5 (dk_at dksX0_isToldFlow_0 20 rfl rfl)
theorem dX0_isToldFlow_23 : decode cX0_isToldFlow 23 = .ok (.iload_n 3, 1) := dk_29 (dk_at dksX0_isToldFlow_0 23 rfl rfl)
theorem dX0_isToldFlow_24 : decode cX0_isToldFlow 24 = .ok (.aload_n 0, 1) := dk_42 (dk_at dksX0_isToldFlow_1 0 rfl rfl)
theorem dX0_isToldFlow_25 : decode cX0_isToldFlow 25 = .ok (.getfield 15, 3) := dk_180 0 15 (dk_at dksX0_isToldFlow_1 1 rfl rfl)
theorem dX0_isToldFlow_28 : decode cX0_isToldFlow 28 = .ok (.iload_n 3, 1) := dk_29 (dk_at dksX0_isToldFlow_1 4 rfl rfl)
theorem dX0_isToldFlow_29 : decode cX0_isToldFlow 29 = .ok (.iaload, 1) := dk_46 (dk_at dksX0_isToldFlow_1 5 rfl rfl)
theorem dX0_isToldFlow_30 : decode cX0_isToldFlow 30 = .ok (.iastore, 1) := dk_79 (dk_at dksX0_isToldFlow_1 6 rfl rfl)
theorem dX0_isToldFlow_31 : decode cX0_isToldFlow 31 = .ok (.iinc 3 1, 3) := dk_132 3 1 (dk_at dksX0_isToldFlow_1 7 rfl rfl)
theorem dX0_isToldFlow_34 : decode cX0_isToldFlow 34 = .ok (.goto (-24), 3) := dk_167 255 232 (dk_at dksX0_isToldFlow_1 10 rfl rfl)
theorem dX0_isToldFlow_37 : decode cX0_isToldFlow 37 = .ok (.iconst 0, 1) := dk_3 (dk_at dksX0_isToldFlow_1 13 rfl rfl)
theorem dX0_isToldFlow_38 : decode cX0_isToldFlow 38 = .ok (.istore_n 3, 1) := dk_62 (dk_at dksX0_isToldFlow_1 14 rfl rfl)
theorem dX0_isToldFlow_39 : decode cX0_isToldFlow 39 = .ok (.iload_n 3, 1) := dk_29 (dk_at dksX0_isToldFlow_1 15 rfl rfl)
theorem dX0_isToldFlow_40 : decode cX0_isToldFlow 40 = .ok (.aload_n 0, 1) := dk_42 (dk_at dksX0_isToldFlow_1 16 rfl rfl)
theorem dX0_isToldFlow_41 : decode cX0_isToldFlow 41 = .ok (.getfield 76, 3) := dk_180 0 76 (dk_at dksX0_isToldFlow_1 17 rfl rfl)
theorem dX0_isToldFlow_44 : decode cX0_isToldFlow 44 = .ok (.getfield 157, 3) := dk_180 0 157 (dk_at dksX0_isToldFlow_1 20 rfl rfl)
theorem dX0_isToldFlow_47 : decode cX0_isToldFlow 47 = .ok (.if_icmp .ge 121, 3) := dk_162 0 121 (dk_at dksX0_isToldFlow_2 0 rfl rfl)
theorem dX0_isToldFlow_50 : decode cX0_isToldFlow 50 = .ok (.aload_n 0, 1) := dk_42 (dk_at dksX0_isToldFlow_2 3 rfl rfl)
theorem dX0_isToldFlow_51 : decode cX0_isToldFlow 51 = .ok (.getfield 72, 3) := dk_180 0 72 (dk_at dksX0_isToldFlow_2 4 rfl rfl)
theorem dX0_isToldFlow_54 : decode cX0_isToldFlow 54 = .ok (.iload_n 1, 1) := dk_27 (dk_at dksX0_isToldFlow_2 7 rfl rfl)
theorem dX0_isToldFlow_55 : decode cX0_isToldFlow 55 = .ok (.aaload, 1) := dk_50 (dk_at dksX0_isToldFlow_2 8 rfl rfl)
theorem dX0_isToldFlow_56 : decode cX0_isToldFlow 56 = .ok (.iload_n 2, 1) := dk_28 (dk_at dksX0_isToldFlow_2 9 rfl rfl)
theorem dX0_isToldFlow_57 : decode cX0_isToldFlow 57 = .ok (.iload_n 3, 1) := dk_29 (dk_at dksX0_isToldFlow_2 10 rfl rfl)
theorem dX0_isToldFlow_58 : decode cX0_isToldFlow 58 = .ok (.iadd, 1) := dk_96 (dk_at dksX0_isToldFlow_2 11 rfl rfl)
theorem dX0_isToldFlow_59 : decode cX0_isToldFlow 59 = .ok (.laload, 1) := dk_47 (dk_at dksX0_isToldFlow_2 12 rfl rfl)
theorem dX0_isToldFlow_60 : decode cX0_isToldFlow 60 = .ok (.lstore 4, 2) := dk_55 4 (dk_at dksX0_isToldFlow_2 13 rfl rfl)
theorem dX0_isToldFlow_62 : decode cX0_isToldFlow 62 = .ok (.lload 4, 2) := dk_22 4 (dk_at dksX0_isToldFlow_2 15 rfl rfl)
theorem dX0_isToldFlow_64 : decode cX0_isToldFlow 64 = .ok (.aload_n 0, 1) := dk_42 (dk_at dksX0_isToldFlow_2 17 rfl rfl)
theorem dX0_isToldFlow_65 : decode cX0_isToldFlow 65 = .ok (.getfield 76, 3) := dk_180 0 76 (dk_at dksX0_isToldFlow_2 18 rfl rfl)
theorem dX0_isToldFlow_68 : decode cX0_isToldFlow 68 = .ok (.getfield 520, 3) := dk_180 2 8 (dk_at dksX0_isToldFlow_2 21 rfl rfl)
theorem dX0_isToldFlow_71 : decode cX0_isToldFlow 71 = .ok (.iload_n 3, 1) := dk_29 (dk_at dksX0_isToldFlow_3 0 rfl rfl)
theorem dX0_isToldFlow_72 : decode cX0_isToldFlow 72 = .ok (.iaload, 1) := dk_46 (dk_at dksX0_isToldFlow_3 1 rfl rfl)
theorem dX0_isToldFlow_73 : decode cX0_isToldFlow 73 = .ok (.i2l, 1) := dk_133 (dk_at dksX0_isToldFlow_3 2 rfl rfl)
theorem dX0_isToldFlow_74 : decode cX0_isToldFlow 74 = .ok (.aload_n 0, 1) := dk_42 (dk_at dksX0_isToldFlow_3 3 rfl rfl)
theorem dX0_isToldFlow_75 : decode cX0_isToldFlow 75 = .ok (.getfield 76, 3) := dk_180 0 76 (dk_at dksX0_isToldFlow_3 4 rfl rfl)
theorem dX0_isToldFlow_78 : decode cX0_isToldFlow 78 = .ok (.getfield 522, 3) := dk_180 2 10 (dk_at dksX0_isToldFlow_3 7 rfl rfl)
theorem dX0_isToldFlow_81 : decode cX0_isToldFlow 81 = .ok (.iload_n 3, 1) := dk_29 (dk_at dksX0_isToldFlow_3 10 rfl rfl)
theorem dX0_isToldFlow_82 : decode cX0_isToldFlow 82 = .ok (.iaload, 1) := dk_46 (dk_at dksX0_isToldFlow_3 11 rfl rfl)
theorem dX0_isToldFlow_83 : decode cX0_isToldFlow 83 = .ok (.i2l, 1) := dk_133 (dk_at dksX0_isToldFlow_3 12 rfl rfl)
theorem dX0_isToldFlow_84 : decode cX0_isToldFlow 84 = .ok (.invokestatic 132, 3) := dk_184 0 132 (dk_at dksX0_isToldFlow_3 13 rfl rfl)
theorem dX0_isToldFlow_87 : decode cX0_isToldFlow 87 = .ok (.ifCond .ne 5, 3) := dk_154 0 5 (dk_at dksX0_isToldFlow_3 16 rfl rfl)
theorem dX0_isToldFlow_90 : decode cX0_isToldFlow 90 = .ok (.iconst 0, 1) := dk_3 (dk_at dksX0_isToldFlow_3 19 rfl rfl)
theorem dX0_isToldFlow_91 : decode cX0_isToldFlow 91 = .ok (.ireturn, 1) := dk_172 (dk_at dksX0_isToldFlow_3 20 rfl rfl)
theorem dX0_isToldFlow_92 : decode cX0_isToldFlow 92 = .ok (.aload_n 0, 1) := dk_42 (dk_at dksX0_isToldFlow_3 21 rfl rfl)
theorem dX0_isToldFlow_93 : decode cX0_isToldFlow 93 = .ok (.getfield 76, 3) := dk_180 0 76 (dk_at dksX0_isToldFlow_4 0 rfl rfl)
theorem dX0_isToldFlow_96 : decode cX0_isToldFlow 96 = .ok (.getfield 367, 3) := dk_180 1 111 (dk_at dksX0_isToldFlow_4 3 rfl rfl)
theorem dX0_isToldFlow_99 : decode cX0_isToldFlow 99 = .ok (.iload_n 3, 1) := dk_29 (dk_at dksX0_isToldFlow_4 6 rfl rfl)
theorem dX0_isToldFlow_100 : decode cX0_isToldFlow 100 = .ok (.lload 4, 2) := dk_22 4 (dk_at dksX0_isToldFlow_4 7 rfl rfl)
theorem dX0_isToldFlow_102 : decode cX0_isToldFlow 102 = .ok (.l2i, 1) := dk_136 (dk_at dksX0_isToldFlow_4 9 rfl rfl)
theorem dX0_isToldFlow_103 : decode cX0_isToldFlow 103 = .ok (.iastore, 1) := dk_79 (dk_at dksX0_isToldFlow_4 10 rfl rfl)
theorem dX0_isToldFlow_104 : decode cX0_isToldFlow 104 = .ok (.aload_n 0, 1) := dk_42 (dk_at dksX0_isToldFlow_4 11 rfl rfl)
theorem dX0_isToldFlow_105 : decode cX0_isToldFlow 105 = .ok (.getfield 76, 3) := dk_180 0 76 (dk_at dksX0_isToldFlow_4 12 rfl rfl)
theorem dX0_isToldFlow_108 : decode cX0_isToldFlow 108 = .ok (.getfield 517, 3) := dk_180 2 5 (dk_at dksX0_isToldFlow_4 15 rfl rfl)
theorem dX0_isToldFlow_111 : decode cX0_isToldFlow 111 = .ok (.aload_n 0, 1) := dk_42 (dk_at dksX0_isToldFlow_4 18 rfl rfl)
theorem dX0_isToldFlow_112 : decode cX0_isToldFlow 112 = .ok (.getfield 76, 3) := dk_180 0 76 (dk_at dksX0_isToldFlow_4 19 rfl rfl)
theorem dX0_isToldFlow_115 : decode cX0_isToldFlow 115 = .ok (.getfield 383, 3) := dk_180 1 127 (dk_at dksX0_isToldFlow_5 0 rfl rfl)
theorem dX0_isToldFlow_118 : decode cX0_isToldFlow 118 = .ok (.iload_n 3, 1) := dk_29 (dk_at dksX0_isToldFlow_5 3 rfl rfl)
theorem dX0_isToldFlow_119 : decode cX0_isToldFlow 119 = .ok (.iaload, 1) := dk_46 (dk_at dksX0_isToldFlow_5 4 rfl rfl)
theorem dX0_isToldFlow_120 : decode cX0_isToldFlow 120 = .ok (.dup2, 1) := dk_92 (dk_at dksX0_isToldFlow_5 5 rfl rfl)
theorem dX0_isToldFlow_121 : decode cX0_isToldFlow 121 = .ok (.iaload, 1) := dk_46 (dk_at dksX0_isToldFlow_5 6 rfl rfl)
theorem dX0_isToldFlow_122 : decode cX0_isToldFlow 122 = .ok (.aload_n 0, 1) := dk_42 (dk_at dksX0_isToldFlow_5 7 rfl rfl)
theorem dX0_isToldFlow_123 : decode cX0_isToldFlow 123 = .ok (.getfield 76, 3) := dk_180 0 76 (dk_at dksX0_isToldFlow_5 8 rfl rfl)
theorem dX0_isToldFlow_126 : decode cX0_isToldFlow 126 = .ok (.getfield 367, 3) := dk_180 1 111 (dk_at dksX0_isToldFlow_5 11 rfl rfl)
theorem dX0_isToldFlow_129 : decode cX0_isToldFlow 129 = .ok (.iload_n 3, 1) := dk_29 (dk_at dksX0_isToldFlow_5 14 rfl rfl)
theorem dX0_isToldFlow_130 : decode cX0_isToldFlow 130 = .ok (.iaload, 1) := dk_46 (dk_at dksX0_isToldFlow_5 15 rfl rfl)
theorem dX0_isToldFlow_131 : decode cX0_isToldFlow 131 = .ok (.isub, 1) := dk_100 (dk_at dksX0_isToldFlow_5 16 rfl rfl)
theorem dX0_isToldFlow_132 : decode cX0_isToldFlow 132 = .ok (.iastore, 1) := dk_79 (dk_at dksX0_isToldFlow_5 17 rfl rfl)
theorem dX0_isToldFlow_133 : decode cX0_isToldFlow 133 = .ok (.aload_n 0, 1) := dk_42 (dk_at dksX0_isToldFlow_5 18 rfl rfl)
theorem dX0_isToldFlow_134 : decode cX0_isToldFlow 134 = .ok (.getfield 76, 3) := dk_180 0 76 (dk_at dksX0_isToldFlow_5 19 rfl rfl)
theorem dX0_isToldFlow_137 : decode cX0_isToldFlow 137 = .ok (.getfield 517, 3) := dk_180 2 5 (dk_at dksX0_isToldFlow_6 0 rfl rfl)
theorem dX0_isToldFlow_140 : decode cX0_isToldFlow 140 = .ok (.aload_n 0, 1) := dk_42 (dk_at dksX0_isToldFlow_6 3 rfl rfl)
theorem dX0_isToldFlow_141 : decode cX0_isToldFlow 141 = .ok (.getfield 76, 3) := dk_180 0 76 (dk_at dksX0_isToldFlow_6 4 rfl rfl)
theorem dX0_isToldFlow_144 : decode cX0_isToldFlow 144 = .ok (.getfield 388, 3) := dk_180 1 132 (dk_at dksX0_isToldFlow_6 7 rfl rfl)
theorem dX0_isToldFlow_147 : decode cX0_isToldFlow 147 = .ok (.iload_n 3, 1) := dk_29 (dk_at dksX0_isToldFlow_6 10 rfl rfl)
theorem dX0_isToldFlow_148 : decode cX0_isToldFlow 148 = .ok (.iaload, 1) := dk_46 (dk_at dksX0_isToldFlow_6 11 rfl rfl)
theorem dX0_isToldFlow_149 : decode cX0_isToldFlow 149 = .ok (.dup2, 1) := dk_92 (dk_at dksX0_isToldFlow_6 12 rfl rfl)
theorem dX0_isToldFlow_150 : decode cX0_isToldFlow 150 = .ok (.iaload, 1) := dk_46 (dk_at dksX0_isToldFlow_6 13 rfl rfl)
theorem dX0_isToldFlow_151 : decode cX0_isToldFlow 151 = .ok (.aload_n 0, 1) := dk_42 (dk_at dksX0_isToldFlow_6 14 rfl rfl)
theorem dX0_isToldFlow_152 : decode cX0_isToldFlow 152 = .ok (.getfield 76, 3) := dk_180 0 76 (dk_at dksX0_isToldFlow_6 15 rfl rfl)
theorem dX0_isToldFlow_155 : decode cX0_isToldFlow 155 = .ok (.getfield 367, 3) := dk_180 1 111 (dk_at dksX0_isToldFlow_6 18 rfl rfl)
theorem dX0_isToldFlow_158 : decode cX0_isToldFlow 158 = .ok (.iload_n 3, 1) := dk_29 (dk_at dksX0_isToldFlow_6 21 rfl rfl)
theorem dX0_isToldFlow_159 : decode cX0_isToldFlow 159 = .ok (.iaload, 1) := dk_46 (dk_at dksX0_isToldFlow_6 22 rfl rfl)
theorem dX0_isToldFlow_160 : decode cX0_isToldFlow 160 = .ok (.iadd, 1) := dk_96 (dk_at dksX0_isToldFlow_6 23 rfl rfl)
theorem dX0_isToldFlow_161 : decode cX0_isToldFlow 161 = .ok (.iastore, 1) := dk_79 (dk_at dksX0_isToldFlow_7 0 rfl rfl)
theorem dX0_isToldFlow_162 : decode cX0_isToldFlow 162 = .ok (.iinc 3 1, 3) := dk_132 3 1 (dk_at dksX0_isToldFlow_7 1 rfl rfl)
theorem dX0_isToldFlow_165 : decode cX0_isToldFlow 165 = .ok (.goto (-126), 3) := dk_167 255 130 (dk_at dksX0_isToldFlow_7 4 rfl rfl)
theorem dX0_isToldFlow_168 : decode cX0_isToldFlow 168 = .ok (.iconst 1, 1) := dk_4 (dk_at dksX0_isToldFlow_7 7 rfl rfl)
theorem dX0_isToldFlow_169 : decode cX0_isToldFlow 169 = .ok (.istore_n 3, 1) := dk_62 (dk_at dksX0_isToldFlow_7 8 rfl rfl)
theorem dX0_isToldFlow_170 : decode cX0_isToldFlow 170 = .ok (.aload_n 0, 1) := dk_42 (dk_at dksX0_isToldFlow_7 9 rfl rfl)
theorem dX0_isToldFlow_171 : decode cX0_isToldFlow 171 = .ok (.getfield 76, 3) := dk_180 0 76 (dk_at dksX0_isToldFlow_7 10 rfl rfl)
theorem dX0_isToldFlow_174 : decode cX0_isToldFlow 174 = .ok (.getfield 517, 3) := dk_180 2 5 (dk_at dksX0_isToldFlow_7 13 rfl rfl)
theorem dX0_isToldFlow_177 : decode cX0_isToldFlow 177 = .ok (.astore 4, 2) := dk_58 4 (dk_at dksX0_isToldFlow_7 16 rfl rfl)
theorem dX0_isToldFlow_179 : decode cX0_isToldFlow 179 = .ok (.aload 4, 2) := dk_25 4 (dk_at dksX0_isToldFlow_7 18 rfl rfl)
theorem dX0_isToldFlow_181 : decode cX0_isToldFlow 181 = .ok (.arraylength, 1) := dk_190 (dk_at dksX0_isToldFlow_7 20 rfl rfl)
theorem dX0_isToldFlow_182 : decode cX0_isToldFlow 182 = .ok (.istore 5, 2) := dk_54 5 (dk_at dksX0_isToldFlow_7 21 rfl rfl)
theorem dX0_isToldFlow_184 : decode cX0_isToldFlow 184 = .ok (.iconst 0, 1) := dk_3 (dk_at dksX0_isToldFlow_7 23 rfl rfl)
theorem dX0_isToldFlow_185 : decode cX0_isToldFlow 185 = .ok (.istore 6, 2) := dk_54 6 (dk_at dksX0_isToldFlow_8 0 rfl rfl)
theorem dX0_isToldFlow_187 : decode cX0_isToldFlow 187 = .ok (.iload 6, 2) := dk_21 6 (dk_at dksX0_isToldFlow_8 2 rfl rfl)
theorem dX0_isToldFlow_189 : decode cX0_isToldFlow 189 = .ok (.iload 5, 2) := dk_21 5 (dk_at dksX0_isToldFlow_8 4 rfl rfl)
theorem dX0_isToldFlow_191 : decode cX0_isToldFlow 191 = .ok (.if_icmp .ge 31, 3) := dk_162 0 31 (dk_at dksX0_isToldFlow_8 6 rfl rfl)
theorem dX0_isToldFlow_194 : decode cX0_isToldFlow 194 = .ok (.aload 4, 2) := dk_25 4 (dk_at dksX0_isToldFlow_8 9 rfl rfl)
theorem dX0_isToldFlow_196 : decode cX0_isToldFlow 196 = .ok (.iload 6, 2) := dk_21 6 (dk_at dksX0_isToldFlow_8 11 rfl rfl)
theorem dX0_isToldFlow_198 : decode cX0_isToldFlow 198 = .ok (.iaload, 1) := dk_46 (dk_at dksX0_isToldFlow_8 13 rfl rfl)
theorem dX0_isToldFlow_199 : decode cX0_isToldFlow 199 = .ok (.istore 7, 2) := dk_54 7 (dk_at dksX0_isToldFlow_8 14 rfl rfl)
theorem dX0_isToldFlow_201 : decode cX0_isToldFlow 201 = .ok (.iload_n 3, 1) := dk_29 (dk_at dksX0_isToldFlow_8 16 rfl rfl)
theorem dX0_isToldFlow_202 : decode cX0_isToldFlow 202 = .ok (.ifCond .eq 12, 3) := dk_153 0 12 (dk_at dksX0_isToldFlow_8 17 rfl rfl)
theorem dX0_isToldFlow_205 : decode cX0_isToldFlow 205 = .ok (.iload 7, 2) := dk_21 7 (dk_at dksX0_isToldFlow_8 20 rfl rfl)
theorem dX0_isToldFlow_207 : decode cX0_isToldFlow 207 = .ok (.ifCond .ne 7, 3) := dk_154 0 7 (dk_at dksX0_isToldFlow_9 0 rfl rfl)
theorem dX0_isToldFlow_210 : decode cX0_isToldFlow 210 = .ok (.iconst 1, 1) := dk_4 (dk_at dksX0_isToldFlow_9 3 rfl rfl)
theorem dX0_isToldFlow_211 : decode cX0_isToldFlow 211 = .ok (.goto 4, 3) := dk_167 0 4 (dk_at dksX0_isToldFlow_9 4 rfl rfl)
theorem dX0_isToldFlow_214 : decode cX0_isToldFlow 214 = .ok (.iconst 0, 1) := dk_3 (dk_at dksX0_isToldFlow_9 7 rfl rfl)
theorem dX0_isToldFlow_215 : decode cX0_isToldFlow 215 = .ok (.istore_n 3, 1) := dk_62 (dk_at dksX0_isToldFlow_9 8 rfl rfl)
theorem dX0_isToldFlow_216 : decode cX0_isToldFlow 216 = .ok (.iinc 6 1, 3) := dk_132 6 1 (dk_at dksX0_isToldFlow_9 9 rfl rfl)
theorem dX0_isToldFlow_219 : decode cX0_isToldFlow 219 = .ok (.goto (-32), 3) := dk_167 255 224 (dk_at dksX0_isToldFlow_9 12 rfl rfl)
theorem dX0_isToldFlow_222 : decode cX0_isToldFlow 222 = .ok (.iload_n 3, 1) := dk_29 (dk_at dksX0_isToldFlow_9 15 rfl rfl)
theorem dX0_isToldFlow_223 : decode cX0_isToldFlow 223 = .ok (.ireturn, 1) := dk_172 (dk_at dksX0_isToldFlow_9 16 rfl rfl)
abbrev cX0_hasRing : ByteArray := prog_1_method_60_code
def yX0_hasRing : MethodName := ⟨RX0, "hasRing", "()Z"⟩
def dkwX0_hasRing_5 : List UInt8 := [167, 255, 206, 132, 1, 1, 167, 255, 190, 42, 3, 181, 2, 27, 3, 172]
abbrev dktX0_hasRing_5 : List UInt8 := dkwX0_hasRing_5 ++ []
def dkwX0_hasRing_4 : List UInt8 := [182, 2, 18, 42, 27, 4, 9, 182, 2, 21, 153, 0, 10, 42, 27, 181, 2, 27, 4, 172, 132, 2, 1]
abbrev dktX0_hasRing_4 : List UInt8 := dkwX0_hasRing_4 ++ dktX0_hasRing_5
def dkwX0_hasRing_3 : List UInt8 := [162, 0, 48, 42, 180, 0, 82, 3, 28, 79, 42, 180, 0, 88, 182, 2, 26, 42, 180, 0, 88, 28]
abbrev dktX0_hasRing_3 : List UInt8 := dkwX0_hasRing_3 ++ dktX0_hasRing_4
def dkwX0_hasRing_2 : List UInt8 := [132, 1, 1, 167, 255, 209, 5, 60, 27, 42, 180, 0, 11, 163, 0, 64, 3, 61, 28, 42, 180, 0, 11]
abbrev dktX0_hasRing_2 : List UInt8 := dkwX0_hasRing_2 ++ dktX0_hasRing_3
def dkwX0_hasRing_1 : List UInt8 := [16, 8, 27, 104, 28, 96, 42, 180, 0, 76, 27, 28, 182, 1, 159, 79, 132, 2, 1, 167, 255, 225]
abbrev dktX0_hasRing_1 : List UInt8 := dkwX0_hasRing_1 ++ dktX0_hasRing_2
def dkwX0_hasRing_0 : List UInt8 := [3, 60, 27, 42, 180, 0, 11, 162, 0, 45, 3, 61, 28, 42, 180, 0, 11, 162, 0, 29, 42, 180, 0, 79]
abbrev dktX0_hasRing_0 : List UInt8 := dkwX0_hasRing_0 ++ dktX0_hasRing_1
theorem dksX0_hasRing_0 : cX0_hasRing.data.toList.drop 0 = dktX0_hasRing_0 := by decide +kernel
theorem dksX0_hasRing_1 : cX0_hasRing.data.toList.drop 24 = dktX0_hasRing_1 := dk_seg dksX0_hasRing_0 24 rfl rfl
theorem dksX0_hasRing_2 : cX0_hasRing.data.toList.drop 46 = dktX0_hasRing_2 := dk_seg dksX0_hasRing_1 22 rfl rfl
theorem dksX0_hasRing_3 : cX0_hasRing.data.toList.drop 69 = dktX0_hasRing_3 := dk_seg dksX0_hasRing_2 23 rfl rfl
theorem dksX0_hasRing_4 : cX0_hasRing.data.toList.drop 91 = dktX0_hasRing_4 := dk_seg dksX0_hasRing_3 22 rfl rfl
theorem dksX0_hasRing_5 : cX0_hasRing.data.toList.drop 114 = dktX0_hasRing_5 := dk_seg dksX0_hasRing_4 23 rfl rfl
theorem dX0_hasRing_0 : decode cX0_hasRing 0 = .ok (.iconst 0, 1) := dk_3 (dk_at dksX0_hasRing_0 0 rfl rfl)
theorem dX0_hasRing_1 : decode cX0_hasRing 1 = .ok (.istore_n 1, 1) := dk_60 (dk_at dksX0_hasRing_0 1 rfl rfl)
theorem dX0_hasRing_2 : decode cX0_hasRing 2 = .ok (.iload_n 1, 1) := dk_27 (dk_at dksX0_hasRing_0 2 rfl rfl)
theorem dX0_hasRing_3 : decode cX0_hasRing 3 = .ok (.aload_n 0, 1) := dk_42 (dk_at dksX0_hasRing_0 3 rfl rfl)
theorem dX0_hasRing_4 : decode cX0_hasRing 4 = .ok (.getfield 11, 3) := dk_180 0 11 (dk_at dksX0_hasRing_0 4 rfl rfl)
theorem dX0_hasRing_7 : decode cX0_hasRing 7 = .ok (.if_icmp .ge 45, 3) := dk_162 0 45 (dk_at dksX0_hasRing_0 7 rfl rfl)
theorem dX0_hasRing_10 : decode cX0_hasRing 10 = .ok (.iconst 0, 1) := dk_3 (dk_at dksX0_hasRing_0 10 rfl rfl)
theorem dX0_hasRing_11 : decode cX0_hasRing 11 = .ok (.istore_n 2, 1) := dk_61 (dk_at dksX0_hasRing_0 11 rfl rfl)
theorem dX0_hasRing_12 : decode cX0_hasRing 12 = .ok (.iload_n 2, 1) := dk_28 (dk_at dksX0_hasRing_0 12 rfl rfl)
theorem dX0_hasRing_13 : decode cX0_hasRing 13 = .ok (.aload_n 0, 1) := dk_42 (dk_at dksX0_hasRing_0 13 rfl rfl)
theorem dX0_hasRing_14 : decode cX0_hasRing 14 = .ok (.getfield 11, 3) := dk_180 0 11 (dk_at dksX0_hasRing_0 14 rfl rfl)
theorem dX0_hasRing_17 : decode cX0_hasRing 17 = .ok (.if_icmp .ge 29, 3) := dk_162 0 29 (dk_at dksX0_hasRing_0 17 rfl rfl)
theorem dX0_hasRing_20 : decode cX0_hasRing 20 = .ok (.aload_n 0, 1) := dk_42 (dk_at dksX0_hasRing_0 20 rfl rfl)
theorem dX0_hasRing_21 : decode cX0_hasRing 21 = .ok (.getfield 79, 3) := dk_180 0 79 (dk_at dksX0_hasRing_0 21 rfl rfl)
theorem dX0_hasRing_24 : decode cX0_hasRing 24 = .ok (.bipush 8, 2) := dk_16 8 (dk_at dksX0_hasRing_1 0 rfl rfl)
theorem dX0_hasRing_26 : decode cX0_hasRing 26 = .ok (.iload_n 1, 1) := dk_27 (dk_at dksX0_hasRing_1 2 rfl rfl)
theorem dX0_hasRing_27 : decode cX0_hasRing 27 = .ok (.imul, 1) := dk_104 (dk_at dksX0_hasRing_1 3 rfl rfl)
theorem dX0_hasRing_28 : decode cX0_hasRing 28 = .ok (.iload_n 2, 1) := dk_28 (dk_at dksX0_hasRing_1 4 rfl rfl)
theorem dX0_hasRing_29 : decode cX0_hasRing 29 = .ok (.iadd, 1) := dk_96 (dk_at dksX0_hasRing_1 5 rfl rfl)
theorem dX0_hasRing_30 : decode cX0_hasRing 30 = .ok (.aload_n 0, 1) := dk_42 (dk_at dksX0_hasRing_1 6 rfl rfl)
theorem dX0_hasRing_31 : decode cX0_hasRing 31 = .ok (.getfield 76, 3) := dk_180 0 76 (dk_at dksX0_hasRing_1 7 rfl rfl)
theorem dX0_hasRing_34 : decode cX0_hasRing 34 = .ok (.iload_n 1, 1) := dk_27 (dk_at dksX0_hasRing_1 10 rfl rfl)
theorem dX0_hasRing_35 : decode cX0_hasRing 35 = .ok (.iload_n 2, 1) := dk_28 (dk_at dksX0_hasRing_1 11 rfl rfl)
theorem dX0_hasRing_36 : decode cX0_hasRing 36 = .ok (.invokevirtual 415, 3) := dk_182 1 159 (dk_at dksX0_hasRing_1 12 rfl rfl)
theorem dX0_hasRing_39 : decode cX0_hasRing 39 = .ok (.iastore, 1) := dk_79 (dk_at dksX0_hasRing_1 15 rfl rfl)
theorem dX0_hasRing_40 : decode cX0_hasRing 40 = .ok (.iinc 2 1, 3) := dk_132 2 1 (dk_at dksX0_hasRing_1 16 rfl rfl)
theorem dX0_hasRing_43 : decode cX0_hasRing 43 = .ok (.goto (-31), 3) := dk_167 255 225 (dk_at dksX0_hasRing_1 19 rfl rfl)
theorem dX0_hasRing_46 : decode cX0_hasRing 46 = .ok (.iinc 1 1, 3) := dk_132 1 1 (dk_at dksX0_hasRing_2 0 rfl rfl)
theorem dX0_hasRing_49 : decode cX0_hasRing 49 = .ok (.goto (-47), 3) := dk_167 255 209 (dk_at dksX0_hasRing_2 3 rfl rfl)
theorem dX0_hasRing_52 : decode cX0_hasRing 52 = .ok (.iconst 2, 1) := dk_5 (dk_at dksX0_hasRing_2 6 rfl rfl)
theorem dX0_hasRing_53 : decode cX0_hasRing 53 = .ok (.istore_n 1, 1) := dk_60 (dk_at dksX0_hasRing_2 7 rfl rfl)
theorem dX0_hasRing_54 : decode cX0_hasRing 54 = .ok (.iload_n 1, 1) := dk_27 (dk_at dksX0_hasRing_2 8 rfl rfl)
theorem dX0_hasRing_55 : decode cX0_hasRing 55 = .ok (.aload_n 0, 1) := dk_42 (dk_at dksX0_hasRing_2 9 rfl rfl)
theorem dX0_hasRing_56 : decode cX0_hasRing 56 = .ok (.getfield 11, 3) := dk_180 0 11 (dk_at dksX0_hasRing_2 10 rfl rfl)
theorem dX0_hasRing_59 : decode cX0_hasRing 59 = .ok (.if_icmp .gt 64, 3) := dk_163 0 64 (dk_at dksX0_hasRing_2 13 rfl rfl)
theorem dX0_hasRing_62 : decode cX0_hasRing 62 = .ok (.iconst 0, 1) := dk_3 (dk_at dksX0_hasRing_2 16 rfl rfl)
theorem dX0_hasRing_63 : decode cX0_hasRing 63 = .ok (.istore_n 2, 1) := dk_61 (dk_at dksX0_hasRing_2 17 rfl rfl)
theorem dX0_hasRing_64 : decode cX0_hasRing 64 = .ok (.iload_n 2, 1) := dk_28 (dk_at dksX0_hasRing_2 18 rfl rfl)
theorem dX0_hasRing_65 : decode cX0_hasRing 65 = .ok (.aload_n 0, 1) := dk_42 (dk_at dksX0_hasRing_2 19 rfl rfl)
theorem dX0_hasRing_66 : decode cX0_hasRing 66 = .ok (.getfield 11, 3) := dk_180 0 11 (dk_at dksX0_hasRing_2 20 rfl rfl)
theorem dX0_hasRing_69 : decode cX0_hasRing 69 = .ok (.if_icmp .ge 48, 3) := dk_162 0 48 (dk_at dksX0_hasRing_3 0 rfl rfl)
theorem dX0_hasRing_72 : decode cX0_hasRing 72 = .ok (.aload_n 0, 1) := dk_42 (dk_at dksX0_hasRing_3 3 rfl rfl)
theorem dX0_hasRing_73 : decode cX0_hasRing 73 = .ok (.getfield 82, 3) := dk_180 0 82 (dk_at dksX0_hasRing_3 4 rfl rfl)
theorem dX0_hasRing_76 : decode cX0_hasRing 76 = .ok (.iconst 0, 1) := dk_3 (dk_at dksX0_hasRing_3 7 rfl rfl)
theorem dX0_hasRing_77 : decode cX0_hasRing 77 = .ok (.iload_n 2, 1) := dk_28 (dk_at dksX0_hasRing_3 8 rfl rfl)
theorem dX0_hasRing_78 : decode cX0_hasRing 78 = .ok (.iastore, 1) := dk_79 (dk_at dksX0_hasRing_3 9 rfl rfl)
theorem dX0_hasRing_79 : decode cX0_hasRing 79 = .ok (.aload_n 0, 1) := dk_42 (dk_at dksX0_hasRing_3 10 rfl rfl)
theorem dX0_hasRing_80 : decode cX0_hasRing 80 = .ok (.getfield 88, 3) := dk_180 0 88 (dk_at dksX0_hasRing_3 11 rfl rfl)
theorem dX0_hasRing_83 : decode cX0_hasRing 83 = .ok (.invokevirtual 538, 3) := dk_182 2 26 (dk_at dksX0_hasRing_3 14 rfl rfl)
theorem dX0_hasRing_86 : decode cX0_hasRing 86 = .ok (.aload_n 0, 1) := dk_42 (dk_at dksX0_hasRing_3 17 rfl rfl)
theorem dX0_hasRing_87 : decode cX0_hasRing 87 = .ok (.getfield 88, 3) := dk_180 0 88 (dk_at dksX0_hasRing_3 18 rfl rfl)
theorem dX0_hasRing_90 : decode cX0_hasRing 90 = .ok (.iload_n 2, 1) := dk_28 (dk_at dksX0_hasRing_3 21 rfl rfl)
theorem dX0_hasRing_91 : decode cX0_hasRing 91 = .ok (.invokevirtual 530, 3) := dk_182 2 18 (dk_at dksX0_hasRing_4 0 rfl rfl)
theorem dX0_hasRing_94 : decode cX0_hasRing 94 = .ok (.aload_n 0, 1) := dk_42 (dk_at dksX0_hasRing_4 3 rfl rfl)
theorem dX0_hasRing_95 : decode cX0_hasRing 95 = .ok (.iload_n 1, 1) := dk_27 (dk_at dksX0_hasRing_4 4 rfl rfl)
theorem dX0_hasRing_96 : decode cX0_hasRing 96 = .ok (.iconst 1, 1) := dk_4 (dk_at dksX0_hasRing_4 5 rfl rfl)
theorem dX0_hasRing_97 : decode cX0_hasRing 97 = .ok (.lconst 0, 1) := dk_9 (dk_at dksX0_hasRing_4 6 rfl rfl)
theorem dX0_hasRing_98 : decode cX0_hasRing 98 = .ok (.invokevirtual 533, 3) := dk_182 2 21 (dk_at dksX0_hasRing_4 7 rfl rfl)
theorem dX0_hasRing_101 : decode cX0_hasRing 101 = .ok (.ifCond .eq 10, 3) := dk_153 0 10 (dk_at dksX0_hasRing_4 10 rfl rfl)
theorem dX0_hasRing_104 : decode cX0_hasRing 104 = .ok (.aload_n 0, 1) := dk_42 (dk_at dksX0_hasRing_4 13 rfl rfl)
theorem dX0_hasRing_105 : decode cX0_hasRing 105 = .ok (.iload_n 1, 1) := dk_27 (dk_at dksX0_hasRing_4 14 rfl rfl)
theorem dX0_hasRing_106 : decode cX0_hasRing 106 = .ok (.putfield 539, 3) := dk_181 2 27 (dk_at dksX0_hasRing_4 15 rfl rfl)
theorem dX0_hasRing_109 : decode cX0_hasRing 109 = .ok (.iconst 1, 1) := dk_4 (dk_at dksX0_hasRing_4 18 rfl rfl)
theorem dX0_hasRing_110 : decode cX0_hasRing 110 = .ok (.ireturn, 1) := dk_172 (dk_at dksX0_hasRing_4 19 rfl rfl)
theorem dX0_hasRing_111 : decode cX0_hasRing 111 = .ok (.iinc 2 1, 3) := dk_132 2 1 (dk_at dksX0_hasRing_4 20 rfl rfl)
theorem dX0_hasRing_114 : decode cX0_hasRing 114 = .ok (.goto (-50), 3) := dk_167 255 206 (dk_at dksX0_hasRing_5 0 rfl rfl)
theorem dX0_hasRing_117 : decode cX0_hasRing 117 = .ok (.iinc 1 1, 3) := dk_132 1 1 (dk_at dksX0_hasRing_5 3 rfl rfl)
theorem dX0_hasRing_120 : decode cX0_hasRing 120 = .ok (.goto (-66), 3) := dk_167 255 190 (dk_at dksX0_hasRing_5 6 rfl rfl)
theorem dX0_hasRing_123 : decode cX0_hasRing 123 = .ok (.aload_n 0, 1) := dk_42 (dk_at dksX0_hasRing_5 9 rfl rfl)
theorem dX0_hasRing_124 : decode cX0_hasRing 124 = .ok (.iconst 0, 1) := dk_3 (dk_at dksX0_hasRing_5 10 rfl rfl)
theorem dX0_hasRing_125 : decode cX0_hasRing 125 = .ok (.putfield 539, 3) := dk_181 2 27 (dk_at dksX0_hasRing_5 11 rfl rfl)
theorem dX0_hasRing_128 : decode cX0_hasRing 128 = .ok (.iconst 0, 1) := dk_3 (dk_at dksX0_hasRing_5 14 rfl rfl)
theorem dX0_hasRing_129 : decode cX0_hasRing 129 = .ok (.ireturn, 1) := dk_172 (dk_at dksX0_hasRing_5 15 rfl rfl)
abbrev cX0_isRing : ByteArray := prog_1_method_59_code
def yX0_isRing : MethodName := ⟨RX0, "isRing", "(IIJ)Z"⟩
def dkwX0_isRing_7 : List UInt8 := [42, 180, 0, 88, 21, 6, 182, 2, 24, 21, 8, 153, 0, 5, 4, 172, 132, 6, 1, 167, 255, 158, 3, 172]
abbrev dktX0_isRing_7 : List UInt8 := dkwX0_isRing_7 ++ []
def dkwX0_isRing_6 : List UInt8 := [182, 2, 18, 42, 27, 28, 4, 96, 33, 42, 180, 0, 76, 21, 7, 182, 2, 12, 97, 182, 2, 21, 54, 8]
abbrev dktX0_isRing_6 : List UInt8 := dkwX0_isRing_6 ++ dktX0_isRing_7
def dkwX0_isRing_5 : List UInt8 := [21, 6, 182, 1, 122, 154, 0, 57, 42, 180, 0, 82, 28, 21, 6, 79, 42, 180, 0, 88, 21, 6]
abbrev dktX0_isRing_5 : List UInt8 := dkwX0_isRing_5 ++ dktX0_isRing_6
def dkwX0_isRing_4 : List UInt8 := [42, 180, 0, 79, 16, 8, 21, 5, 104, 21, 6, 96, 46, 54, 7, 21, 7, 155, 0, 69, 42, 180, 0, 88]
abbrev dktX0_isRing_4 : List UInt8 := dkwX0_isRing_4 ++ dktX0_isRing_5
def dkwX0_isRing_3 : List UInt8 := [167, 0, 4, 3, 172, 42, 180, 0, 82, 3, 46, 4, 96, 54, 6, 21, 6, 42, 180, 0, 11, 162, 0, 95]
abbrev dktX0_isRing_3 : List UInt8 := dkwX0_isRing_3 ++ dktX0_isRing_4
def dkwX0_isRing_2 : List UInt8 := [180, 0, 76, 21, 6, 182, 2, 12, 97, 181, 2, 15, 42, 180, 2, 15, 9, 148, 156, 0, 7, 4]
abbrev dktX0_isRing_2 : List UInt8 := dkwX0_isRing_2 ++ dktX0_isRing_3
def dkwX0_isRing_1 : List UInt8 := [42, 180, 0, 82, 3, 46, 96, 46, 54, 6, 42, 21, 6, 156, 0, 7, 9, 167, 0, 14, 33, 42]
abbrev dktX0_isRing_1 : List UInt8 := dkwX0_isRing_1 ++ dktX0_isRing_2
def dkwX0_isRing_0 : List UInt8 := [42, 180, 0, 82, 28, 4, 100, 46, 54, 5, 28, 27, 160, 0, 61, 42, 180, 0, 79, 16, 8, 21, 5, 104]
abbrev dktX0_isRing_0 : List UInt8 := dkwX0_isRing_0 ++ dktX0_isRing_1
theorem dksX0_isRing_0 : cX0_isRing.data.toList.drop 0 = dktX0_isRing_0 := by decide +kernel
theorem dksX0_isRing_1 : cX0_isRing.data.toList.drop 24 = dktX0_isRing_1 := dk_seg dksX0_isRing_0 24 rfl rfl
theorem dksX0_isRing_2 : cX0_isRing.data.toList.drop 46 = dktX0_isRing_2 := dk_seg dksX0_isRing_1 22 rfl rfl
theorem dksX0_isRing_3 : cX0_isRing.data.toList.drop 68 = dktX0_isRing_3 := dk_seg dksX0_isRing_2 22 rfl rfl
theorem dksX0_isRing_4 : cX0_isRing.data.toList.drop 92 = dktX0_isRing_4 := dk_seg dksX0_isRing_3 24 rfl rfl
theorem dksX0_isRing_5 : cX0_isRing.data.toList.drop 116 = dktX0_isRing_5 := dk_seg dksX0_isRing_4 24 rfl rfl
theorem dksX0_isRing_6 : cX0_isRing.data.toList.drop 138 = dktX0_isRing_6 := dk_seg dksX0_isRing_5 22 rfl rfl
theorem dksX0_isRing_7 : cX0_isRing.data.toList.drop 162 = dktX0_isRing_7 := dk_seg dksX0_isRing_6 24 rfl rfl
theorem dX0_isRing_0 : decode cX0_isRing 0 = .ok (.aload_n 0, 1) := dk_42 (dk_at dksX0_isRing_0 0 rfl rfl)
theorem dX0_isRing_1 : decode cX0_isRing 1 = .ok (.getfield 82, 3) := dk_180 0 82 (dk_at dksX0_isRing_0 1 rfl rfl)
theorem dX0_isRing_4 : decode cX0_isRing 4 = .ok (.iload_n 2, 1) := dk_28 (dk_at dksX0_isRing_0 4 rfl rfl)
theorem dX0_isRing_5 : decode cX0_isRing 5 = .ok (.iconst 1, 1) := dk_4 (dk_at dksX0_isRing_0 5 rfl rfl)
theorem dX0_isRing_6 : decode cX0_isRing 6 = .ok (.isub, 1) := dk_100 (dk_at dksX0_isRing_0 6 rfl rfl)
theorem dX0_isRing_7 : decode cX0_isRing 7 = .ok (.iaload, 1) := dk_46 (dk_at dksX0_isRing_0 7 rfl rfl)
theorem dX0_isRing_8 : decode cX0_isRing 8 = .ok (.istore 5, 2) := dk_54 5 (dk_at dksX0_isRing_0 8 rfl rfl)
theorem dX0_isRing_10 : decode cX0_isRing 10 = .ok (.iload_n 2, 1) := dk_28 (dk_at dksX0_isRing_0 10 rfl rfl)
theorem dX0_isRing_11 : decode cX0_isRing 11 = .ok (.iload_n 1, 1) := dk_27 (dk_at dksX0_isRing_0 11 rfl rfl)
theorem dX0_isRing_12 : decode cX0_isRing 12 = .ok (.if_icmp .ne 61, 3) := dk_160 0 61 (dk_at dksX0_isRing_0 12 rfl rfl)
theorem dX0_isRing_15 : decode cX0_isRing 15 = .ok (.aload_n 0, 1) := dk_42 (dk_at dksX0_isRing_0 15 rfl rfl)
theorem dX0_isRing_16 : decode cX0_isRing 16 = .ok (.getfield 79, 3) := dk_180 0 79 (dk_at dksX0_isRing_0 16 rfl rfl)
theorem dX0_isRing_19 : decode cX0_isRing 19 = .ok (.bipush 8, 2) := dk_16 8 (dk_at dksX0_isRing_0 19 rfl rfl)
theorem dX0_isRing_21 : decode cX0_isRing 21 = .ok (.iload 5, 2) := dk_21 5 (dk_at dksX0_isRing_0 21 rfl rfl)
theorem dX0_isRing_23 : decode cX0_isRing 23 = .ok (.imul, 1) := dk_104 (dk_at dksX0_isRing_0 23 rfl rfl)
theorem dX0_isRing_24 : decode cX0_isRing 24 = .ok (.aload_n 0, 1) := dk_42 (dk_at dksX0_isRing_1 0 rfl rfl)
theorem dX0_isRing_25 : decode cX0_isRing 25 = .ok (.getfield 82, 3) := dk_180 0 82 (dk_at dksX0_isRing_1 1 rfl rfl)
theorem dX0_isRing_28 : decode cX0_isRing 28 = .ok (.iconst 0, 1) := dk_3 (dk_at dksX0_isRing_1 4 rfl rfl)
theorem dX0_isRing_29 : decode cX0_isRing 29 = .ok (.iaload, 1) := dk_46 (dk_at dksX0_isRing_1 5 rfl rfl)
theorem dX0_isRing_30 : decode cX0_isRing 30 = .ok (.iadd, 1) := dk_96 (dk_at dksX0_isRing_1 6 rfl rfl)
theorem dX0_isRing_31 : decode cX0_isRing 31 = .ok (.iaload, 1) := dk_46 (dk_at dksX0_isRing_1 7 rfl rfl)
theorem dX0_isRing_32 : decode cX0_isRing 32 = .ok (.istore 6, 2) := dk_54 6 (dk_at dksX0_isRing_1 8 rfl rfl)
theorem dX0_isRing_34 : decode cX0_isRing 34 = .ok (.aload_n 0, 1) := dk_42 (dk_at dksX0_isRing_1 10 rfl rfl)
theorem dX0_isRing_35 : decode cX0_isRing 35 = .ok (.iload 6, 2) := dk_21 6 (dk_at dksX0_isRing_1 11 rfl rfl)
theorem dX0_isRing_37 : decode cX0_isRing 37 = .ok (.ifCond .ge 7, 3) := dk_156 0 7 (dk_at dksX0_isRing_1 13 rfl rfl)
theorem dX0_isRing_40 : decode cX0_isRing 40 = .ok (.lconst 0, 1) := dk_9 (dk_at dksX0_isRing_1 16 rfl rfl)
theorem dX0_isRing_41 : decode cX0_isRing 41 = .ok (.goto 14, 3) := dk_167 0 14 (dk_at dksX0_isRing_1 17 rfl rfl)
theorem dX0_isRing_44 : decode cX0_isRing 44 = .ok (.lload_n 3, 1) := dk_33 (dk_at dksX0_isRing_1 20 rfl rfl)
theorem dX0_isRing_45 : decode cX0_isRing 45 = .ok (.aload_n 0, 1) := dk_42 (dk_at dksX0_isRing_1 21 rfl rfl)
theorem dX0_isRing_46 : decode cX0_isRing 46 = .ok (.getfield 76, 3) := dk_180 0 76 (dk_at dksX0_isRing_2 0 rfl rfl)
theorem dX0_isRing_49 : decode cX0_isRing 49 = .ok (.iload 6, 2) := dk_21 6 (dk_at dksX0_isRing_2 3 rfl rfl)
theorem dX0_isRing_51 : decode cX0_isRing 51 = .ok (.invokevirtual 524, 3) := dk_182 2 12 (dk_at dksX0_isRing_2 5 rfl rfl)
theorem dX0_isRing_54 : decode cX0_isRing 54 = .ok (.ladd, 1) := dk_97 (dk_at dksX0_isRing_2 8 rfl rfl)
theorem dX0_isRing_55 : decode cX0_isRing 55 = .ok (.putfield 527, 3) := dk_181 2 15 (dk_at dksX0_isRing_2 9 rfl rfl)
theorem dX0_isRing_58 : decode cX0_isRing 58 = .ok (.aload_n 0, 1) := dk_42 (dk_at dksX0_isRing_2 12 rfl rfl)
theorem dX0_isRing_59 : decode cX0_isRing 59 = .ok (.getfield 527, 3) := dk_180 2 15 (dk_at dksX0_isRing_2 13 rfl rfl)
theorem dX0_isRing_62 : decode cX0_isRing 62 = .ok (.lconst 0, 1) := dk_9 (dk_at dksX0_isRing_2 16 rfl rfl)
theorem dX0_isRing_63 : decode cX0_isRing 63 = .ok (.lcmp, 1) := dk_148 (dk_at dksX0_isRing_2 17 rfl rfl)
theorem dX0_isRing_64 : decode cX0_isRing 64 = .ok (.ifCond .ge 7, 3) := dk_156 0 7 (dk_at dksX0_isRing_2 18 rfl rfl)
theorem dX0_isRing_67 : decode cX0_isRing 67 = .ok (.iconst 1, 1) := dk_4 (dk_at dksX0_isRing_2 21 rfl rfl)
theorem dX0_isRing_68 : decode cX0_isRing 68 = .ok (.goto 4, 3) := dk_167 0 4 (dk_at dksX0_isRing_3 0 rfl rfl)
theorem dX0_isRing_71 : decode cX0_isRing 71 = .ok (.iconst 0, 1) := dk_3 (dk_at dksX0_isRing_3 3 rfl rfl)
theorem dX0_isRing_72 : decode cX0_isRing 72 = .ok (.ireturn, 1) := dk_172 (dk_at dksX0_isRing_3 4 rfl rfl)
theorem dX0_isRing_73 : decode cX0_isRing 73 = .ok (.aload_n 0, 1) := dk_42 (dk_at dksX0_isRing_3 5 rfl rfl)
theorem dX0_isRing_74 : decode cX0_isRing 74 = .ok (.getfield 82, 3) := dk_180 0 82 (dk_at dksX0_isRing_3 6 rfl rfl)
theorem dX0_isRing_77 : decode cX0_isRing 77 = .ok (.iconst 0, 1) := dk_3 (dk_at dksX0_isRing_3 9 rfl rfl)
theorem dX0_isRing_78 : decode cX0_isRing 78 = .ok (.iaload, 1) := dk_46 (dk_at dksX0_isRing_3 10 rfl rfl)
theorem dX0_isRing_79 : decode cX0_isRing 79 = .ok (.iconst 1, 1) := dk_4 (dk_at dksX0_isRing_3 11 rfl rfl)
theorem dX0_isRing_80 : decode cX0_isRing 80 = .ok (.iadd, 1) := dk_96 (dk_at dksX0_isRing_3 12 rfl rfl)
theorem dX0_isRing_81 : decode cX0_isRing 81 = .ok (.istore 6, 2) := dk_54 6 (dk_at dksX0_isRing_3 13 rfl rfl)
theorem dX0_isRing_83 : decode cX0_isRing 83 = .ok (.iload 6, 2) := dk_21 6 (dk_at dksX0_isRing_3 15 rfl rfl)
theorem dX0_isRing_85 : decode cX0_isRing 85 = .ok (.aload_n 0, 1) := dk_42 (dk_at dksX0_isRing_3 17 rfl rfl)
theorem dX0_isRing_86 : decode cX0_isRing 86 = .ok (.getfield 11, 3) := dk_180 0 11 (dk_at dksX0_isRing_3 18 rfl rfl)
theorem dX0_isRing_89 : decode cX0_isRing 89 = .ok (.if_icmp .ge 95, 3) := dk_162 0 95 (dk_at dksX0_isRing_3 21 rfl rfl)
theorem dX0_isRing_92 : decode cX0_isRing 92 = .ok (.aload_n 0, 1) := dk_42 (dk_at dksX0_isRing_4 0 rfl rfl)
theorem dX0_isRing_93 : decode cX0_isRing 93 = .ok (.getfield 79, 3) := dk_180 0 79 (dk_at dksX0_isRing_4 1 rfl rfl)
theorem dX0_isRing_96 : decode cX0_isRing 96 = .ok (.bipush 8, 2) := dk_16 8 (dk_at dksX0_isRing_4 4 rfl rfl)
theorem dX0_isRing_98 : decode cX0_isRing 98 = .ok (.iload 5, 2) := dk_21 5 (dk_at dksX0_isRing_4 6 rfl rfl)
theorem dX0_isRing_100 : decode cX0_isRing 100 = .ok (.imul, 1) := dk_104 (dk_at dksX0_isRing_4 8 rfl rfl)
theorem dX0_isRing_101 : decode cX0_isRing 101 = .ok (.iload 6, 2) := dk_21 6 (dk_at dksX0_isRing_4 9 rfl rfl)
theorem dX0_isRing_103 : decode cX0_isRing 103 = .ok (.iadd, 1) := dk_96 (dk_at dksX0_isRing_4 11 rfl rfl)
theorem dX0_isRing_104 : decode cX0_isRing 104 = .ok (.iaload, 1) := dk_46 (dk_at dksX0_isRing_4 12 rfl rfl)
theorem dX0_isRing_105 : decode cX0_isRing 105 = .ok (.istore 7, 2) := dk_54 7 (dk_at dksX0_isRing_4 13 rfl rfl)
theorem dX0_isRing_107 : decode cX0_isRing 107 = .ok (.iload 7, 2) := dk_21 7 (dk_at dksX0_isRing_4 15 rfl rfl)
theorem dX0_isRing_109 : decode cX0_isRing 109 = .ok (.ifCond .lt 69, 3) := dk_155 0 69 (dk_at dksX0_isRing_4 17 rfl rfl)
theorem dX0_isRing_112 : decode cX0_isRing 112 = .ok (.aload_n 0, 1) := dk_42 (dk_at dksX0_isRing_4 20 rfl rfl)
theorem dX0_isRing_113 : decode cX0_isRing 113 = .ok (.getfield 88, 3) := dk_180 0 88 (dk_at dksX0_isRing_4 21 rfl rfl)
theorem dX0_isRing_116 : decode cX0_isRing 116 = .ok (.iload 6, 2) := dk_21 6 (dk_at dksX0_isRing_5 0 rfl rfl)
theorem dX0_isRing_118 : decode cX0_isRing 118 = .ok (.invokevirtual 378, 3) := dk_182 1 122 (dk_at dksX0_isRing_5 2 rfl rfl)
theorem dX0_isRing_121 : decode cX0_isRing 121 = .ok (.ifCond .ne 57, 3) := dk_154 0 57 (dk_at dksX0_isRing_5 5 rfl rfl)
theorem dX0_isRing_124 : decode cX0_isRing 124 = .ok (.aload_n 0, 1) := dk_42 (dk_at dksX0_isRing_5 8 rfl rfl)
theorem dX0_isRing_125 : decode cX0_isRing 125 = .ok (.getfield 82, 3) := dk_180 0 82 (dk_at dksX0_isRing_5 9 rfl rfl)
theorem dX0_isRing_128 : decode cX0_isRing 128 = .ok (.iload_n 2, 1) := dk_28 (dk_at dksX0_isRing_5 12 rfl rfl)
theorem dX0_isRing_129 : decode cX0_isRing 129 = .ok (.iload 6, 2) := dk_21 6 (dk_at dksX0_isRing_5 13 rfl rfl)
theorem dX0_isRing_131 : decode cX0_isRing 131 = .ok (.iastore, 1) := dk_79 (dk_at dksX0_isRing_5 15 rfl rfl)
theorem dX0_isRing_132 : decode cX0_isRing 132 = .ok (.aload_n 0, 1) := dk_42 (dk_at dksX0_isRing_5 16 rfl rfl)
theorem dX0_isRing_133 : decode cX0_isRing 133 = .ok (.getfield 88, 3) := dk_180 0 88 (dk_at dksX0_isRing_5 17 rfl rfl)
theorem dX0_isRing_136 : decode cX0_isRing 136 = .ok (.iload 6, 2) := dk_21 6 (dk_at dksX0_isRing_5 20 rfl rfl)
theorem dX0_isRing_138 : decode cX0_isRing 138 = .ok (.invokevirtual 530, 3) := dk_182 2 18 (dk_at dksX0_isRing_6 0 rfl rfl)
theorem dX0_isRing_141 : decode cX0_isRing 141 = .ok (.aload_n 0, 1) := dk_42 (dk_at dksX0_isRing_6 3 rfl rfl)
theorem dX0_isRing_142 : decode cX0_isRing 142 = .ok (.iload_n 1, 1) := dk_27 (dk_at dksX0_isRing_6 4 rfl rfl)
theorem dX0_isRing_143 : decode cX0_isRing 143 = .ok (.iload_n 2, 1) := dk_28 (dk_at dksX0_isRing_6 5 rfl rfl)
theorem dX0_isRing_144 : decode cX0_isRing 144 = .ok (.iconst 1, 1) := dk_4 (dk_at dksX0_isRing_6 6 rfl rfl)
theorem dX0_isRing_145 : decode cX0_isRing 145 = .ok (.iadd, 1) := dk_96 (dk_at dksX0_isRing_6 7 rfl rfl)
theorem dX0_isRing_146 : decode cX0_isRing 146 = .ok (.lload_n 3, 1) := dk_33 (dk_at dksX0_isRing_6 8 rfl rfl)
theorem dX0_isRing_147 : decode cX0_isRing 147 = .ok (.aload_n 0, 1) := dk_42 (dk_at dksX0_isRing_6 9 rfl rfl)
theorem dX0_isRing_148 : decode cX0_isRing 148 = .ok (.getfield 76, 3) := dk_180 0 76 (dk_at dksX0_isRing_6 10 rfl rfl)
theorem dX0_isRing_151 : decode cX0_isRing 151 = .ok (.iload 7, 2) := dk_21 7 (dk_at dksX0_isRing_6 13 rfl rfl)
theorem dX0_isRing_153 : decode cX0_isRing 153 = .ok (.invokevirtual 524, 3) := dk_182 2 12 (dk_at dksX0_isRing_6 15 rfl rfl)
theorem dX0_isRing_156 : decode cX0_isRing 156 = .ok (.ladd, 1) := dk_97 (dk_at dksX0_isRing_6 18 rfl rfl)
theorem dX0_isRing_157 : decode cX0_isRing 157 = .ok (.invokevirtual 533, 3) := dk_182 2 21 (dk_at dksX0_isRing_6 19 rfl rfl)
theorem dX0_isRing_160 : decode cX0_isRing 160 = .ok (.istore 8, 2) := dk_54 8 (dk_at dksX0_isRing_6 22 rfl rfl)
theorem dX0_isRing_162 : decode cX0_isRing 162 = .ok (.aload_n 0, 1) := dk_42 (dk_at dksX0_isRing_7 0 rfl rfl)
theorem dX0_isRing_163 : decode cX0_isRing 163 = .ok (.getfield 88, 3) := dk_180 0 88 (dk_at dksX0_isRing_7 1 rfl rfl)
theorem dX0_isRing_166 : decode cX0_isRing 166 = .ok (.iload 6, 2) := dk_21 6 (dk_at dksX0_isRing_7 4 rfl rfl)
theorem dX0_isRing_168 : decode cX0_isRing 168 = .ok (.invokevirtual 536, 3) := dk_182 2 24 (dk_at dksX0_isRing_7 6 rfl rfl)
theorem dX0_isRing_171 : decode cX0_isRing 171 = .ok (.iload 8, 2) := dk_21 8 (dk_at dksX0_isRing_7 9 rfl rfl)
theorem dX0_isRing_173 : decode cX0_isRing 173 = .ok (.ifCond .eq 5, 3) := dk_153 0 5 (dk_at dksX0_isRing_7 11 rfl rfl)
theorem dX0_isRing_176 : decode cX0_isRing 176 = .ok (.iconst 1, 1) := dk_4 (dk_at dksX0_isRing_7 14 rfl rfl)
theorem dX0_isRing_177 : decode cX0_isRing 177 = .ok (.ireturn, 1) := dk_172 (dk_at dksX0_isRing_7 15 rfl rfl)
theorem dX0_isRing_178 : decode cX0_isRing 178 = .ok (.iinc 6 1, 3) := dk_132 6 1 (dk_at dksX0_isRing_7 16 rfl rfl)
theorem dX0_isRing_181 : decode cX0_isRing 181 = .ok (.goto (-98), 3) := dk_167 255 158 (dk_at dksX0_isRing_7 19 rfl rfl)
theorem dX0_isRing_184 : decode cX0_isRing 184 = .ok (.iconst 0, 1) := dk_3 (dk_at dksX0_isRing_7 22 rfl rfl)
theorem dX0_isRing_185 : decode cX0_isRing 185 = .ok (.ireturn, 1) := dk_172 (dk_at dksX0_isRing_7 23 rfl rfl)
abbrev cX0_ring : ByteArray := prog_1_method_64_code
def yX0_ring : MethodName := ⟨RX0, "ring", "(III)I"⟩
def dkwX0_ring_3 : List UInt8 := [29, 42, 180, 2, 27, 163, 0, 14, 42, 180, 0, 82, 29, 4, 100, 46, 167, 0, 5, 16, 251, 172]
abbrev dktX0_ring_3 : List UInt8 := dkwX0_ring_3 ++ []
def dkwX0_ring_2 : List UInt8 := [16, 253, 172, 42, 182, 2, 49, 154, 0, 6, 16, 251, 172, 29, 154, 0, 10, 42, 180, 2, 27, 167, 0, 24]
abbrev dktX0_ring_2 : List UInt8 := dkwX0_ring_2 ++ dktX0_ring_3
def dkwX0_ring_1 : List UInt8 := [27, 28, 182, 2, 43, 54, 4, 21, 4, 153, 0, 6, 21, 4, 172, 42, 27, 28, 182, 2, 46, 154, 0, 6]
abbrev dktX0_ring_1 : List UInt8 := dkwX0_ring_1 ++ dktX0_ring_2
def dkwX0_ring_0 : List UInt8 := [27, 184, 2, 2, 153, 0, 19, 29, 133, 9, 20, 1, 8, 184, 0, 132, 154, 0, 7, 2, 167, 0, 9, 42]
abbrev dktX0_ring_0 : List UInt8 := dkwX0_ring_0 ++ dktX0_ring_1
theorem dksX0_ring_0 : cX0_ring.data.toList.drop 0 = dktX0_ring_0 := by decide +kernel
theorem dksX0_ring_1 : cX0_ring.data.toList.drop 24 = dktX0_ring_1 := dk_seg dksX0_ring_0 24 rfl rfl
theorem dksX0_ring_2 : cX0_ring.data.toList.drop 48 = dktX0_ring_2 := dk_seg dksX0_ring_1 24 rfl rfl
theorem dksX0_ring_3 : cX0_ring.data.toList.drop 72 = dktX0_ring_3 := dk_seg dksX0_ring_2 24 rfl rfl
theorem dX0_ring_0 : decode cX0_ring 0 = .ok (.iload_n 1, 1) := dk_27 (dk_at dksX0_ring_0 0 rfl rfl)
theorem dX0_ring_1 : decode cX0_ring 1 = .ok (.invokestatic 514, 3) := dk_184 2 2 (dk_at dksX0_ring_0 1 rfl rfl)
theorem dX0_ring_4 : decode cX0_ring 4 = .ok (.ifCond .eq 19, 3) := dk_153 0 19 (dk_at dksX0_ring_0 4 rfl rfl)
theorem dX0_ring_7 : decode cX0_ring 7 = .ok (.iload_n 3, 1) := dk_29 (dk_at dksX0_ring_0 7 rfl rfl)
theorem dX0_ring_8 : decode cX0_ring 8 = .ok (.i2l, 1) := dk_133 (dk_at dksX0_ring_0 8 rfl rfl)
theorem dX0_ring_9 : decode cX0_ring 9 = .ok (.lconst 0, 1) := dk_9 (dk_at dksX0_ring_0 9 rfl rfl)
theorem dX0_ring_10 : decode cX0_ring 10 = .ok (.ldc2_w 264, 3) := dk_20 1 8 (dk_at dksX0_ring_0 10 rfl rfl)
theorem dX0_ring_13 : decode cX0_ring 13 = .ok (.invokestatic 132, 3) := dk_184 0 132 (dk_at dksX0_ring_0 13 rfl rfl)
theorem dX0_ring_16 : decode cX0_ring 16 = .ok (.ifCond .ne 7, 3) := dk_154 0 7 (dk_at dksX0_ring_0 16 rfl rfl)
theorem dX0_ring_19 : decode cX0_ring 19 = .ok (.iconst (-1), 1) := dk_2 (dk_at dksX0_ring_0 19 rfl rfl)
theorem dX0_ring_20 : decode cX0_ring 20 = .ok (.goto 9, 3) := dk_167 0 9 (dk_at dksX0_ring_0 20 rfl rfl)
theorem dX0_ring_23 : decode cX0_ring 23 = .ok (.aload_n 0, 1) := dk_42 (dk_at dksX0_ring_0 23 rfl rfl)
theorem dX0_ring_24 : decode cX0_ring 24 = .ok (.iload_n 1, 1) := dk_27 (dk_at dksX0_ring_1 0 rfl rfl)
theorem dX0_ring_25 : decode cX0_ring 25 = .ok (.iload_n 2, 1) := dk_28 (dk_at dksX0_ring_1 1 rfl rfl)
theorem dX0_ring_26 : decode cX0_ring 26 = .ok (.invokevirtual 555, 3) := dk_182 2 43 (dk_at dksX0_ring_1 2 rfl rfl)
theorem dX0_ring_29 : decode cX0_ring 29 = .ok (.istore 4, 2) := dk_54 4 (dk_at dksX0_ring_1 5 rfl rfl)
theorem dX0_ring_31 : decode cX0_ring 31 = .ok (.iload 4, 2) := dk_21 4 (dk_at dksX0_ring_1 7 rfl rfl)
theorem dX0_ring_33 : decode cX0_ring 33 = .ok (.ifCond .eq 6, 3) := dk_153 0 6 (dk_at dksX0_ring_1 9 rfl rfl)
theorem dX0_ring_36 : decode cX0_ring 36 = .ok (.iload 4, 2) := dk_21 4 (dk_at dksX0_ring_1 12 rfl rfl)
theorem dX0_ring_38 : decode cX0_ring 38 = .ok (.ireturn, 1) := dk_172 (dk_at dksX0_ring_1 14 rfl rfl)
theorem dX0_ring_39 : decode cX0_ring 39 = .ok (.aload_n 0, 1) := dk_42 (dk_at dksX0_ring_1 15 rfl rfl)
theorem dX0_ring_40 : decode cX0_ring 40 = .ok (.iload_n 1, 1) := dk_27 (dk_at dksX0_ring_1 16 rfl rfl)
theorem dX0_ring_41 : decode cX0_ring 41 = .ok (.iload_n 2, 1) := dk_28 (dk_at dksX0_ring_1 17 rfl rfl)
theorem dX0_ring_42 : decode cX0_ring 42 = .ok (.invokevirtual 558, 3) := dk_182 2 46 (dk_at dksX0_ring_1 18 rfl rfl)
theorem dX0_ring_45 : decode cX0_ring 45 = .ok (.ifCond .ne 6, 3) := dk_154 0 6 (dk_at dksX0_ring_1 21 rfl rfl)
theorem dX0_ring_48 : decode cX0_ring 48 = .ok (.bipush (-3), 2) := dk_16 253 (dk_at dksX0_ring_2 0 rfl rfl)
theorem dX0_ring_50 : decode cX0_ring 50 = .ok (.ireturn, 1) := dk_172 (dk_at dksX0_ring_2 2 rfl rfl)
theorem dX0_ring_51 : decode cX0_ring 51 = .ok (.aload_n 0, 1) := dk_42 (dk_at dksX0_ring_2 3 rfl rfl)
theorem dX0_ring_52 : decode cX0_ring 52 = .ok (.invokevirtual 561, 3) := dk_182 2 49 (dk_at dksX0_ring_2 4 rfl rfl)
theorem dX0_ring_55 : decode cX0_ring 55 = .ok (.ifCond .ne 6, 3) := dk_154 0 6 (dk_at dksX0_ring_2 7 rfl rfl)
theorem dX0_ring_58 : decode cX0_ring 58 = .ok (.bipush (-5), 2) := dk_16 251 (dk_at dksX0_ring_2 10 rfl rfl)
theorem dX0_ring_60 : decode cX0_ring 60 = .ok (.ireturn, 1) := dk_172 (dk_at dksX0_ring_2 12 rfl rfl)
theorem dX0_ring_61 : decode cX0_ring 61 = .ok (.iload_n 3, 1) := dk_29 (dk_at dksX0_ring_2 13 rfl rfl)
theorem dX0_ring_62 : decode cX0_ring 62 = .ok (.ifCond .ne 10, 3) := dk_154 0 10 (dk_at dksX0_ring_2 14 rfl rfl)
theorem dX0_ring_65 : decode cX0_ring 65 = .ok (.aload_n 0, 1) := dk_42 (dk_at dksX0_ring_2 17 rfl rfl)
theorem dX0_ring_66 : decode cX0_ring 66 = .ok (.getfield 539, 3) := dk_180 2 27 (dk_at dksX0_ring_2 18 rfl rfl)
theorem dX0_ring_69 : decode cX0_ring 69 = .ok (.goto 24, 3) := dk_167 0 24 (dk_at dksX0_ring_2 21 rfl rfl)
theorem dX0_ring_72 : decode cX0_ring 72 = .ok (.iload_n 3, 1) := dk_29 (dk_at dksX0_ring_3 0 rfl rfl)
theorem dX0_ring_73 : decode cX0_ring 73 = .ok (.aload_n 0, 1) := dk_42 (dk_at dksX0_ring_3 1 rfl rfl)
theorem dX0_ring_74 : decode cX0_ring 74 = .ok (.getfield 539, 3) := dk_180 2 27 (dk_at dksX0_ring_3 2 rfl rfl)
theorem dX0_ring_77 : decode cX0_ring 77 = .ok (.if_icmp .gt 14, 3) := dk_163 0 14 (dk_at dksX0_ring_3 5 rfl rfl)
theorem dX0_ring_80 : decode cX0_ring 80 = .ok (.aload_n 0, 1) := dk_42 (dk_at dksX0_ring_3 8 rfl rfl)
theorem dX0_ring_81 : decode cX0_ring 81 = .ok (.getfield 82, 3) := dk_180 0 82 (dk_at dksX0_ring_3 9 rfl rfl)
theorem dX0_ring_84 : decode cX0_ring 84 = .ok (.iload_n 3, 1) := dk_29 (dk_at dksX0_ring_3 12 rfl rfl)
theorem dX0_ring_85 : decode cX0_ring 85 = .ok (.iconst 1, 1) := dk_4 (dk_at dksX0_ring_3 13 rfl rfl)
theorem dX0_ring_86 : decode cX0_ring 86 = .ok (.isub, 1) := dk_100 (dk_at dksX0_ring_3 14 rfl rfl)
theorem dX0_ring_87 : decode cX0_ring 87 = .ok (.iaload, 1) := dk_46 (dk_at dksX0_ring_3 15 rfl rfl)
theorem dX0_ring_88 : decode cX0_ring 88 = .ok (.goto 5, 3) := dk_167 0 5 (dk_at dksX0_ring_3 16 rfl rfl)
theorem dX0_ring_91 : decode cX0_ring 91 = .ok (.bipush (-5), 2) := dk_16 251 (dk_at dksX0_ring_3 19 rfl rfl)
theorem dX0_ring_93 : decode cX0_ring 93 = .ok (.ireturn, 1) := dk_172 (dk_at dksX0_ring_3 21 rfl rfl)
abbrev cX0_gain : ByteArray := prog_1_method_65_code
def yX0_gain : MethodName := ⟨RX0, "gain", "(II)J"⟩
def dkwX0_gain_1 : List UInt8 := [153, 0, 10, 42, 180, 2, 15, 167, 0, 6, 20, 1, 47, 173]
abbrev dktX0_gain_1 : List UInt8 := dkwX0_gain_1 ++ []
def dkwX0_gain_0 : List UInt8 := [42, 27, 28, 182, 2, 43, 154, 0, 26, 42, 27, 28, 182, 2, 46, 153, 0, 17, 42, 182, 2, 49]
abbrev dktX0_gain_0 : List UInt8 := dkwX0_gain_0 ++ dktX0_gain_1
theorem dksX0_gain_0 : cX0_gain.data.toList.drop 0 = dktX0_gain_0 := by decide +kernel
theorem dksX0_gain_1 : cX0_gain.data.toList.drop 22 = dktX0_gain_1 := dk_seg dksX0_gain_0 22 rfl rfl
theorem dX0_gain_0 : decode cX0_gain 0 = .ok (.aload_n 0, 1) := dk_42 (dk_at dksX0_gain_0 0 rfl rfl)
theorem dX0_gain_1 : decode cX0_gain 1 = .ok (.iload_n 1, 1) := dk_27 (dk_at dksX0_gain_0 1 rfl rfl)
theorem dX0_gain_2 : decode cX0_gain 2 = .ok (.iload_n 2, 1) := dk_28 (dk_at dksX0_gain_0 2 rfl rfl)
theorem dX0_gain_3 : decode cX0_gain 3 = .ok (.invokevirtual 555, 3) := dk_182 2 43 (dk_at dksX0_gain_0 3 rfl rfl)
theorem dX0_gain_6 : decode cX0_gain 6 = .ok (.ifCond .ne 26, 3) := dk_154 0 26 (dk_at dksX0_gain_0 6 rfl rfl)
theorem dX0_gain_9 : decode cX0_gain 9 = .ok (.aload_n 0, 1) := dk_42 (dk_at dksX0_gain_0 9 rfl rfl)
theorem dX0_gain_10 : decode cX0_gain 10 = .ok (.iload_n 1, 1) := dk_27 (dk_at dksX0_gain_0 10 rfl rfl)
theorem dX0_gain_11 : decode cX0_gain 11 = .ok (.iload_n 2, 1) := dk_28 (dk_at dksX0_gain_0 11 rfl rfl)
theorem dX0_gain_12 : decode cX0_gain 12 = .ok (.invokevirtual 558, 3) := dk_182 2 46 (dk_at dksX0_gain_0 12 rfl rfl)
theorem dX0_gain_15 : decode cX0_gain 15 = .ok (.ifCond .eq 17, 3) := dk_153 0 17 (dk_at dksX0_gain_0 15 rfl rfl)
theorem dX0_gain_18 : decode cX0_gain 18 = .ok (.aload_n 0, 1) := dk_42 (dk_at dksX0_gain_0 18 rfl rfl)
theorem dX0_gain_19 : decode cX0_gain 19 = .ok (.invokevirtual 561, 3) := dk_182 2 49 (dk_at dksX0_gain_0 19 rfl rfl)
theorem dX0_gain_22 : decode cX0_gain 22 = .ok (.ifCond .eq 10, 3) := dk_153 0 10 (dk_at dksX0_gain_1 0 rfl rfl)
theorem dX0_gain_25 : decode cX0_gain 25 = .ok (.aload_n 0, 1) := dk_42 (dk_at dksX0_gain_1 3 rfl rfl)
theorem dX0_gain_26 : decode cX0_gain 26 = .ok (.getfield 527, 3) := dk_180 2 15 (dk_at dksX0_gain_1 4 rfl rfl)
theorem dX0_gain_29 : decode cX0_gain 29 = .ok (.goto 6, 3) := dk_167 0 6 (dk_at dksX0_gain_1 7 rfl rfl)
theorem dX0_gain_32 : decode cX0_gain 32 = .ok (.ldc2_w 303, 3) := dk_20 1 47 (dk_at dksX0_gain_1 10 rfl rfl)
theorem dX0_gain_35 : decode cX0_gain 35 = .ok (.lreturn, 1) := dk_173 (dk_at dksX0_gain_1 13 rfl rfl)
abbrev cX0_mend : ByteArray := prog_1_method_66_code
def yX0_mend : MethodName := ⟨RX0, "mend", "(II)I"⟩
def dkwX0_mend_4 : List UInt8 := [167, 255, 219, 21, 4, 172]
abbrev dktX0_mend_4 : List UInt8 := dkwX0_mend_4 ++ []
def dkwX0_mend_3 : List UInt8 := [180, 0, 72, 27, 50, 28, 21, 5, 96, 42, 180, 0, 76, 180, 1, 111, 21, 5, 46, 133, 80, 132, 5, 1]
abbrev dktX0_mend_3 : List UInt8 := dkwX0_mend_3 ++ dktX0_mend_4
def dkwX0_mend_2 : List UInt8 := [132, 4, 1, 167, 255, 235, 3, 54, 5, 21, 5, 42, 180, 0, 76, 180, 0, 157, 162, 0, 31, 42]
abbrev dktX0_mend_2 : List UInt8 := dkwX0_mend_2 ++ dktX0_mend_3
def dkwX0_mend_1 : List UInt8 := [172, 3, 54, 4, 21, 4, 16, 100, 162, 0, 20, 42, 182, 2, 49, 153, 0, 13, 42, 182, 2, 52]
abbrev dktX0_mend_1 : List UInt8 := dkwX0_mend_1 ++ dktX0_mend_2
def dkwX0_mend_0 : List UInt8 := [42, 27, 28, 182, 2, 43, 62, 29, 153, 0, 5, 29, 172, 42, 27, 28, 182, 2, 46, 154, 0, 6, 16, 253]
abbrev dktX0_mend_0 : List UInt8 := dkwX0_mend_0 ++ dktX0_mend_1
theorem dksX0_mend_0 : cX0_mend.data.toList.drop 0 = dktX0_mend_0 := by decide +kernel
theorem dksX0_mend_1 : cX0_mend.data.toList.drop 24 = dktX0_mend_1 := dk_seg dksX0_mend_0 24 rfl rfl
theorem dksX0_mend_2 : cX0_mend.data.toList.drop 46 = dktX0_mend_2 := dk_seg dksX0_mend_1 22 rfl rfl
theorem dksX0_mend_3 : cX0_mend.data.toList.drop 68 = dktX0_mend_3 := dk_seg dksX0_mend_2 22 rfl rfl
theorem dksX0_mend_4 : cX0_mend.data.toList.drop 92 = dktX0_mend_4 := dk_seg dksX0_mend_3 24 rfl rfl
theorem dX0_mend_0 : decode cX0_mend 0 = .ok (.aload_n 0, 1) := dk_42 (dk_at dksX0_mend_0 0 rfl rfl)
theorem dX0_mend_1 : decode cX0_mend 1 = .ok (.iload_n 1, 1) := dk_27 (dk_at dksX0_mend_0 1 rfl rfl)
theorem dX0_mend_2 : decode cX0_mend 2 = .ok (.iload_n 2, 1) := dk_28 (dk_at dksX0_mend_0 2 rfl rfl)
theorem dX0_mend_3 : decode cX0_mend 3 = .ok (.invokevirtual 555, 3) := dk_182 2 43 (dk_at dksX0_mend_0 3 rfl rfl)
theorem dX0_mend_6 : decode cX0_mend 6 = .ok (.istore_n 3, 1) := dk_62 (dk_at dksX0_mend_0 6 rfl rfl)
theorem dX0_mend_7 : decode cX0_mend 7 = .ok (.iload_n 3, 1) := dk_29 (dk_at dksX0_mend_0 7 rfl rfl)
theorem dX0_mend_8 : decode cX0_mend 8 = .ok (.ifCond .eq 5, 3) := dk_153 0 5 (dk_at dksX0_mend_0 8 rfl rfl)
theorem dX0_mend_11 : decode cX0_mend 11 = .ok (.iload_n 3, 1) := dk_29 (dk_at dksX0_mend_0 11 rfl rfl)
theorem dX0_mend_12 : decode cX0_mend 12 = .ok (.ireturn, 1) := dk_172 (dk_at dksX0_mend_0 12 rfl rfl)
theorem dX0_mend_13 : decode cX0_mend 13 = .ok (.aload_n 0, 1) := dk_42 (dk_at dksX0_mend_0 13 rfl rfl)
theorem dX0_mend_14 : decode cX0_mend 14 = .ok (.iload_n 1, 1) := dk_27 (dk_at dksX0_mend_0 14 rfl rfl)
theorem dX0_mend_15 : decode cX0_mend 15 = .ok (.iload_n 2, 1) := dk_28 (dk_at dksX0_mend_0 15 rfl rfl)
theorem dX0_mend_16 : decode cX0_mend 16 = .ok (.invokevirtual 558, 3) := dk_182 2 46 (dk_at dksX0_mend_0 16 rfl rfl)
theorem dX0_mend_19 : decode cX0_mend 19 = .ok (.ifCond .ne 6, 3) := dk_154 0 6 (dk_at dksX0_mend_0 19 rfl rfl)
theorem dX0_mend_22 : decode cX0_mend 22 = .ok (.bipush (-3), 2) := dk_16 253 (dk_at dksX0_mend_0 22 rfl rfl)
theorem dX0_mend_24 : decode cX0_mend 24 = .ok (.ireturn, 1) := dk_172 (dk_at dksX0_mend_1 0 rfl rfl)
theorem dX0_mend_25 : decode cX0_mend 25 = .ok (.iconst 0, 1) := dk_3 (dk_at dksX0_mend_1 1 rfl rfl)
theorem dX0_mend_26 : decode cX0_mend 26 = .ok (.istore 4, 2) := dk_54 4 (dk_at dksX0_mend_1 2 rfl rfl)
theorem dX0_mend_28 : decode cX0_mend 28 = .ok (.iload 4, 2) := dk_21 4 (dk_at dksX0_mend_1 4 rfl rfl)
theorem dX0_mend_30 : decode cX0_mend 30 = .ok (.bipush 100, 2) := dk_16 100 (dk_at dksX0_mend_1 6 rfl rfl)
theorem dX0_mend_32 : decode cX0_mend 32 = .ok (.if_icmp .ge 20, 3) := dk_162 0 20 (dk_at dksX0_mend_1 8 rfl rfl)
theorem dX0_mend_35 : decode cX0_mend 35 = .ok (.aload_n 0, 1) := dk_42 (dk_at dksX0_mend_1 11 rfl rfl)
theorem dX0_mend_36 : decode cX0_mend 36 = .ok (.invokevirtual 561, 3) := dk_182 2 49 (dk_at dksX0_mend_1 12 rfl rfl)
theorem dX0_mend_39 : decode cX0_mend 39 = .ok (.ifCond .eq 13, 3) := dk_153 0 13 (dk_at dksX0_mend_1 15 rfl rfl)
theorem dX0_mend_42 : decode cX0_mend 42 = .ok (.aload_n 0, 1) := dk_42 (dk_at dksX0_mend_1 18 rfl rfl)
theorem dX0_mend_43 : decode cX0_mend 43 = .ok (.invokevirtual 564, 3) := dk_182 2 52 (dk_at dksX0_mend_1 19 rfl rfl)
theorem dX0_mend_46 : decode cX0_mend 46 = .ok (.iinc 4 1, 3) := dk_132 4 1 (dk_at dksX0_mend_2 0 rfl rfl)
theorem dX0_mend_49 : decode cX0_mend 49 = .ok (.goto (-21), 3) := dk_167 255 235 (dk_at dksX0_mend_2 3 rfl rfl)
theorem dX0_mend_52 : decode cX0_mend 52 = .ok (.iconst 0, 1) := dk_3 (dk_at dksX0_mend_2 6 rfl rfl)
theorem dX0_mend_53 : decode cX0_mend 53 = .ok (.istore 5, 2) := dk_54 5 (dk_at dksX0_mend_2 7 rfl rfl)
theorem dX0_mend_55 : decode cX0_mend 55 = .ok (.iload 5, 2) := dk_21 5 (dk_at dksX0_mend_2 9 rfl rfl)
theorem dX0_mend_57 : decode cX0_mend 57 = .ok (.aload_n 0, 1) := dk_42 (dk_at dksX0_mend_2 11 rfl rfl)
theorem dX0_mend_58 : decode cX0_mend 58 = .ok (.getfield 76, 3) := dk_180 0 76 (dk_at dksX0_mend_2 12 rfl rfl)
theorem dX0_mend_61 : decode cX0_mend 61 = .ok (.getfield 157, 3) := dk_180 0 157 (dk_at dksX0_mend_2 15 rfl rfl)
theorem dX0_mend_64 : decode cX0_mend 64 = .ok (.if_icmp .ge 31, 3) := dk_162 0 31 (dk_at dksX0_mend_2 18 rfl rfl)
theorem dX0_mend_67 : decode cX0_mend 67 = .ok (.aload_n 0, 1) := dk_42 (dk_at dksX0_mend_2 21 rfl rfl)
theorem dX0_mend_68 : decode cX0_mend 68 = .ok (.getfield 72, 3) := dk_180 0 72 (dk_at dksX0_mend_3 0 rfl rfl)
theorem dX0_mend_71 : decode cX0_mend 71 = .ok (.iload_n 1, 1) := dk_27 (dk_at dksX0_mend_3 3 rfl rfl)
theorem dX0_mend_72 : decode cX0_mend 72 = .ok (.aaload, 1) := dk_50 (dk_at dksX0_mend_3 4 rfl rfl)
theorem dX0_mend_73 : decode cX0_mend 73 = .ok (.iload_n 2, 1) := dk_28 (dk_at dksX0_mend_3 5 rfl rfl)
theorem dX0_mend_74 : decode cX0_mend 74 = .ok (.iload 5, 2) := dk_21 5 (dk_at dksX0_mend_3 6 rfl rfl)
theorem dX0_mend_76 : decode cX0_mend 76 = .ok (.iadd, 1) := dk_96 (dk_at dksX0_mend_3 8 rfl rfl)
theorem dX0_mend_77 : decode cX0_mend 77 = .ok (.aload_n 0, 1) := dk_42 (dk_at dksX0_mend_3 9 rfl rfl)
theorem dX0_mend_78 : decode cX0_mend 78 = .ok (.getfield 76, 3) := dk_180 0 76 (dk_at dksX0_mend_3 10 rfl rfl)
theorem dX0_mend_81 : decode cX0_mend 81 = .ok (.getfield 367, 3) := dk_180 1 111 (dk_at dksX0_mend_3 13 rfl rfl)
theorem dX0_mend_84 : decode cX0_mend 84 = .ok (.iload 5, 2) := dk_21 5 (dk_at dksX0_mend_3 16 rfl rfl)
theorem dX0_mend_86 : decode cX0_mend 86 = .ok (.iaload, 1) := dk_46 (dk_at dksX0_mend_3 18 rfl rfl)
theorem dX0_mend_87 : decode cX0_mend 87 = .ok (.i2l, 1) := dk_133 (dk_at dksX0_mend_3 19 rfl rfl)
theorem dX0_mend_88 : decode cX0_mend 88 = .ok (.lastore, 1) := dk_80 (dk_at dksX0_mend_3 20 rfl rfl)
theorem dX0_mend_89 : decode cX0_mend 89 = .ok (.iinc 5 1, 3) := dk_132 5 1 (dk_at dksX0_mend_3 21 rfl rfl)
theorem dX0_mend_92 : decode cX0_mend 92 = .ok (.goto (-37), 3) := dk_167 255 219 (dk_at dksX0_mend_4 0 rfl rfl)
theorem dX0_mend_95 : decode cX0_mend 95 = .ok (.iload 4, 2) := dk_21 4 (dk_at dksX0_mend_4 3 rfl rfl)
theorem dX0_mend_97 : decode cX0_mend 97 = .ok (.ireturn, 1) := dk_172 (dk_at dksX0_mend_4 5 rfl rfl)
abbrev cX0_turnsRing : ByteArray := prog_1_method_62_code
def yX0_turnsRing : MethodName := ⟨RX0, "turnsRing", "()V"⟩
def dkwX0_turnsRing_2 : List UInt8 := [180, 0, 76, 42, 28, 182, 2, 30, 27, 182, 2, 40, 132, 2, 1, 167, 255, 232, 177]
abbrev dktX0_turnsRing_2 : List UInt8 := dkwX0_turnsRing_2 ++ []
def dkwX0_turnsRing_1 : List UInt8 := [182, 2, 34, 184, 2, 37, 60, 132, 2, 1, 167, 255, 228, 3, 61, 28, 42, 180, 2, 27, 162, 0, 22, 42]
abbrev dktX0_turnsRing_1 : List UInt8 := dkwX0_turnsRing_1 ++ dktX0_turnsRing_2
def dkwX0_turnsRing_0 : List UInt8 := [16, 99, 60, 3, 61, 28, 42, 180, 2, 27, 162, 0, 26, 27, 42, 180, 0, 76, 42, 28, 182, 2, 30]
abbrev dktX0_turnsRing_0 : List UInt8 := dkwX0_turnsRing_0 ++ dktX0_turnsRing_1
theorem dksX0_turnsRing_0 : cX0_turnsRing.data.toList.drop 0 = dktX0_turnsRing_0 := by decide +kernel
theorem dksX0_turnsRing_1 : cX0_turnsRing.data.toList.drop 23 = dktX0_turnsRing_1 := dk_seg dksX0_turnsRing_0 23 rfl rfl
theorem dksX0_turnsRing_2 : cX0_turnsRing.data.toList.drop 47 = dktX0_turnsRing_2 := dk_seg dksX0_turnsRing_1 24 rfl rfl
theorem dX0_turnsRing_0 : decode cX0_turnsRing 0 = .ok (.bipush 99, 2) := dk_16 99 (dk_at dksX0_turnsRing_0 0 rfl rfl)
theorem dX0_turnsRing_2 : decode cX0_turnsRing 2 = .ok (.istore_n 1, 1) := dk_60 (dk_at dksX0_turnsRing_0 2 rfl rfl)
theorem dX0_turnsRing_3 : decode cX0_turnsRing 3 = .ok (.iconst 0, 1) := dk_3 (dk_at dksX0_turnsRing_0 3 rfl rfl)
theorem dX0_turnsRing_4 : decode cX0_turnsRing 4 = .ok (.istore_n 2, 1) := dk_61 (dk_at dksX0_turnsRing_0 4 rfl rfl)
theorem dX0_turnsRing_5 : decode cX0_turnsRing 5 = .ok (.iload_n 2, 1) := dk_28 (dk_at dksX0_turnsRing_0 5 rfl rfl)
theorem dX0_turnsRing_6 : decode cX0_turnsRing 6 = .ok (.aload_n 0, 1) := dk_42 (dk_at dksX0_turnsRing_0 6 rfl rfl)
theorem dX0_turnsRing_7 : decode cX0_turnsRing 7 = .ok (.getfield 539, 3) := dk_180 2 27 (dk_at dksX0_turnsRing_0 7 rfl rfl)
theorem dX0_turnsRing_10 : decode cX0_turnsRing 10 = .ok (.if_icmp .ge 26, 3) := dk_162 0 26 (dk_at dksX0_turnsRing_0 10 rfl rfl)
theorem dX0_turnsRing_13 : decode cX0_turnsRing 13 = .ok (.iload_n 1, 1) := dk_27 (dk_at dksX0_turnsRing_0 13 rfl rfl)
theorem dX0_turnsRing_14 : decode cX0_turnsRing 14 = .ok (.aload_n 0, 1) := dk_42 (dk_at dksX0_turnsRing_0 14 rfl rfl)
theorem dX0_turnsRing_15 : decode cX0_turnsRing 15 = .ok (.getfield 76, 3) := dk_180 0 76 (dk_at dksX0_turnsRing_0 15 rfl rfl)
theorem dX0_turnsRing_18 : decode cX0_turnsRing 18 = .ok (.aload_n 0, 1) := dk_42 (dk_at dksX0_turnsRing_0 18 rfl rfl)
theorem dX0_turnsRing_19 : decode cX0_turnsRing 19 = .ok (.iload_n 2, 1) := dk_28 (dk_at dksX0_turnsRing_0 19 rfl rfl)
theorem dX0_turnsRing_20 : decode cX0_turnsRing 20 = .ok (.invokevirtual 542, 3) := dk_182 2 30 (dk_at dksX0_turnsRing_0 20 rfl rfl)
theorem dX0_turnsRing_23 : decode cX0_turnsRing 23 = .ok (.invokevirtual 546, 3) := dk_182 2 34 (dk_at dksX0_turnsRing_1 0 rfl rfl)
theorem dX0_turnsRing_26 : decode cX0_turnsRing 26 = .ok (.invokestatic 549, 3) := dk_184 2 37 (dk_at dksX0_turnsRing_1 3 rfl rfl)
theorem dX0_turnsRing_29 : decode cX0_turnsRing 29 = .ok (.istore_n 1, 1) := dk_60 (dk_at dksX0_turnsRing_1 6 rfl rfl)
theorem dX0_turnsRing_30 : decode cX0_turnsRing 30 = .ok (.iinc 2 1, 3) := dk_132 2 1 (dk_at dksX0_turnsRing_1 7 rfl rfl)
theorem dX0_turnsRing_33 : decode cX0_turnsRing 33 = .ok (.goto (-28), 3) := dk_167 255 228 (dk_at dksX0_turnsRing_1 10 rfl rfl)
theorem dX0_turnsRing_36 : decode cX0_turnsRing 36 = .ok (.iconst 0, 1) := dk_3 (dk_at dksX0_turnsRing_1 13 rfl rfl)
theorem dX0_turnsRing_37 : decode cX0_turnsRing 37 = .ok (.istore_n 2, 1) := dk_61 (dk_at dksX0_turnsRing_1 14 rfl rfl)
theorem dX0_turnsRing_38 : decode cX0_turnsRing 38 = .ok (.iload_n 2, 1) := dk_28 (dk_at dksX0_turnsRing_1 15 rfl rfl)
theorem dX0_turnsRing_39 : decode cX0_turnsRing 39 = .ok (.aload_n 0, 1) := dk_42 (dk_at dksX0_turnsRing_1 16 rfl rfl)
theorem dX0_turnsRing_40 : decode cX0_turnsRing 40 = .ok (.getfield 539, 3) := dk_180 2 27 (dk_at dksX0_turnsRing_1 17 rfl rfl)
theorem dX0_turnsRing_43 : decode cX0_turnsRing 43 = .ok (.if_icmp .ge 22, 3) := dk_162 0 22 (dk_at dksX0_turnsRing_1 20 rfl rfl)
theorem dX0_turnsRing_46 : decode cX0_turnsRing 46 = .ok (.aload_n 0, 1) := dk_42 (dk_at dksX0_turnsRing_1 23 rfl rfl)
theorem dX0_turnsRing_47 : decode cX0_turnsRing 47 = .ok (.getfield 76, 3) := dk_180 0 76 (dk_at dksX0_turnsRing_2 0 rfl rfl)
theorem dX0_turnsRing_50 : decode cX0_turnsRing 50 = .ok (.aload_n 0, 1) := dk_42 (dk_at dksX0_turnsRing_2 3 rfl rfl)
theorem dX0_turnsRing_51 : decode cX0_turnsRing 51 = .ok (.iload_n 2, 1) := dk_28 (dk_at dksX0_turnsRing_2 4 rfl rfl)
theorem dX0_turnsRing_52 : decode cX0_turnsRing 52 = .ok (.invokevirtual 542, 3) := dk_182 2 30 (dk_at dksX0_turnsRing_2 5 rfl rfl)
theorem dX0_turnsRing_55 : decode cX0_turnsRing 55 = .ok (.iload_n 1, 1) := dk_27 (dk_at dksX0_turnsRing_2 8 rfl rfl)
theorem dX0_turnsRing_56 : decode cX0_turnsRing 56 = .ok (.invokevirtual 552, 3) := dk_182 2 40 (dk_at dksX0_turnsRing_2 9 rfl rfl)
theorem dX0_turnsRing_59 : decode cX0_turnsRing 59 = .ok (.iinc 2 1, 3) := dk_132 2 1 (dk_at dksX0_turnsRing_2 12 rfl rfl)
theorem dX0_turnsRing_62 : decode cX0_turnsRing 62 = .ok (.goto (-24), 3) := dk_167 255 232 (dk_at dksX0_turnsRing_2 15 rfl rfl)
theorem dX0_turnsRing_65 : decode cX0_turnsRing 65 = .ok (.return_, 1) := dk_177 (dk_at dksX0_turnsRing_2 18 rfl rfl)
abbrev cX0_ringStep : ByteArray := prog_1_method_61_code
def yX0_ringStep : MethodName := ⟨RX0, "ringStep", "(I)I"⟩
def dkwX0_ringStep_1 : List UInt8 := [112, 46, 96, 46, 172]
abbrev dktX0_ringStep_1 : List UInt8 := dkwX0_ringStep_1 ++ []
def dkwX0_ringStep_0 : List UInt8 := [42, 180, 0, 79, 16, 8, 42, 180, 0, 82, 27, 46, 104, 42, 180, 0, 82, 27, 4, 96, 42, 180, 2, 27]
abbrev dktX0_ringStep_0 : List UInt8 := dkwX0_ringStep_0 ++ dktX0_ringStep_1
theorem dksX0_ringStep_0 : cX0_ringStep.data.toList.drop 0 = dktX0_ringStep_0 := by decide +kernel
theorem dksX0_ringStep_1 : cX0_ringStep.data.toList.drop 24 = dktX0_ringStep_1 := dk_seg dksX0_ringStep_0 24 rfl rfl
theorem dX0_ringStep_0 : decode cX0_ringStep 0 = .ok (.aload_n 0, 1) := dk_42 (dk_at dksX0_ringStep_0 0 rfl rfl)
theorem dX0_ringStep_1 : decode cX0_ringStep 1 = .ok (.getfield 79, 3) := dk_180 0 79 (dk_at dksX0_ringStep_0 1 rfl rfl)
theorem dX0_ringStep_4 : decode cX0_ringStep 4 = .ok (.bipush 8, 2) := dk_16 8 (dk_at dksX0_ringStep_0 4 rfl rfl)
theorem dX0_ringStep_6 : decode cX0_ringStep 6 = .ok (.aload_n 0, 1) := dk_42 (dk_at dksX0_ringStep_0 6 rfl rfl)
theorem dX0_ringStep_7 : decode cX0_ringStep 7 = .ok (.getfield 82, 3) := dk_180 0 82 (dk_at dksX0_ringStep_0 7 rfl rfl)
theorem dX0_ringStep_10 : decode cX0_ringStep 10 = .ok (.iload_n 1, 1) := dk_27 (dk_at dksX0_ringStep_0 10 rfl rfl)
theorem dX0_ringStep_11 : decode cX0_ringStep 11 = .ok (.iaload, 1) := dk_46 (dk_at dksX0_ringStep_0 11 rfl rfl)
theorem dX0_ringStep_12 : decode cX0_ringStep 12 = .ok (.imul, 1) := dk_104 (dk_at dksX0_ringStep_0 12 rfl rfl)
theorem dX0_ringStep_13 : decode cX0_ringStep 13 = .ok (.aload_n 0, 1) := dk_42 (dk_at dksX0_ringStep_0 13 rfl rfl)
theorem dX0_ringStep_14 : decode cX0_ringStep 14 = .ok (.getfield 82, 3) := dk_180 0 82 (dk_at dksX0_ringStep_0 14 rfl rfl)
theorem dX0_ringStep_17 : decode cX0_ringStep 17 = .ok (.iload_n 1, 1) := dk_27 (dk_at dksX0_ringStep_0 17 rfl rfl)
theorem dX0_ringStep_18 : decode cX0_ringStep 18 = .ok (.iconst 1, 1) := dk_4 (dk_at dksX0_ringStep_0 18 rfl rfl)
theorem dX0_ringStep_19 : decode cX0_ringStep 19 = .ok (.iadd, 1) := dk_96 (dk_at dksX0_ringStep_0 19 rfl rfl)
theorem dX0_ringStep_20 : decode cX0_ringStep 20 = .ok (.aload_n 0, 1) := dk_42 (dk_at dksX0_ringStep_0 20 rfl rfl)
theorem dX0_ringStep_21 : decode cX0_ringStep 21 = .ok (.getfield 539, 3) := dk_180 2 27 (dk_at dksX0_ringStep_0 21 rfl rfl)
theorem dX0_ringStep_24 : decode cX0_ringStep 24 = .ok (.irem, 1) := dk_112 (dk_at dksX0_ringStep_1 0 rfl rfl)
theorem dX0_ringStep_25 : decode cX0_ringStep 25 = .ok (.iaload, 1) := dk_46 (dk_at dksX0_ringStep_1 1 rfl rfl)
theorem dX0_ringStep_26 : decode cX0_ringStep 26 = .ok (.iadd, 1) := dk_96 (dk_at dksX0_ringStep_1 2 rfl rfl)
theorem dX0_ringStep_27 : decode cX0_ringStep 27 = .ok (.iaload, 1) := dk_46 (dk_at dksX0_ringStep_1 3 rfl rfl)
theorem dX0_ringStep_28 : decode cX0_ringStep 28 = .ok (.ireturn, 1) := dk_172 (dk_at dksX0_ringStep_1 4 rfl rfl)
abbrev cX0_parts_2 : ByteArray := prog_1_method_72_code
def yX0_parts_2 : MethodName := ⟨RX0, "parts", "()I"⟩
def dkwX0_parts_2_0 : List UInt8 := [42, 182, 1, 103, 153, 0, 13, 42, 182, 2, 77, 182, 0, 140, 167, 0, 5, 16, 253, 172]
abbrev dktX0_parts_2_0 : List UInt8 := dkwX0_parts_2_0 ++ []
theorem dksX0_parts_2_0 : cX0_parts_2.data.toList.drop 0 = dktX0_parts_2_0 := by decide +kernel
theorem dX0_parts_2_0 : decode cX0_parts_2 0 = .ok (.aload_n 0, 1) := dk_42 (dk_at dksX0_parts_2_0 0 rfl rfl)
theorem dX0_parts_2_1 : decode cX0_parts_2 1 = .ok (.invokevirtual 359, 3) := dk_182 1 103 (dk_at dksX0_parts_2_0 1 rfl rfl)
theorem dX0_parts_2_4 : decode cX0_parts_2 4 = .ok (.ifCond .eq 13, 3) := dk_153 0 13 (dk_at dksX0_parts_2_0 4 rfl rfl)
theorem dX0_parts_2_7 : decode cX0_parts_2 7 = .ok (.aload_n 0, 1) := dk_42 (dk_at dksX0_parts_2_0 7 rfl rfl)
theorem dX0_parts_2_8 : decode cX0_parts_2 8 = .ok (.invokevirtual 589, 3) := dk_182 2 77 (dk_at dksX0_parts_2_0 8 rfl rfl)
theorem dX0_parts_2_11 : decode cX0_parts_2 11 = .ok (.invokevirtual 140, 3) := dk_182 0 140 (dk_at dksX0_parts_2_0 11 rfl rfl)
theorem dX0_parts_2_14 : decode cX0_parts_2 14 = .ok (.goto 5, 3) := dk_167 0 5 (dk_at dksX0_parts_2_0 14 rfl rfl)
theorem dX0_parts_2_17 : decode cX0_parts_2 17 = .ok (.bipush (-3), 2) := dk_16 253 (dk_at dksX0_parts_2_0 17 rfl rfl)
theorem dX0_parts_2_19 : decode cX0_parts_2 19 = .ok (.ireturn, 1) := dk_172 (dk_at dksX0_parts_2_0 19 rfl rfl)
abbrev cX0_parted : ByteArray := prog_1_method_71_code
def yX0_parted : MethodName := ⟨RX0, "parted", "()Ljava/util/LinkedList;"⟩
def dkwX0_parted_3 : List UInt8 := [42, 180, 0, 92, 176]
abbrev dktX0_parted_3 : List UInt8 := dkwX0_parted_3 ++ []
def dkwX0_parted_2 : List UInt8 := [16, 8, 184, 0, 198, 4, 60, 27, 153, 0, 11, 42, 182, 2, 74, 60, 167, 255, 247, 42, 4, 181, 0, 151]
abbrev dktX0_parted_2 : List UInt8 := dkwX0_parted_2 ++ dktX0_parted_3
def dkwX0_parted_1 : List UInt8 := [180, 0, 95, 3, 42, 180, 0, 29, 180, 0, 157, 184, 0, 198, 42, 180, 0, 15, 3, 42, 180, 0, 98, 3]
abbrev dktX0_parted_1 : List UInt8 := dkwX0_parted_1 ++ dktX0_parted_2
def dkwX0_parted_0 : List UInt8 := [42, 180, 0, 151, 154, 0, 67, 42, 180, 0, 92, 182, 0, 248, 42, 180, 0, 29, 180, 1, 111, 3, 42]
abbrev dktX0_parted_0 : List UInt8 := dkwX0_parted_0 ++ dktX0_parted_1
theorem dksX0_parted_0 : cX0_parted.data.toList.drop 0 = dktX0_parted_0 := by decide +kernel
theorem dksX0_parted_1 : cX0_parted.data.toList.drop 23 = dktX0_parted_1 := dk_seg dksX0_parted_0 23 rfl rfl
theorem dksX0_parted_2 : cX0_parted.data.toList.drop 47 = dktX0_parted_2 := dk_seg dksX0_parted_1 24 rfl rfl
theorem dksX0_parted_3 : cX0_parted.data.toList.drop 71 = dktX0_parted_3 := dk_seg dksX0_parted_2 24 rfl rfl
theorem dX0_parted_0 : decode cX0_parted 0 = .ok (.aload_n 0, 1) := dk_42 (dk_at dksX0_parted_0 0 rfl rfl)
theorem dX0_parted_1 : decode cX0_parted 1 = .ok (.getfield 151, 3) := dk_180 0 151 (dk_at dksX0_parted_0 1 rfl rfl)
theorem dX0_parted_4 : decode cX0_parted 4 = .ok (.ifCond .ne 67, 3) := dk_154 0 67 (dk_at dksX0_parted_0 4 rfl rfl)
theorem dX0_parted_7 : decode cX0_parted 7 = .ok (.aload_n 0, 1) := dk_42 (dk_at dksX0_parted_0 7 rfl rfl)
theorem dX0_parted_8 : decode cX0_parted 8 = .ok (.getfield 92, 3) := dk_180 0 92 (dk_at dksX0_parted_0 8 rfl rfl)
theorem dX0_parted_11 : decode cX0_parted 11 = .ok (.invokevirtual 248, 3) := dk_182 0 248 (dk_at dksX0_parted_0 11 rfl rfl)
theorem dX0_parted_14 : decode cX0_parted 14 = .ok (.aload_n 0, 1) := dk_42 (dk_at dksX0_parted_0 14 rfl rfl)
theorem dX0_parted_15 : decode cX0_parted 15 = .ok (.getfield 29, 3) := dk_180 0 29 (dk_at dksX0_parted_0 15 rfl rfl)
theorem dX0_parted_18 : decode cX0_parted 18 = .ok (.getfield 367, 3) := dk_180 1 111 (dk_at dksX0_parted_0 18 rfl rfl)
theorem dX0_parted_21 : decode cX0_parted 21 = .ok (.iconst 0, 1) := dk_3 (dk_at dksX0_parted_0 21 rfl rfl)
theorem dX0_parted_22 : decode cX0_parted 22 = .ok (.aload_n 0, 1) := dk_42 (dk_at dksX0_parted_0 22 rfl rfl)
theorem dX0_parted_23 : decode cX0_parted 23 = .ok (.getfield 95, 3) := dk_180 0 95 (dk_at dksX0_parted_1 0 rfl rfl)
theorem dX0_parted_26 : decode cX0_parted 26 = .ok (.iconst 0, 1) := dk_3 (dk_at dksX0_parted_1 3 rfl rfl)
theorem dX0_parted_27 : decode cX0_parted 27 = .ok (.aload_n 0, 1) := dk_42 (dk_at dksX0_parted_1 4 rfl rfl)
theorem dX0_parted_28 : decode cX0_parted 28 = .ok (.getfield 29, 3) := dk_180 0 29 (dk_at dksX0_parted_1 5 rfl rfl)
theorem dX0_parted_31 : decode cX0_parted 31 = .ok (.getfield 157, 3) := dk_180 0 157 (dk_at dksX0_parted_1 8 rfl rfl)
theorem dX0_parted_34 : decode cX0_parted 34 = .ok (.invokestatic 198, 3) := dk_184 0 198 (dk_at dksX0_parted_1 11 rfl rfl)
theorem dX0_parted_37 : decode cX0_parted 37 = .ok (.aload_n 0, 1) := dk_42 (dk_at dksX0_parted_1 14 rfl rfl)
theorem dX0_parted_38 : decode cX0_parted 38 = .ok (.getfield 15, 3) := dk_180 0 15 (dk_at dksX0_parted_1 15 rfl rfl)
theorem dX0_parted_41 : decode cX0_parted 41 = .ok (.iconst 0, 1) := dk_3 (dk_at dksX0_parted_1 18 rfl rfl)
theorem dX0_parted_42 : decode cX0_parted 42 = .ok (.aload_n 0, 1) := dk_42 (dk_at dksX0_parted_1 19 rfl rfl)
theorem dX0_parted_43 : decode cX0_parted 43 = .ok (.getfield 98, 3) := dk_180 0 98 (dk_at dksX0_parted_1 20 rfl rfl)
theorem dX0_parted_46 : decode cX0_parted 46 = .ok (.iconst 0, 1) := dk_3 (dk_at dksX0_parted_1 23 rfl rfl)
theorem dX0_parted_47 : decode cX0_parted 47 = .ok (.bipush 8, 2) := dk_16 8 (dk_at dksX0_parted_2 0 rfl rfl)
theorem dX0_parted_49 : decode cX0_parted 49 = .ok (.invokestatic 198, 3) := dk_184 0 198 (dk_at dksX0_parted_2 2 rfl rfl)
theorem dX0_parted_52 : decode cX0_parted 52 = .ok (.iconst 1, 1) := dk_4 (dk_at dksX0_parted_2 5 rfl rfl)
theorem dX0_parted_53 : decode cX0_parted 53 = .ok (.istore_n 1, 1) := dk_60 (dk_at dksX0_parted_2 6 rfl rfl)
theorem dX0_parted_54 : decode cX0_parted 54 = .ok (.iload_n 1, 1) := dk_27 (dk_at dksX0_parted_2 7 rfl rfl)
theorem dX0_parted_55 : decode cX0_parted 55 = .ok (.ifCond .eq 11, 3) := dk_153 0 11 (dk_at dksX0_parted_2 8 rfl rfl)
theorem dX0_parted_58 : decode cX0_parted 58 = .ok (.aload_n 0, 1) := dk_42 (dk_at dksX0_parted_2 11 rfl rfl)
theorem dX0_parted_59 : decode cX0_parted 59 = .ok (.invokevirtual 586, 3) := dk_182 2 74 (dk_at dksX0_parted_2 12 rfl rfl)
theorem dX0_parted_62 : decode cX0_parted 62 = .ok (.istore_n 1, 1) := dk_60 (dk_at dksX0_parted_2 15 rfl rfl)
theorem dX0_parted_63 : decode cX0_parted 63 = .ok (.goto (-9), 3) := dk_167 255 247 (dk_at dksX0_parted_2 16 rfl rfl)
theorem dX0_parted_66 : decode cX0_parted 66 = .ok (.aload_n 0, 1) := dk_42 (dk_at dksX0_parted_2 19 rfl rfl)
theorem dX0_parted_67 : decode cX0_parted 67 = .ok (.iconst 1, 1) := dk_4 (dk_at dksX0_parted_2 20 rfl rfl)
theorem dX0_parted_68 : decode cX0_parted 68 = .ok (.putfield 151, 3) := dk_181 0 151 (dk_at dksX0_parted_2 21 rfl rfl)
theorem dX0_parted_71 : decode cX0_parted 71 = .ok (.aload_n 0, 1) := dk_42 (dk_at dksX0_parted_3 0 rfl rfl)
theorem dX0_parted_72 : decode cX0_parted 72 = .ok (.getfield 92, 3) := dk_180 0 92 (dk_at dksX0_parted_3 1 rfl rfl)
theorem dX0_parted_75 : decode cX0_parted 75 = .ok (.areturn, 1) := dk_176 (dk_at dksX0_parted_3 4 rfl rfl)
abbrev cX0_isWayTaken : ByteArray := prog_1_method_69_code
def yX0_isWayTaken : MethodName := ⟨RX0, "isWayTaken", "()Z"⟩
def dkwX0_isWayTaken_8 : List UInt8 := [29, 21, 4, 16, 251, 159, 0, 7, 4, 167, 0, 4, 3, 182, 2, 61, 4, 172]
abbrev dktX0_isWayTaken_8 : List UInt8 := dkwX0_isWayTaken_8 ++ []
def dkwX0_isWayTaken_7 : List UInt8 := [4, 167, 0, 4, 3, 54, 5, 167, 255, 144, 42, 21, 4, 16, 251, 160, 0, 7, 3, 167, 0, 5, 21, 4]
abbrev dktX0_isWayTaken_7 : List UInt8 := dkwX0_isWayTaken_7 ++ dktX0_isWayTaken_8
def dkwX0_isWayTaken_6 : List UInt8 := [167, 255, 226, 21, 4, 16, 251, 160, 0, 21, 28, 153, 0, 13, 42, 180, 0, 98, 21, 6, 46, 155, 0, 7]
abbrev dktX0_isWayTaken_6 : List UInt8 := dkwX0_isWayTaken_6 ++ dktX0_isWayTaken_7
def dkwX0_isWayTaken_5 : List UInt8 := [42, 180, 0, 104, 21, 7, 46, 21, 6, 160, 0, 8, 21, 7, 167, 0, 5, 21, 4, 54, 4, 132, 7, 1]
abbrev dktX0_isWayTaken_5 : List UInt8 := dkwX0_isWayTaken_5 ++ dktX0_isWayTaken_6
def dkwX0_isWayTaken_4 : List UInt8 := [46, 46, 54, 6, 132, 3, 1, 42, 180, 0, 104, 29, 21, 6, 79, 3, 54, 7, 21, 7, 29, 162, 0, 30]
abbrev dktX0_isWayTaken_4 : List UInt8 := dkwX0_isWayTaken_4 ++ dktX0_isWayTaken_5
def dkwX0_isWayTaken_3 : List UInt8 := [29, 42, 42, 180, 0, 104, 29, 46, 182, 2, 58, 79, 42, 180, 0, 29, 180, 1, 132, 42, 180, 0, 101, 29]
abbrev dktX0_isWayTaken_3 : List UInt8 := dkwX0_isWayTaken_3 ++ dktX0_isWayTaken_4
def dkwX0_isWayTaken_2 : List UInt8 := [180, 0, 104, 3, 27, 79, 3, 62, 16, 251, 54, 4, 4, 54, 5, 21, 5, 153, 0, 113, 42, 180, 0, 101]
abbrev dktX0_isWayTaken_2 : List UInt8 := dkwX0_isWayTaken_2 ++ dktX0_isWayTaken_3
def dkwX0_isWayTaken_1 : List UInt8 := [182, 2, 58, 62, 29, 16, 251, 160, 0, 5, 3, 172, 42, 180, 0, 29, 180, 1, 127, 29, 46, 60, 42]
abbrev dktX0_isWayTaken_1 : List UInt8 := dkwX0_isWayTaken_1 ++ dktX0_isWayTaken_2
def dkwX0_isWayTaken_0 : List UInt8 := [42, 182, 2, 55, 60, 27, 16, 251, 159, 0, 7, 4, 167, 0, 4, 3, 61, 28, 154, 0, 27, 42, 2]
abbrev dktX0_isWayTaken_0 : List UInt8 := dkwX0_isWayTaken_0 ++ dktX0_isWayTaken_1
theorem dksX0_isWayTaken_0 : cX0_isWayTaken.data.toList.drop 0 = dktX0_isWayTaken_0 := by decide +kernel
theorem dksX0_isWayTaken_1 : cX0_isWayTaken.data.toList.drop 23 = dktX0_isWayTaken_1 := dk_seg dksX0_isWayTaken_0 23 rfl rfl
theorem dksX0_isWayTaken_2 : cX0_isWayTaken.data.toList.drop 46 = dktX0_isWayTaken_2 := dk_seg dksX0_isWayTaken_1 23 rfl rfl
theorem dksX0_isWayTaken_3 : cX0_isWayTaken.data.toList.drop 70 = dktX0_isWayTaken_3 := dk_seg dksX0_isWayTaken_2 24 rfl rfl
theorem dksX0_isWayTaken_4 : cX0_isWayTaken.data.toList.drop 94 = dktX0_isWayTaken_4 := dk_seg dksX0_isWayTaken_3 24 rfl rfl
theorem dksX0_isWayTaken_5 : cX0_isWayTaken.data.toList.drop 118 = dktX0_isWayTaken_5 := dk_seg dksX0_isWayTaken_4 24 rfl rfl
theorem dksX0_isWayTaken_6 : cX0_isWayTaken.data.toList.drop 142 = dktX0_isWayTaken_6 := dk_seg dksX0_isWayTaken_5 24 rfl rfl
theorem dksX0_isWayTaken_7 : cX0_isWayTaken.data.toList.drop 166 = dktX0_isWayTaken_7 := dk_seg dksX0_isWayTaken_6 24 rfl rfl
theorem dksX0_isWayTaken_8 : cX0_isWayTaken.data.toList.drop 190 = dktX0_isWayTaken_8 := dk_seg dksX0_isWayTaken_7 24 rfl rfl
theorem dX0_isWayTaken_0 : decode cX0_isWayTaken 0 = .ok (.aload_n 0, 1) := dk_42 (dk_at dksX0_isWayTaken_0 0 rfl rfl)
theorem dX0_isWayTaken_1 : decode cX0_isWayTaken 1 = .ok (.invokevirtual 567, 3) := dk_182 2 55 (dk_at dksX0_isWayTaken_0 1 rfl rfl)
theorem dX0_isWayTaken_4 : decode cX0_isWayTaken 4 = .ok (.istore_n 1, 1) := dk_60 (dk_at dksX0_isWayTaken_0 4 rfl rfl)
theorem dX0_isWayTaken_5 : decode cX0_isWayTaken 5 = .ok (.iload_n 1, 1) := dk_27 (dk_at dksX0_isWayTaken_0 5 rfl rfl)
theorem dX0_isWayTaken_6 : decode cX0_isWayTaken 6 = .ok (.bipush (-5), 2) := dk_16 251 (dk_at dksX0_isWayTaken_0 6 rfl rfl)
theorem dX0_isWayTaken_8 : decode cX0_isWayTaken 8 = .ok (.if_icmp .eq 7, 3) := dk_159 0 7 (dk_at dksX0_isWayTaken_0 8 rfl rfl)
theorem dX0_isWayTaken_11 : decode cX0_isWayTaken 11 = .ok (.iconst 1, 1) := dk_4 (dk_at dksX0_isWayTaken_0 11 rfl rfl)
theorem dX0_isWayTaken_12 : decode cX0_isWayTaken 12 = .ok (.goto 4, 3) := dk_167 0 4 (dk_at dksX0_isWayTaken_0 12 rfl rfl)
theorem dX0_isWayTaken_15 : decode cX0_isWayTaken 15 = .ok (.iconst 0, 1) := dk_3 (dk_at dksX0_isWayTaken_0 15 rfl rfl)
theorem dX0_isWayTaken_16 : decode cX0_isWayTaken 16 = .ok (.istore_n 2, 1) := dk_61 (dk_at dksX0_isWayTaken_0 16 rfl rfl)
theorem dX0_isWayTaken_17 : decode cX0_isWayTaken 17 = .ok (.iload_n 2, 1) := dk_28 (dk_at dksX0_isWayTaken_0 17 rfl rfl)
theorem dX0_isWayTaken_18 : decode cX0_isWayTaken 18 = .ok (.ifCond .ne 27, 3) := dk_154 0 27 (dk_at dksX0_isWayTaken_0 18 rfl rfl)
theorem dX0_isWayTaken_21 : decode cX0_isWayTaken 21 = .ok (.aload_n 0, 1) := dk_42 (dk_at dksX0_isWayTaken_0 21 rfl rfl)
theorem dX0_isWayTaken_22 : decode cX0_isWayTaken 22 = .ok (.iconst (-1), 1) := dk_2 (dk_at dksX0_isWayTaken_0 22 rfl rfl)
theorem dX0_isWayTaken_23 : decode cX0_isWayTaken 23 = .ok (.invokevirtual 570, 3) := dk_182 2 58 (dk_at dksX0_isWayTaken_1 0 rfl rfl)
theorem dX0_isWayTaken_26 : decode cX0_isWayTaken 26 = .ok (.istore_n 3, 1) := dk_62 (dk_at dksX0_isWayTaken_1 3 rfl rfl)
theorem dX0_isWayTaken_27 : decode cX0_isWayTaken 27 = .ok (.iload_n 3, 1) := dk_29 (dk_at dksX0_isWayTaken_1 4 rfl rfl)
theorem dX0_isWayTaken_28 : decode cX0_isWayTaken 28 = .ok (.bipush (-5), 2) := dk_16 251 (dk_at dksX0_isWayTaken_1 5 rfl rfl)
theorem dX0_isWayTaken_30 : decode cX0_isWayTaken 30 = .ok (.if_icmp .ne 5, 3) := dk_160 0 5 (dk_at dksX0_isWayTaken_1 7 rfl rfl)
theorem dX0_isWayTaken_33 : decode cX0_isWayTaken 33 = .ok (.iconst 0, 1) := dk_3 (dk_at dksX0_isWayTaken_1 10 rfl rfl)
theorem dX0_isWayTaken_34 : decode cX0_isWayTaken 34 = .ok (.ireturn, 1) := dk_172 (dk_at dksX0_isWayTaken_1 11 rfl rfl)
theorem dX0_isWayTaken_35 : decode cX0_isWayTaken 35 = .ok (.aload_n 0, 1) := dk_42 (dk_at dksX0_isWayTaken_1 12 rfl rfl)
theorem dX0_isWayTaken_36 : decode cX0_isWayTaken 36 = .ok (.getfield 29, 3) := dk_180 0 29 (dk_at dksX0_isWayTaken_1 13 rfl rfl)
theorem dX0_isWayTaken_39 : decode cX0_isWayTaken 39 = .ok (.getfield 383, 3) := dk_180 1 127 (dk_at dksX0_isWayTaken_1 16 rfl rfl)
theorem dX0_isWayTaken_42 : decode cX0_isWayTaken 42 = .ok (.iload_n 3, 1) := dk_29 (dk_at dksX0_isWayTaken_1 19 rfl rfl)
theorem dX0_isWayTaken_43 : decode cX0_isWayTaken 43 = .ok (.iaload, 1) := dk_46 (dk_at dksX0_isWayTaken_1 20 rfl rfl)
theorem dX0_isWayTaken_44 : decode cX0_isWayTaken 44 = .ok (.istore_n 1, 1) := dk_60 (dk_at dksX0_isWayTaken_1 21 rfl rfl)
theorem dX0_isWayTaken_45 : decode cX0_isWayTaken 45 = .ok (.aload_n 0, 1) := dk_42 (dk_at dksX0_isWayTaken_1 22 rfl rfl)
theorem dX0_isWayTaken_46 : decode cX0_isWayTaken 46 = .ok (.getfield 104, 3) := dk_180 0 104 (dk_at dksX0_isWayTaken_2 0 rfl rfl)
theorem dX0_isWayTaken_49 : decode cX0_isWayTaken 49 = .ok (.iconst 0, 1) := dk_3 (dk_at dksX0_isWayTaken_2 3 rfl rfl)
theorem dX0_isWayTaken_50 : decode cX0_isWayTaken 50 = .ok (.iload_n 1, 1) := dk_27 (dk_at dksX0_isWayTaken_2 4 rfl rfl)
theorem dX0_isWayTaken_51 : decode cX0_isWayTaken 51 = .ok (.iastore, 1) := dk_79 (dk_at dksX0_isWayTaken_2 5 rfl rfl)
theorem dX0_isWayTaken_52 : decode cX0_isWayTaken 52 = .ok (.iconst 0, 1) := dk_3 (dk_at dksX0_isWayTaken_2 6 rfl rfl)
theorem dX0_isWayTaken_53 : decode cX0_isWayTaken 53 = .ok (.istore_n 3, 1) := dk_62 (dk_at dksX0_isWayTaken_2 7 rfl rfl)
theorem dX0_isWayTaken_54 : decode cX0_isWayTaken 54 = .ok (.bipush (-5), 2) := dk_16 251 (dk_at dksX0_isWayTaken_2 8 rfl rfl)
theorem dX0_isWayTaken_56 : decode cX0_isWayTaken 56 = .ok (.istore 4, 2) := dk_54 4 (dk_at dksX0_isWayTaken_2 10 rfl rfl)
theorem dX0_isWayTaken_58 : decode cX0_isWayTaken 58 = .ok (.iconst 1, 1) := dk_4 (dk_at dksX0_isWayTaken_2 12 rfl rfl)
theorem dX0_isWayTaken_59 : decode cX0_isWayTaken 59 = .ok (.istore 5, 2) := dk_54 5 (dk_at dksX0_isWayTaken_2 13 rfl rfl)
theorem dX0_isWayTaken_61 : decode cX0_isWayTaken 61 = .ok (.iload 5, 2) := dk_21 5 (dk_at dksX0_isWayTaken_2 15 rfl rfl)
theorem dX0_isWayTaken_63 : decode cX0_isWayTaken 63 = .ok (.ifCond .eq 113, 3) := dk_153 0 113 (dk_at dksX0_isWayTaken_2 17 rfl rfl)
theorem dX0_isWayTaken_66 : decode cX0_isWayTaken 66 = .ok (.aload_n 0, 1) := dk_42 (dk_at dksX0_isWayTaken_2 20 rfl rfl)
theorem dX0_isWayTaken_67 : decode cX0_isWayTaken 67 = .ok (.getfield 101, 3) := dk_180 0 101 (dk_at dksX0_isWayTaken_2 21 rfl rfl)
theorem dX0_isWayTaken_70 : decode cX0_isWayTaken 70 = .ok (.iload_n 3, 1) := dk_29 (dk_at dksX0_isWayTaken_3 0 rfl rfl)
theorem dX0_isWayTaken_71 : decode cX0_isWayTaken 71 = .ok (.aload_n 0, 1) := dk_42 (dk_at dksX0_isWayTaken_3 1 rfl rfl)
theorem dX0_isWayTaken_72 : decode cX0_isWayTaken 72 = .ok (.aload_n 0, 1) := dk_42 (dk_at dksX0_isWayTaken_3 2 rfl rfl)
theorem dX0_isWayTaken_73 : decode cX0_isWayTaken 73 = .ok (.getfield 104, 3) := dk_180 0 104 (dk_at dksX0_isWayTaken_3 3 rfl rfl)
theorem dX0_isWayTaken_76 : decode cX0_isWayTaken 76 = .ok (.iload_n 3, 1) := dk_29 (dk_at dksX0_isWayTaken_3 6 rfl rfl)
theorem dX0_isWayTaken_77 : decode cX0_isWayTaken 77 = .ok (.iaload, 1) := dk_46 (dk_at dksX0_isWayTaken_3 7 rfl rfl)
theorem dX0_isWayTaken_78 : decode cX0_isWayTaken 78 = .ok (.invokevirtual 570, 3) := dk_182 2 58 (dk_at dksX0_isWayTaken_3 8 rfl rfl)
theorem dX0_isWayTaken_81 : decode cX0_isWayTaken 81 = .ok (.iastore, 1) := dk_79 (dk_at dksX0_isWayTaken_3 11 rfl rfl)
theorem dX0_isWayTaken_82 : decode cX0_isWayTaken 82 = .ok (.aload_n 0, 1) := dk_42 (dk_at dksX0_isWayTaken_3 12 rfl rfl)
theorem dX0_isWayTaken_83 : decode cX0_isWayTaken 83 = .ok (.getfield 29, 3) := dk_180 0 29 (dk_at dksX0_isWayTaken_3 13 rfl rfl)
theorem dX0_isWayTaken_86 : decode cX0_isWayTaken 86 = .ok (.getfield 388, 3) := dk_180 1 132 (dk_at dksX0_isWayTaken_3 16 rfl rfl)
theorem dX0_isWayTaken_89 : decode cX0_isWayTaken 89 = .ok (.aload_n 0, 1) := dk_42 (dk_at dksX0_isWayTaken_3 19 rfl rfl)
theorem dX0_isWayTaken_90 : decode cX0_isWayTaken 90 = .ok (.getfield 101, 3) := dk_180 0 101 (dk_at dksX0_isWayTaken_3 20 rfl rfl)
theorem dX0_isWayTaken_93 : decode cX0_isWayTaken 93 = .ok (.iload_n 3, 1) := dk_29 (dk_at dksX0_isWayTaken_3 23 rfl rfl)
theorem dX0_isWayTaken_94 : decode cX0_isWayTaken 94 = .ok (.iaload, 1) := dk_46 (dk_at dksX0_isWayTaken_4 0 rfl rfl)
theorem dX0_isWayTaken_95 : decode cX0_isWayTaken 95 = .ok (.iaload, 1) := dk_46 (dk_at dksX0_isWayTaken_4 1 rfl rfl)
theorem dX0_isWayTaken_96 : decode cX0_isWayTaken 96 = .ok (.istore 6, 2) := dk_54 6 (dk_at dksX0_isWayTaken_4 2 rfl rfl)
theorem dX0_isWayTaken_98 : decode cX0_isWayTaken 98 = .ok (.iinc 3 1, 3) := dk_132 3 1 (dk_at dksX0_isWayTaken_4 4 rfl rfl)
theorem dX0_isWayTaken_101 : decode cX0_isWayTaken 101 = .ok (.aload_n 0, 1) := dk_42 (dk_at dksX0_isWayTaken_4 7 rfl rfl)
theorem dX0_isWayTaken_102 : decode cX0_isWayTaken 102 = .ok (.getfield 104, 3) := dk_180 0 104 (dk_at dksX0_isWayTaken_4 8 rfl rfl)
theorem dX0_isWayTaken_105 : decode cX0_isWayTaken 105 = .ok (.iload_n 3, 1) := dk_29 (dk_at dksX0_isWayTaken_4 11 rfl rfl)
theorem dX0_isWayTaken_106 : decode cX0_isWayTaken 106 = .ok (.iload 6, 2) := dk_21 6 (dk_at dksX0_isWayTaken_4 12 rfl rfl)
theorem dX0_isWayTaken_108 : decode cX0_isWayTaken 108 = .ok (.iastore, 1) := dk_79 (dk_at dksX0_isWayTaken_4 14 rfl rfl)
theorem dX0_isWayTaken_109 : decode cX0_isWayTaken 109 = .ok (.iconst 0, 1) := dk_3 (dk_at dksX0_isWayTaken_4 15 rfl rfl)
theorem dX0_isWayTaken_110 : decode cX0_isWayTaken 110 = .ok (.istore 7, 2) := dk_54 7 (dk_at dksX0_isWayTaken_4 16 rfl rfl)
theorem dX0_isWayTaken_112 : decode cX0_isWayTaken 112 = .ok (.iload 7, 2) := dk_21 7 (dk_at dksX0_isWayTaken_4 18 rfl rfl)
theorem dX0_isWayTaken_114 : decode cX0_isWayTaken 114 = .ok (.iload_n 3, 1) := dk_29 (dk_at dksX0_isWayTaken_4 20 rfl rfl)
theorem dX0_isWayTaken_115 : decode cX0_isWayTaken 115 = .ok (.if_icmp .ge 30, 3) := dk_162 0 30 (dk_at dksX0_isWayTaken_4 21 rfl rfl)
theorem dX0_isWayTaken_118 : decode cX0_isWayTaken 118 = .ok (.aload_n 0, 1) := dk_42 (dk_at dksX0_isWayTaken_5 0 rfl rfl)
theorem dX0_isWayTaken_119 : decode cX0_isWayTaken 119 = .ok (.getfield 104, 3) := dk_180 0 104 (dk_at dksX0_isWayTaken_5 1 rfl rfl)
theorem dX0_isWayTaken_122 : decode cX0_isWayTaken 122 = .ok (.iload 7, 2) := dk_21 7 (dk_at dksX0_isWayTaken_5 4 rfl rfl)
theorem dX0_isWayTaken_124 : decode cX0_isWayTaken 124 = .ok (.iaload, 1) := dk_46 (dk_at dksX0_isWayTaken_5 6 rfl rfl)
theorem dX0_isWayTaken_125 : decode cX0_isWayTaken 125 = .ok (.iload 6, 2) := dk_21 6 (dk_at dksX0_isWayTaken_5 7 rfl rfl)
theorem dX0_isWayTaken_127 : decode cX0_isWayTaken 127 = .ok (.if_icmp .ne 8, 3) := dk_160 0 8 (dk_at dksX0_isWayTaken_5 9 rfl rfl)
theorem dX0_isWayTaken_130 : decode cX0_isWayTaken 130 = .ok (.iload 7, 2) := dk_21 7 (dk_at dksX0_isWayTaken_5 12 rfl rfl)
theorem dX0_isWayTaken_132 : decode cX0_isWayTaken 132 = .ok (.goto 5, 3) := dk_167 0 5 (dk_at dksX0_isWayTaken_5 14 rfl rfl)
theorem dX0_isWayTaken_135 : decode cX0_isWayTaken 135 = .ok (.iload 4, 2) := dk_21 4 (dk_at dksX0_isWayTaken_5 17 rfl rfl)
theorem dX0_isWayTaken_137 : decode cX0_isWayTaken 137 = .ok (.istore 4, 2) := dk_54 4 (dk_at dksX0_isWayTaken_5 19 rfl rfl)
theorem dX0_isWayTaken_139 : decode cX0_isWayTaken 139 = .ok (.iinc 7 1, 3) := dk_132 7 1 (dk_at dksX0_isWayTaken_5 21 rfl rfl)
theorem dX0_isWayTaken_142 : decode cX0_isWayTaken 142 = .ok (.goto (-30), 3) := dk_167 255 226 (dk_at dksX0_isWayTaken_6 0 rfl rfl)
theorem dX0_isWayTaken_145 : decode cX0_isWayTaken 145 = .ok (.iload 4, 2) := dk_21 4 (dk_at dksX0_isWayTaken_6 3 rfl rfl)
theorem dX0_isWayTaken_147 : decode cX0_isWayTaken 147 = .ok (.bipush (-5), 2) := dk_16 251 (dk_at dksX0_isWayTaken_6 5 rfl rfl)
theorem dX0_isWayTaken_149 : decode cX0_isWayTaken 149 = .ok (.if_icmp .ne 21, 3) := dk_160 0 21 (dk_at dksX0_isWayTaken_6 7 rfl rfl)
theorem dX0_isWayTaken_152 : decode cX0_isWayTaken 152 = .ok (.iload_n 2, 1) := dk_28 (dk_at dksX0_isWayTaken_6 10 rfl rfl)
theorem dX0_isWayTaken_153 : decode cX0_isWayTaken 153 = .ok (.ifCond .eq 13, 3) := dk_153 0 13 (dk_at dksX0_isWayTaken_6 11 rfl rfl)
theorem dX0_isWayTaken_156 : decode cX0_isWayTaken 156 = .ok (.aload_n 0, 1) := dk_42 (dk_at dksX0_isWayTaken_6 14 rfl rfl)
theorem dX0_isWayTaken_157 : decode cX0_isWayTaken 157 = .ok (.getfield 98, 3) := dk_180 0 98 (dk_at dksX0_isWayTaken_6 15 rfl rfl)
theorem dX0_isWayTaken_160 : decode cX0_isWayTaken 160 = .ok (.iload 6, 2) := dk_21 6 (dk_at dksX0_isWayTaken_6 18 rfl rfl)
theorem dX0_isWayTaken_162 : decode cX0_isWayTaken 162 = .ok (.iaload, 1) := dk_46 (dk_at dksX0_isWayTaken_6 20 rfl rfl)
theorem dX0_isWayTaken_163 : decode cX0_isWayTaken 163 = .ok (.ifCond .lt 7, 3) := dk_155 0 7 (dk_at dksX0_isWayTaken_6 21 rfl rfl)
theorem dX0_isWayTaken_166 : decode cX0_isWayTaken 166 = .ok (.iconst 1, 1) := dk_4 (dk_at dksX0_isWayTaken_7 0 rfl rfl)
theorem dX0_isWayTaken_167 : decode cX0_isWayTaken 167 = .ok (.goto 4, 3) := dk_167 0 4 (dk_at dksX0_isWayTaken_7 1 rfl rfl)
theorem dX0_isWayTaken_170 : decode cX0_isWayTaken 170 = .ok (.iconst 0, 1) := dk_3 (dk_at dksX0_isWayTaken_7 4 rfl rfl)
theorem dX0_isWayTaken_171 : decode cX0_isWayTaken 171 = .ok (.istore 5, 2) := dk_54 5 (dk_at dksX0_isWayTaken_7 5 rfl rfl)
theorem dX0_isWayTaken_173 : decode cX0_isWayTaken 173 = .ok (.goto (-112), 3) := dk_167 255 144 (dk_at dksX0_isWayTaken_7 7 rfl rfl)
theorem dX0_isWayTaken_176 : decode cX0_isWayTaken 176 = .ok (.aload_n 0, 1) := dk_42 (dk_at dksX0_isWayTaken_7 10 rfl rfl)
theorem dX0_isWayTaken_177 : decode cX0_isWayTaken 177 = .ok (.iload 4, 2) := dk_21 4 (dk_at dksX0_isWayTaken_7 11 rfl rfl)
theorem dX0_isWayTaken_179 : decode cX0_isWayTaken 179 = .ok (.bipush (-5), 2) := dk_16 251 (dk_at dksX0_isWayTaken_7 13 rfl rfl)
theorem dX0_isWayTaken_181 : decode cX0_isWayTaken 181 = .ok (.if_icmp .ne 7, 3) := dk_160 0 7 (dk_at dksX0_isWayTaken_7 15 rfl rfl)
theorem dX0_isWayTaken_184 : decode cX0_isWayTaken 184 = .ok (.iconst 0, 1) := dk_3 (dk_at dksX0_isWayTaken_7 18 rfl rfl)
theorem dX0_isWayTaken_185 : decode cX0_isWayTaken 185 = .ok (.goto 5, 3) := dk_167 0 5 (dk_at dksX0_isWayTaken_7 19 rfl rfl)
theorem dX0_isWayTaken_188 : decode cX0_isWayTaken 188 = .ok (.iload 4, 2) := dk_21 4 (dk_at dksX0_isWayTaken_7 22 rfl rfl)
theorem dX0_isWayTaken_190 : decode cX0_isWayTaken 190 = .ok (.iload_n 3, 1) := dk_29 (dk_at dksX0_isWayTaken_8 0 rfl rfl)
theorem dX0_isWayTaken_191 : decode cX0_isWayTaken 191 = .ok (.iload 4, 2) := dk_21 4 (dk_at dksX0_isWayTaken_8 1 rfl rfl)
theorem dX0_isWayTaken_193 : decode cX0_isWayTaken 193 = .ok (.bipush (-5), 2) := dk_16 251 (dk_at dksX0_isWayTaken_8 3 rfl rfl)
theorem dX0_isWayTaken_195 : decode cX0_isWayTaken 195 = .ok (.if_icmp .eq 7, 3) := dk_159 0 7 (dk_at dksX0_isWayTaken_8 5 rfl rfl)
theorem dX0_isWayTaken_198 : decode cX0_isWayTaken 198 = .ok (.iconst 1, 1) := dk_4 (dk_at dksX0_isWayTaken_8 8 rfl rfl)
theorem dX0_isWayTaken_199 : decode cX0_isWayTaken 199 = .ok (.goto 4, 3) := dk_167 0 4 (dk_at dksX0_isWayTaken_8 9 rfl rfl)
theorem dX0_isWayTaken_202 : decode cX0_isWayTaken 202 = .ok (.iconst 0, 1) := dk_3 (dk_at dksX0_isWayTaken_8 12 rfl rfl)
theorem dX0_isWayTaken_203 : decode cX0_isWayTaken 203 = .ok (.invokevirtual 573, 3) := dk_182 2 61 (dk_at dksX0_isWayTaken_8 13 rfl rfl)
theorem dX0_isWayTaken_206 : decode cX0_isWayTaken 206 = .ok (.iconst 1, 1) := dk_4 (dk_at dksX0_isWayTaken_8 16 rfl rfl)
theorem dX0_isWayTaken_207 : decode cX0_isWayTaken 207 = .ok (.ireturn, 1) := dk_172 (dk_at dksX0_isWayTaken_8 17 rfl rfl)
abbrev cX0_townLeft : ByteArray := prog_1_method_68_code
def yX0_townLeft : MethodName := ⟨RX0, "townLeft", "()I"⟩
def dkwX0_townLeft_1 : List UInt8 := [167, 255, 234, 16, 251, 172]
abbrev dktX0_townLeft_1 : List UInt8 := dkwX0_townLeft_1 ++ []
def dkwX0_townLeft_0 : List UInt8 := [3, 60, 27, 42, 180, 0, 11, 162, 0, 20, 42, 180, 0, 98, 27, 46, 158, 0, 5, 27, 172, 132, 1, 1]
abbrev dktX0_townLeft_0 : List UInt8 := dkwX0_townLeft_0 ++ dktX0_townLeft_1
theorem dksX0_townLeft_0 : cX0_townLeft.data.toList.drop 0 = dktX0_townLeft_0 := by decide +kernel
theorem dksX0_townLeft_1 : cX0_townLeft.data.toList.drop 24 = dktX0_townLeft_1 := dk_seg dksX0_townLeft_0 24 rfl rfl
theorem dX0_townLeft_0 : decode cX0_townLeft 0 = .ok (.iconst 0, 1) := dk_3 (dk_at dksX0_townLeft_0 0 rfl rfl)
theorem dX0_townLeft_1 : decode cX0_townLeft 1 = .ok (.istore_n 1, 1) := dk_60 (dk_at dksX0_townLeft_0 1 rfl rfl)
theorem dX0_townLeft_2 : decode cX0_townLeft 2 = .ok (.iload_n 1, 1) := dk_27 (dk_at dksX0_townLeft_0 2 rfl rfl)
theorem dX0_townLeft_3 : decode cX0_townLeft 3 = .ok (.aload_n 0, 1) := dk_42 (dk_at dksX0_townLeft_0 3 rfl rfl)
theorem dX0_townLeft_4 : decode cX0_townLeft 4 = .ok (.getfield 11, 3) := dk_180 0 11 (dk_at dksX0_townLeft_0 4 rfl rfl)
theorem dX0_townLeft_7 : decode cX0_townLeft 7 = .ok (.if_icmp .ge 20, 3) := dk_162 0 20 (dk_at dksX0_townLeft_0 7 rfl rfl)
theorem dX0_townLeft_10 : decode cX0_townLeft 10 = .ok (.aload_n 0, 1) := dk_42 (dk_at dksX0_townLeft_0 10 rfl rfl)
theorem dX0_townLeft_11 : decode cX0_townLeft 11 = .ok (.getfield 98, 3) := dk_180 0 98 (dk_at dksX0_townLeft_0 11 rfl rfl)
theorem dX0_townLeft_14 : decode cX0_townLeft 14 = .ok (.iload_n 1, 1) := dk_27 (dk_at dksX0_townLeft_0 14 rfl rfl)
theorem dX0_townLeft_15 : decode cX0_townLeft 15 = .ok (.iaload, 1) := dk_46 (dk_at dksX0_townLeft_0 15 rfl rfl)
theorem dX0_townLeft_16 : decode cX0_townLeft 16 = .ok (.ifCond .le 5, 3) := dk_158 0 5 (dk_at dksX0_townLeft_0 16 rfl rfl)
theorem dX0_townLeft_19 : decode cX0_townLeft 19 = .ok (.iload_n 1, 1) := dk_27 (dk_at dksX0_townLeft_0 19 rfl rfl)
theorem dX0_townLeft_20 : decode cX0_townLeft 20 = .ok (.ireturn, 1) := dk_172 (dk_at dksX0_townLeft_0 20 rfl rfl)
theorem dX0_townLeft_21 : decode cX0_townLeft 21 = .ok (.iinc 1 1, 3) := dk_132 1 1 (dk_at dksX0_townLeft_0 21 rfl rfl)
theorem dX0_townLeft_24 : decode cX0_townLeft 24 = .ok (.goto (-22), 3) := dk_167 255 234 (dk_at dksX0_townLeft_1 0 rfl rfl)
theorem dX0_townLeft_27 : decode cX0_townLeft 27 = .ok (.bipush (-5), 2) := dk_16 251 (dk_at dksX0_townLeft_1 3 rfl rfl)
theorem dX0_townLeft_29 : decode cX0_townLeft 29 = .ok (.ireturn, 1) := dk_172 (dk_at dksX0_townLeft_1 5 rfl rfl)
abbrev cX0_roadLeftFrom : ByteArray := prog_1_method_67_code
def yX0_roadLeftFrom : MethodName := ⟨RX0, "roadLeftFrom", "(I)I"⟩
def dkwX0_roadLeftFrom_2 : List UInt8 := [16, 251, 172]
abbrev dktX0_roadLeftFrom_2 : List UInt8 := dkwX0_roadLeftFrom_2 ++ []
def dkwX0_roadLeftFrom_1 : List UInt8 := [159, 0, 16, 42, 180, 0, 29, 180, 1, 127, 28, 46, 27, 160, 0, 5, 28, 172, 132, 2, 1, 167, 255, 213]
abbrev dktX0_roadLeftFrom_1 : List UInt8 := dkwX0_roadLeftFrom_1 ++ dktX0_roadLeftFrom_2
def dkwX0_roadLeftFrom_0 : List UInt8 := [3, 61, 28, 42, 180, 0, 29, 180, 0, 157, 162, 0, 38, 42, 180, 0, 95, 28, 46, 158, 0, 23, 27, 2]
abbrev dktX0_roadLeftFrom_0 : List UInt8 := dkwX0_roadLeftFrom_0 ++ dktX0_roadLeftFrom_1
theorem dksX0_roadLeftFrom_0 : cX0_roadLeftFrom.data.toList.drop 0 = dktX0_roadLeftFrom_0 := by decide +kernel
theorem dksX0_roadLeftFrom_1 : cX0_roadLeftFrom.data.toList.drop 24 = dktX0_roadLeftFrom_1 := dk_seg dksX0_roadLeftFrom_0 24 rfl rfl
theorem dksX0_roadLeftFrom_2 : cX0_roadLeftFrom.data.toList.drop 48 = dktX0_roadLeftFrom_2 := dk_seg dksX0_roadLeftFrom_1 24 rfl rfl
theorem dX0_roadLeftFrom_0 : decode cX0_roadLeftFrom 0 = .ok (.iconst 0, 1) := dk_3 (dk_at dksX0_roadLeftFrom_0 0 rfl rfl)
theorem dX0_roadLeftFrom_1 : decode cX0_roadLeftFrom 1 = .ok (.istore_n 2, 1) := dk_61 (dk_at dksX0_roadLeftFrom_0 1 rfl rfl)
theorem dX0_roadLeftFrom_2 : decode cX0_roadLeftFrom 2 = .ok (.iload_n 2, 1) := dk_28 (dk_at dksX0_roadLeftFrom_0 2 rfl rfl)
theorem dX0_roadLeftFrom_3 : decode cX0_roadLeftFrom 3 = .ok (.aload_n 0, 1) := dk_42 (dk_at dksX0_roadLeftFrom_0 3 rfl rfl)
theorem dX0_roadLeftFrom_4 : decode cX0_roadLeftFrom 4 = .ok (.getfield 29, 3) := dk_180 0 29 (dk_at dksX0_roadLeftFrom_0 4 rfl rfl)
theorem dX0_roadLeftFrom_7 : decode cX0_roadLeftFrom 7 = .ok (.getfield 157, 3) := dk_180 0 157 (dk_at dksX0_roadLeftFrom_0 7 rfl rfl)
theorem dX0_roadLeftFrom_10 : decode cX0_roadLeftFrom 10 = .ok (.if_icmp .ge 38, 3) := dk_162 0 38 (dk_at dksX0_roadLeftFrom_0 10 rfl rfl)
theorem dX0_roadLeftFrom_13 : decode cX0_roadLeftFrom 13 = .ok (.aload_n 0, 1) := dk_42 (dk_at dksX0_roadLeftFrom_0 13 rfl rfl)
theorem dX0_roadLeftFrom_14 : decode cX0_roadLeftFrom 14 = .ok (.getfield 95, 3) := dk_180 0 95 (dk_at dksX0_roadLeftFrom_0 14 rfl rfl)
theorem dX0_roadLeftFrom_17 : decode cX0_roadLeftFrom 17 = .ok (.iload_n 2, 1) := dk_28 (dk_at dksX0_roadLeftFrom_0 17 rfl rfl)
theorem dX0_roadLeftFrom_18 : decode cX0_roadLeftFrom 18 = .ok (.iaload, 1) := dk_46 (dk_at dksX0_roadLeftFrom_0 18 rfl rfl)
theorem dX0_roadLeftFrom_19 : decode cX0_roadLeftFrom 19 = .ok (.ifCond .le 23, 3) := dk_158 0 23 (dk_at dksX0_roadLeftFrom_0 19 rfl rfl)
theorem dX0_roadLeftFrom_22 : decode cX0_roadLeftFrom 22 = .ok (.iload_n 1, 1) := dk_27 (dk_at dksX0_roadLeftFrom_0 22 rfl rfl)
theorem dX0_roadLeftFrom_23 : decode cX0_roadLeftFrom 23 = .ok (.iconst (-1), 1) := dk_2 (dk_at dksX0_roadLeftFrom_0 23 rfl rfl)
theorem dX0_roadLeftFrom_24 : decode cX0_roadLeftFrom 24 = .ok (.if_icmp .eq 16, 3) := dk_159 0 16 (dk_at dksX0_roadLeftFrom_1 0 rfl rfl)
theorem dX0_roadLeftFrom_27 : decode cX0_roadLeftFrom 27 = .ok (.aload_n 0, 1) := dk_42 (dk_at dksX0_roadLeftFrom_1 3 rfl rfl)
theorem dX0_roadLeftFrom_28 : decode cX0_roadLeftFrom 28 = .ok (.getfield 29, 3) := dk_180 0 29 (dk_at dksX0_roadLeftFrom_1 4 rfl rfl)
theorem dX0_roadLeftFrom_31 : decode cX0_roadLeftFrom 31 = .ok (.getfield 383, 3) := dk_180 1 127 (dk_at dksX0_roadLeftFrom_1 7 rfl rfl)
theorem dX0_roadLeftFrom_34 : decode cX0_roadLeftFrom 34 = .ok (.iload_n 2, 1) := dk_28 (dk_at dksX0_roadLeftFrom_1 10 rfl rfl)
theorem dX0_roadLeftFrom_35 : decode cX0_roadLeftFrom 35 = .ok (.iaload, 1) := dk_46 (dk_at dksX0_roadLeftFrom_1 11 rfl rfl)
theorem dX0_roadLeftFrom_36 : decode cX0_roadLeftFrom 36 = .ok (.iload_n 1, 1) := dk_27 (dk_at dksX0_roadLeftFrom_1 12 rfl rfl)
theorem dX0_roadLeftFrom_37 : decode cX0_roadLeftFrom 37 = .ok (.if_icmp .ne 5, 3) := dk_160 0 5 (dk_at dksX0_roadLeftFrom_1 13 rfl rfl)
theorem dX0_roadLeftFrom_40 : decode cX0_roadLeftFrom 40 = .ok (.iload_n 2, 1) := dk_28 (dk_at dksX0_roadLeftFrom_1 16 rfl rfl)
theorem dX0_roadLeftFrom_41 : decode cX0_roadLeftFrom 41 = .ok (.ireturn, 1) := dk_172 (dk_at dksX0_roadLeftFrom_1 17 rfl rfl)
theorem dX0_roadLeftFrom_42 : decode cX0_roadLeftFrom 42 = .ok (.iinc 2 1, 3) := dk_132 2 1 (dk_at dksX0_roadLeftFrom_1 18 rfl rfl)
theorem dX0_roadLeftFrom_45 : decode cX0_roadLeftFrom 45 = .ok (.goto (-43), 3) := dk_167 255 213 (dk_at dksX0_roadLeftFrom_1 21 rfl rfl)
theorem dX0_roadLeftFrom_48 : decode cX0_roadLeftFrom 48 = .ok (.bipush (-5), 2) := dk_16 251 (dk_at dksX0_roadLeftFrom_2 0 rfl rfl)
theorem dX0_roadLeftFrom_50 : decode cX0_roadLeftFrom 50 = .ok (.ireturn, 1) := dk_172 (dk_at dksX0_roadLeftFrom_2 2 rfl rfl)
abbrev cX0_takes : ByteArray := prog_1_method_70_code
def yX0_takes : MethodName := ⟨RX0, "takes", "(IIZ)V"⟩
def dkwX0_takes_9 : List UInt8 := [182, 0, 251, 177]
abbrev dktX0_takes_9 : List UInt8 := dkwX0_takes_9 ++ []
def dkwX0_takes_8 : List UInt8 := [180, 0, 98, 42, 180, 0, 104, 28, 46, 92, 46, 25, 4, 180, 2, 70, 96, 79, 42, 180, 0, 92, 25, 4]
abbrev dktX0_takes_8 : List UInt8 := dkwX0_takes_8 ++ dktX0_takes_9
def dkwX0_takes_7 : List UInt8 := [154, 0, 41, 42, 180, 0, 98, 42, 180, 0, 104, 27, 46, 92, 46, 25, 4, 180, 2, 70, 100, 79, 42]
abbrev dktX0_takes_7 : List UInt8 := dkwX0_takes_7 ++ dktX0_takes_8
def dkwX0_takes_6 : List UInt8 := [180, 0, 101, 21, 5, 46, 92, 46, 25, 4, 180, 2, 70, 100, 79, 132, 5, 1, 167, 255, 227, 29]
abbrev dktX0_takes_6 : List UInt8 := dkwX0_takes_6 ++ dktX0_takes_7
def dkwX0_takes_5 : List UInt8 := [181, 2, 70, 132, 5, 1, 167, 255, 197, 27, 54, 5, 21, 5, 28, 162, 0, 29, 42, 180, 0, 95, 42]
abbrev dktX0_takes_5 : List UInt8 := dkwX0_takes_5 ++ dktX0_takes_6
def dkwX0_takes_4 : List UInt8 := [25, 4, 25, 4, 180, 2, 70, 42, 180, 0, 95, 42, 180, 0, 101, 21, 5, 46, 46, 184, 2, 37]
abbrev dktX0_takes_4 : List UInt8 := dkwX0_takes_4 ++ dktX0_takes_5
def dkwX0_takes_3 : List UInt8 := [180, 2, 71, 25, 4, 89, 180, 2, 73, 90, 4, 96, 181, 2, 73, 42, 180, 0, 101, 21, 5, 46, 79]
abbrev dktX0_takes_3 : List UInt8 := dkwX0_takes_3 ++ dktX0_takes_4
def dkwX0_takes_2 : List UInt8 := [180, 0, 104, 28, 46, 46, 116, 184, 2, 37, 181, 2, 70, 27, 54, 5, 21, 5, 28, 162, 0, 59, 25, 4]
abbrev dktX0_takes_2 : List UInt8 := dkwX0_takes_2 ++ dktX0_takes_3
def dkwX0_takes_1 : List UInt8 := [153, 0, 8, 16, 99, 167, 0, 29, 42, 180, 0, 98, 42, 180, 0, 104, 27, 46, 46, 42, 180, 0, 98, 42]
abbrev dktX0_takes_1 : List UInt8 := dkwX0_takes_1 ++ dktX0_takes_2
def dkwX0_takes_0 : List UInt8 := [187, 2, 65, 89, 42, 180, 0, 104, 27, 46, 183, 2, 67, 58, 4, 25, 4, 29, 181, 2, 68, 25, 4, 29]
abbrev dktX0_takes_0 : List UInt8 := dkwX0_takes_0 ++ dktX0_takes_1
theorem dksX0_takes_0 : cX0_takes.data.toList.drop 0 = dktX0_takes_0 := by decide +kernel
theorem dksX0_takes_1 : cX0_takes.data.toList.drop 24 = dktX0_takes_1 := dk_seg dksX0_takes_0 24 rfl rfl
theorem dksX0_takes_2 : cX0_takes.data.toList.drop 48 = dktX0_takes_2 := dk_seg dksX0_takes_1 24 rfl rfl
theorem dksX0_takes_3 : cX0_takes.data.toList.drop 72 = dktX0_takes_3 := dk_seg dksX0_takes_2 24 rfl rfl
theorem dksX0_takes_4 : cX0_takes.data.toList.drop 95 = dktX0_takes_4 := dk_seg dksX0_takes_3 23 rfl rfl
theorem dksX0_takes_5 : cX0_takes.data.toList.drop 117 = dktX0_takes_5 := dk_seg dksX0_takes_4 22 rfl rfl
theorem dksX0_takes_6 : cX0_takes.data.toList.drop 140 = dktX0_takes_6 := dk_seg dksX0_takes_5 23 rfl rfl
theorem dksX0_takes_7 : cX0_takes.data.toList.drop 162 = dktX0_takes_7 := dk_seg dksX0_takes_6 22 rfl rfl
theorem dksX0_takes_8 : cX0_takes.data.toList.drop 185 = dktX0_takes_8 := dk_seg dksX0_takes_7 23 rfl rfl
theorem dksX0_takes_9 : cX0_takes.data.toList.drop 209 = dktX0_takes_9 := dk_seg dksX0_takes_8 24 rfl rfl
theorem dX0_takes_0 : decode cX0_takes 0 = .ok (.new 577, 3) := dk_187 2 65 (dk_at dksX0_takes_0 0 rfl rfl)
theorem dX0_takes_3 : decode cX0_takes 3 = .ok (.dup, 1) := dk_89 (dk_at dksX0_takes_0 3 rfl rfl)
theorem dX0_takes_4 : decode cX0_takes 4 = .ok (.aload_n 0, 1) := dk_42 (dk_at dksX0_takes_0 4 rfl rfl)
theorem dX0_takes_5 : decode cX0_takes 5 = .ok (.getfield 104, 3) := dk_180 0 104 (dk_at dksX0_takes_0 5 rfl rfl)
theorem dX0_takes_8 : decode cX0_takes 8 = .ok (.iload_n 1, 1) := dk_27 (dk_at dksX0_takes_0 8 rfl rfl)
theorem dX0_takes_9 : decode cX0_takes 9 = .ok (.iaload, 1) := dk_46 (dk_at dksX0_takes_0 9 rfl rfl)
theorem dX0_takes_10 : decode cX0_takes 10 = .ok (.invokespecial 579, 3) := dk_183 2 67 (dk_at dksX0_takes_0 10 rfl rfl)
theorem dX0_takes_13 : decode cX0_takes 13 = .ok (.astore 4, 2) := dk_58 4 (dk_at dksX0_takes_0 13 rfl rfl)
theorem dX0_takes_15 : decode cX0_takes 15 = .ok (.aload 4, 2) := dk_25 4 (dk_at dksX0_takes_0 15 rfl rfl)
theorem dX0_takes_17 : decode cX0_takes 17 = .ok (.iload_n 3, 1) := dk_29 (dk_at dksX0_takes_0 17 rfl rfl)
theorem dX0_takes_18 : decode cX0_takes 18 = .ok (.putfield 580, 3) := dk_181 2 68 (dk_at dksX0_takes_0 18 rfl rfl)
theorem dX0_takes_21 : decode cX0_takes 21 = .ok (.aload 4, 2) := dk_25 4 (dk_at dksX0_takes_0 21 rfl rfl)
theorem dX0_takes_23 : decode cX0_takes 23 = .ok (.iload_n 3, 1) := dk_29 (dk_at dksX0_takes_0 23 rfl rfl)
theorem dX0_takes_24 : decode cX0_takes 24 = .ok (.ifCond .eq 8, 3) := dk_153 0 8 (dk_at dksX0_takes_1 0 rfl rfl)
theorem dX0_takes_27 : decode cX0_takes 27 = .ok (.bipush 99, 2) := dk_16 99 (dk_at dksX0_takes_1 3 rfl rfl)
theorem dX0_takes_29 : decode cX0_takes 29 = .ok (.goto 29, 3) := dk_167 0 29 (dk_at dksX0_takes_1 5 rfl rfl)
theorem dX0_takes_32 : decode cX0_takes 32 = .ok (.aload_n 0, 1) := dk_42 (dk_at dksX0_takes_1 8 rfl rfl)
theorem dX0_takes_33 : decode cX0_takes 33 = .ok (.getfield 98, 3) := dk_180 0 98 (dk_at dksX0_takes_1 9 rfl rfl)
theorem dX0_takes_36 : decode cX0_takes 36 = .ok (.aload_n 0, 1) := dk_42 (dk_at dksX0_takes_1 12 rfl rfl)
theorem dX0_takes_37 : decode cX0_takes 37 = .ok (.getfield 104, 3) := dk_180 0 104 (dk_at dksX0_takes_1 13 rfl rfl)
theorem dX0_takes_40 : decode cX0_takes 40 = .ok (.iload_n 1, 1) := dk_27 (dk_at dksX0_takes_1 16 rfl rfl)
theorem dX0_takes_41 : decode cX0_takes 41 = .ok (.iaload, 1) := dk_46 (dk_at dksX0_takes_1 17 rfl rfl)
theorem dX0_takes_42 : decode cX0_takes 42 = .ok (.iaload, 1) := dk_46 (dk_at dksX0_takes_1 18 rfl rfl)
theorem dX0_takes_43 : decode cX0_takes 43 = .ok (.aload_n 0, 1) := dk_42 (dk_at dksX0_takes_1 19 rfl rfl)
theorem dX0_takes_44 : decode cX0_takes 44 = .ok (.getfield 98, 3) := dk_180 0 98 (dk_at dksX0_takes_1 20 rfl rfl)
theorem dX0_takes_47 : decode cX0_takes 47 = .ok (.aload_n 0, 1) := dk_42 (dk_at dksX0_takes_1 23 rfl rfl)
theorem dX0_takes_48 : decode cX0_takes 48 = .ok (.getfield 104, 3) := dk_180 0 104 (dk_at dksX0_takes_2 0 rfl rfl)
theorem dX0_takes_51 : decode cX0_takes 51 = .ok (.iload_n 2, 1) := dk_28 (dk_at dksX0_takes_2 3 rfl rfl)
theorem dX0_takes_52 : decode cX0_takes 52 = .ok (.iaload, 1) := dk_46 (dk_at dksX0_takes_2 4 rfl rfl)
theorem dX0_takes_53 : decode cX0_takes 53 = .ok (.iaload, 1) := dk_46 (dk_at dksX0_takes_2 5 rfl rfl)
theorem dX0_takes_54 : decode cX0_takes 54 = .ok (.ineg, 1) := dk_116 (dk_at dksX0_takes_2 6 rfl rfl)
theorem dX0_takes_55 : decode cX0_takes 55 = .ok (.invokestatic 549, 3) := dk_184 2 37 (dk_at dksX0_takes_2 7 rfl rfl)
theorem dX0_takes_58 : decode cX0_takes 58 = .ok (.putfield 582, 3) := dk_181 2 70 (dk_at dksX0_takes_2 10 rfl rfl)
theorem dX0_takes_61 : decode cX0_takes 61 = .ok (.iload_n 1, 1) := dk_27 (dk_at dksX0_takes_2 13 rfl rfl)
theorem dX0_takes_62 : decode cX0_takes 62 = .ok (.istore 5, 2) := dk_54 5 (dk_at dksX0_takes_2 14 rfl rfl)
theorem dX0_takes_64 : decode cX0_takes 64 = .ok (.iload 5, 2) := dk_21 5 (dk_at dksX0_takes_2 16 rfl rfl)
theorem dX0_takes_66 : decode cX0_takes 66 = .ok (.iload_n 2, 1) := dk_28 (dk_at dksX0_takes_2 18 rfl rfl)
theorem dX0_takes_67 : decode cX0_takes 67 = .ok (.if_icmp .ge 59, 3) := dk_162 0 59 (dk_at dksX0_takes_2 19 rfl rfl)
theorem dX0_takes_70 : decode cX0_takes 70 = .ok (.aload 4, 2) := dk_25 4 (dk_at dksX0_takes_2 22 rfl rfl)
theorem dX0_takes_72 : decode cX0_takes 72 = .ok (.getfield 583, 3) := dk_180 2 71 (dk_at dksX0_takes_3 0 rfl rfl)
theorem dX0_takes_75 : decode cX0_takes 75 = .ok (.aload 4, 2) := dk_25 4 (dk_at dksX0_takes_3 3 rfl rfl)
theorem dX0_takes_77 : decode cX0_takes 77 = .ok (.dup, 1) := dk_89 (dk_at dksX0_takes_3 5 rfl rfl)
theorem dX0_takes_78 : decode cX0_takes 78 = .ok (.getfield 585, 3) := dk_180 2 73 (dk_at dksX0_takes_3 6 rfl rfl)
theorem dX0_takes_81 : decode cX0_takes 81 = .ok (.dup_x1, 1) := dk_90 (dk_at dksX0_takes_3 9 rfl rfl)
theorem dX0_takes_82 : decode cX0_takes 82 = .ok (.iconst 1, 1) := dk_4 (dk_at dksX0_takes_3 10 rfl rfl)
theorem dX0_takes_83 : decode cX0_takes 83 = .ok (.iadd, 1) := dk_96 (dk_at dksX0_takes_3 11 rfl rfl)
theorem dX0_takes_84 : decode cX0_takes 84 = .ok (.putfield 585, 3) := dk_181 2 73 (dk_at dksX0_takes_3 12 rfl rfl)
theorem dX0_takes_87 : decode cX0_takes 87 = .ok (.aload_n 0, 1) := dk_42 (dk_at dksX0_takes_3 15 rfl rfl)
theorem dX0_takes_88 : decode cX0_takes 88 = .ok (.getfield 101, 3) := dk_180 0 101 (dk_at dksX0_takes_3 16 rfl rfl)
theorem dX0_takes_91 : decode cX0_takes 91 = .ok (.iload 5, 2) := dk_21 5 (dk_at dksX0_takes_3 19 rfl rfl)
theorem dX0_takes_93 : decode cX0_takes 93 = .ok (.iaload, 1) := dk_46 (dk_at dksX0_takes_3 21 rfl rfl)
theorem dX0_takes_94 : decode cX0_takes 94 = .ok (.iastore, 1) := dk_79 (dk_at dksX0_takes_3 22 rfl rfl)
theorem dX0_takes_95 : decode cX0_takes 95 = .ok (.aload 4, 2) := dk_25 4 (dk_at dksX0_takes_4 0 rfl rfl)
theorem dX0_takes_97 : decode cX0_takes 97 = .ok (.aload 4, 2) := dk_25 4 (dk_at dksX0_takes_4 2 rfl rfl)
theorem dX0_takes_99 : decode cX0_takes 99 = .ok (.getfield 582, 3) := dk_180 2 70 (dk_at dksX0_takes_4 4 rfl rfl)
theorem dX0_takes_102 : decode cX0_takes 102 = .ok (.aload_n 0, 1) := dk_42 (dk_at dksX0_takes_4 7 rfl rfl)
theorem dX0_takes_103 : decode cX0_takes 103 = .ok (.getfield 95, 3) := dk_180 0 95 (dk_at dksX0_takes_4 8 rfl rfl)
theorem dX0_takes_106 : decode cX0_takes 106 = .ok (.aload_n 0, 1) := dk_42 (dk_at dksX0_takes_4 11 rfl rfl)
theorem dX0_takes_107 : decode cX0_takes 107 = .ok (.getfield 101, 3) := dk_180 0 101 (dk_at dksX0_takes_4 12 rfl rfl)
theorem dX0_takes_110 : decode cX0_takes 110 = .ok (.iload 5, 2) := dk_21 5 (dk_at dksX0_takes_4 15 rfl rfl)
theorem dX0_takes_112 : decode cX0_takes 112 = .ok (.iaload, 1) := dk_46 (dk_at dksX0_takes_4 17 rfl rfl)
theorem dX0_takes_113 : decode cX0_takes 113 = .ok (.iaload, 1) := dk_46 (dk_at dksX0_takes_4 18 rfl rfl)
theorem dX0_takes_114 : decode cX0_takes 114 = .ok (.invokestatic 549, 3) := dk_184 2 37 (dk_at dksX0_takes_4 19 rfl rfl)
theorem dX0_takes_117 : decode cX0_takes 117 = .ok (.putfield 582, 3) := dk_181 2 70 (dk_at dksX0_takes_5 0 rfl rfl)
theorem dX0_takes_120 : decode cX0_takes 120 = .ok (.iinc 5 1, 3) := dk_132 5 1 (dk_at dksX0_takes_5 3 rfl rfl)
theorem dX0_takes_123 : decode cX0_takes 123 = .ok (.goto (-59), 3) := dk_167 255 197 (dk_at dksX0_takes_5 6 rfl rfl)
theorem dX0_takes_126 : decode cX0_takes 126 = .ok (.iload_n 1, 1) := dk_27 (dk_at dksX0_takes_5 9 rfl rfl)
theorem dX0_takes_127 : decode cX0_takes 127 = .ok (.istore 5, 2) := dk_54 5 (dk_at dksX0_takes_5 10 rfl rfl)
theorem dX0_takes_129 : decode cX0_takes 129 = .ok (.iload 5, 2) := dk_21 5 (dk_at dksX0_takes_5 12 rfl rfl)
theorem dX0_takes_131 : decode cX0_takes 131 = .ok (.iload_n 2, 1) := dk_28 (dk_at dksX0_takes_5 14 rfl rfl)
theorem dX0_takes_132 : decode cX0_takes 132 = .ok (.if_icmp .ge 29, 3) := dk_162 0 29 (dk_at dksX0_takes_5 15 rfl rfl)
theorem dX0_takes_135 : decode cX0_takes 135 = .ok (.aload_n 0, 1) := dk_42 (dk_at dksX0_takes_5 18 rfl rfl)
theorem dX0_takes_136 : decode cX0_takes 136 = .ok (.getfield 95, 3) := dk_180 0 95 (dk_at dksX0_takes_5 19 rfl rfl)
theorem dX0_takes_139 : decode cX0_takes 139 = .ok (.aload_n 0, 1) := dk_42 (dk_at dksX0_takes_5 22 rfl rfl)
theorem dX0_takes_140 : decode cX0_takes 140 = .ok (.getfield 101, 3) := dk_180 0 101 (dk_at dksX0_takes_6 0 rfl rfl)
theorem dX0_takes_143 : decode cX0_takes 143 = .ok (.iload 5, 2) := dk_21 5 (dk_at dksX0_takes_6 3 rfl rfl)
theorem dX0_takes_145 : decode cX0_takes 145 = .ok (.iaload, 1) := dk_46 (dk_at dksX0_takes_6 5 rfl rfl)
theorem dX0_takes_146 : decode cX0_takes 146 = .ok (.dup2, 1) := dk_92 (dk_at dksX0_takes_6 6 rfl rfl)
theorem dX0_takes_147 : decode cX0_takes 147 = .ok (.iaload, 1) := dk_46 (dk_at dksX0_takes_6 7 rfl rfl)
theorem dX0_takes_148 : decode cX0_takes 148 = .ok (.aload 4, 2) := dk_25 4 (dk_at dksX0_takes_6 8 rfl rfl)
theorem dX0_takes_150 : decode cX0_takes 150 = .ok (.getfield 582, 3) := dk_180 2 70 (dk_at dksX0_takes_6 10 rfl rfl)
theorem dX0_takes_153 : decode cX0_takes 153 = .ok (.isub, 1) := dk_100 (dk_at dksX0_takes_6 13 rfl rfl)
theorem dX0_takes_154 : decode cX0_takes 154 = .ok (.iastore, 1) := dk_79 (dk_at dksX0_takes_6 14 rfl rfl)
theorem dX0_takes_155 : decode cX0_takes 155 = .ok (.iinc 5 1, 3) := dk_132 5 1 (dk_at dksX0_takes_6 15 rfl rfl)
theorem dX0_takes_158 : decode cX0_takes 158 = .ok (.goto (-29), 3) := dk_167 255 227 (dk_at dksX0_takes_6 18 rfl rfl)
theorem dX0_takes_161 : decode cX0_takes 161 = .ok (.iload_n 3, 1) := dk_29 (dk_at dksX0_takes_6 21 rfl rfl)
theorem dX0_takes_162 : decode cX0_takes 162 = .ok (.ifCond .ne 41, 3) := dk_154 0 41 (dk_at dksX0_takes_7 0 rfl rfl)
theorem dX0_takes_165 : decode cX0_takes 165 = .ok (.aload_n 0, 1) := dk_42 (dk_at dksX0_takes_7 3 rfl rfl)
theorem dX0_takes_166 : decode cX0_takes 166 = .ok (.getfield 98, 3) := dk_180 0 98 (dk_at dksX0_takes_7 4 rfl rfl)
theorem dX0_takes_169 : decode cX0_takes 169 = .ok (.aload_n 0, 1) := dk_42 (dk_at dksX0_takes_7 7 rfl rfl)
theorem dX0_takes_170 : decode cX0_takes 170 = .ok (.getfield 104, 3) := dk_180 0 104 (dk_at dksX0_takes_7 8 rfl rfl)
theorem dX0_takes_173 : decode cX0_takes 173 = .ok (.iload_n 1, 1) := dk_27 (dk_at dksX0_takes_7 11 rfl rfl)
theorem dX0_takes_174 : decode cX0_takes 174 = .ok (.iaload, 1) := dk_46 (dk_at dksX0_takes_7 12 rfl rfl)
theorem dX0_takes_175 : decode cX0_takes 175 = .ok (.dup2, 1) := dk_92 (dk_at dksX0_takes_7 13 rfl rfl)
theorem dX0_takes_176 : decode cX0_takes 176 = .ok (.iaload, 1) := dk_46 (dk_at dksX0_takes_7 14 rfl rfl)
theorem dX0_takes_177 : decode cX0_takes 177 = .ok (.aload 4, 2) := dk_25 4 (dk_at dksX0_takes_7 15 rfl rfl)
theorem dX0_takes_179 : decode cX0_takes 179 = .ok (.getfield 582, 3) := dk_180 2 70 (dk_at dksX0_takes_7 17 rfl rfl)
theorem dX0_takes_182 : decode cX0_takes 182 = .ok (.isub, 1) := dk_100 (dk_at dksX0_takes_7 20 rfl rfl)
theorem dX0_takes_183 : decode cX0_takes 183 = .ok (.iastore, 1) := dk_79 (dk_at dksX0_takes_7 21 rfl rfl)
theorem dX0_takes_184 : decode cX0_takes 184 = .ok (.aload_n 0, 1) := dk_42 (dk_at dksX0_takes_7 22 rfl rfl)
theorem dX0_takes_185 : decode cX0_takes 185 = .ok (.getfield 98, 3) := dk_180 0 98 (dk_at dksX0_takes_8 0 rfl rfl)
theorem dX0_takes_188 : decode cX0_takes 188 = .ok (.aload_n 0, 1) := dk_42 (dk_at dksX0_takes_8 3 rfl rfl)
theorem dX0_takes_189 : decode cX0_takes 189 = .ok (.getfield 104, 3) := dk_180 0 104 (dk_at dksX0_takes_8 4 rfl rfl)
theorem dX0_takes_192 : decode cX0_takes 192 = .ok (.iload_n 2, 1) := dk_28 (dk_at dksX0_takes_8 7 rfl rfl)
theorem dX0_takes_193 : decode cX0_takes 193 = .ok (.iaload, 1) := dk_46 (dk_at dksX0_takes_8 8 rfl rfl)
theorem dX0_takes_194 : decode cX0_takes 194 = .ok (.dup2, 1) := dk_92 (dk_at dksX0_takes_8 9 rfl rfl)
theorem dX0_takes_195 : decode cX0_takes 195 = .ok (.iaload, 1) := dk_46 (dk_at dksX0_takes_8 10 rfl rfl)
theorem dX0_takes_196 : decode cX0_takes 196 = .ok (.aload 4, 2) := dk_25 4 (dk_at dksX0_takes_8 11 rfl rfl)
theorem dX0_takes_198 : decode cX0_takes 198 = .ok (.getfield 582, 3) := dk_180 2 70 (dk_at dksX0_takes_8 13 rfl rfl)
theorem dX0_takes_201 : decode cX0_takes 201 = .ok (.iadd, 1) := dk_96 (dk_at dksX0_takes_8 16 rfl rfl)
theorem dX0_takes_202 : decode cX0_takes 202 = .ok (.iastore, 1) := dk_79 (dk_at dksX0_takes_8 17 rfl rfl)
theorem dX0_takes_203 : decode cX0_takes 203 = .ok (.aload_n 0, 1) := dk_42 (dk_at dksX0_takes_8 18 rfl rfl)
theorem dX0_takes_204 : decode cX0_takes 204 = .ok (.getfield 92, 3) := dk_180 0 92 (dk_at dksX0_takes_8 19 rfl rfl)
theorem dX0_takes_207 : decode cX0_takes 207 = .ok (.aload 4, 2) := dk_25 4 (dk_at dksX0_takes_8 22 rfl rfl)
theorem dX0_takes_209 : decode cX0_takes 209 = .ok (.invokevirtual 251, 3) := dk_182 0 251 (dk_at dksX0_takes_9 0 rfl rfl)
theorem dX0_takes_212 : decode cX0_takes 212 = .ok (.return_, 1) := dk_177 (dk_at dksX0_takes_9 3 rfl rfl)
abbrev cX0_part : ByteArray := prog_1_method_73_code
def yX0_part : MethodName := ⟨RX0, "part", "(II)I"⟩
def dkwX0_part_7 : List UInt8 := [180, 2, 73, 162, 0, 16, 25, 4, 180, 2, 71, 28, 16, 10, 100, 46, 167, 0, 5, 16, 251, 172]
abbrev dktX0_part_7 : List UInt8 := dkwX0_part_7 ++ []
def dkwX0_part_6 : List UInt8 := [4, 167, 0, 42, 3, 167, 0, 38, 25, 4, 180, 2, 85, 167, 0, 30, 28, 16, 10, 100, 25, 4]
abbrev dktX0_part_6 : List UInt8 := dkwX0_part_6 ++ dktX0_part_7
def dkwX0_part_5 : List UInt8 := [25, 4, 180, 2, 70, 167, 0, 62, 25, 4, 180, 2, 73, 167, 0, 54, 25, 4, 180, 2, 68, 153, 0, 7]
abbrev dktX0_part_5 : List UInt8 := dkwX0_part_5 ++ dktX0_part_6
def dkwX0_part_4 : List UInt8 := [170, 0, 0, 0, 69, 0, 0, 0, 0, 0, 0, 0, 3, 0, 0, 0, 29, 0, 0, 0, 37, 0, 0, 0, 45, 0, 0, 0, 61]
abbrev dktX0_part_4 : List UInt8 := dkwX0_part_4 ++ dktX0_part_5
def dkwX0_part_3 : List UInt8 := [182, 1, 34, 192, 2, 65, 58, 4, 28]
abbrev dktX0_part_3 : List UInt8 := dkwX0_part_3 ++ dktX0_part_4
def dkwX0_part_2 : List UInt8 := [154, 0, 6, 16, 253, 172, 27, 42, 182, 2, 77, 182, 0, 140, 161, 0, 5, 2, 172, 42, 180, 0, 92, 27]
abbrev dktX0_part_2 : List UInt8 := dkwX0_part_2 ++ dktX0_part_3
def dkwX0_part_1 : List UInt8 := [153, 0, 7, 4, 167, 0, 4, 3, 62, 29, 153, 0, 7, 27, 156, 0, 5, 2, 172, 42, 182, 1, 103]
abbrev dktX0_part_1 : List UInt8 := dkwX0_part_1 ++ dktX0_part_2
def dkwX0_part_0 : List UInt8 := [28, 133, 9, 20, 2, 0, 184, 0, 132, 154, 0, 17, 28, 133, 20, 2, 81, 20, 2, 83, 184, 0, 132]
abbrev dktX0_part_0 : List UInt8 := dkwX0_part_0 ++ dktX0_part_1
theorem dksX0_part_0 : cX0_part.data.toList.drop 0 = dktX0_part_0 := by decide +kernel
theorem dksX0_part_1 : cX0_part.data.toList.drop 23 = dktX0_part_1 := dk_seg dksX0_part_0 23 rfl rfl
theorem dksX0_part_2 : cX0_part.data.toList.drop 46 = dktX0_part_2 := dk_seg dksX0_part_1 23 rfl rfl
theorem dksX0_part_3 : cX0_part.data.toList.drop 70 = dktX0_part_3 := dk_seg dksX0_part_2 24 rfl rfl
theorem dksX0_part_4 : cX0_part.data.toList.drop 79 = dktX0_part_4 := dk_seg dksX0_part_3 9 rfl rfl
theorem dksX0_part_5 : cX0_part.data.toList.drop 108 = dktX0_part_5 := dk_seg dksX0_part_4 29 rfl rfl
theorem dksX0_part_6 : cX0_part.data.toList.drop 132 = dktX0_part_6 := dk_seg dksX0_part_5 24 rfl rfl
theorem dksX0_part_7 : cX0_part.data.toList.drop 154 = dktX0_part_7 := dk_seg dksX0_part_6 22 rfl rfl
theorem dX0_part_0 : decode cX0_part 0 = .ok (.iload_n 2, 1) := dk_28 (dk_at dksX0_part_0 0 rfl rfl)
theorem dX0_part_1 : decode cX0_part 1 = .ok (.i2l, 1) := dk_133 (dk_at dksX0_part_0 1 rfl rfl)
theorem dX0_part_2 : decode cX0_part 2 = .ok (.lconst 0, 1) := dk_9 (dk_at dksX0_part_0 2 rfl rfl)
theorem dX0_part_3 : decode cX0_part 3 = .ok (.ldc2_w 512, 3) := dk_20 2 0 (dk_at dksX0_part_0 3 rfl rfl)
theorem dX0_part_6 : decode cX0_part 6 = .ok (.invokestatic 132, 3) := dk_184 0 132 (dk_at dksX0_part_0 6 rfl rfl)
theorem dX0_part_9 : decode cX0_part 9 = .ok (.ifCond .ne 17, 3) := dk_154 0 17 (dk_at dksX0_part_0 9 rfl rfl)
theorem dX0_part_12 : decode cX0_part 12 = .ok (.iload_n 2, 1) := dk_28 (dk_at dksX0_part_0 12 rfl rfl)
theorem dX0_part_13 : decode cX0_part 13 = .ok (.i2l, 1) := dk_133 (dk_at dksX0_part_0 13 rfl rfl)
theorem dX0_part_14 : decode cX0_part 14 = .ok (.ldc2_w 593, 3) := dk_20 2 81 (dk_at dksX0_part_0 14 rfl rfl)
theorem dX0_part_17 : decode cX0_part 17 = .ok (.ldc2_w 595, 3) := dk_20 2 83 (dk_at dksX0_part_0 17 rfl rfl)
theorem dX0_part_20 : decode cX0_part 20 = .ok (.invokestatic 132, 3) := dk_184 0 132 (dk_at dksX0_part_0 20 rfl rfl)
theorem dX0_part_23 : decode cX0_part 23 = .ok (.ifCond .eq 7, 3) := dk_153 0 7 (dk_at dksX0_part_1 0 rfl rfl)
theorem dX0_part_26 : decode cX0_part 26 = .ok (.iconst 1, 1) := dk_4 (dk_at dksX0_part_1 3 rfl rfl)
theorem dX0_part_27 : decode cX0_part 27 = .ok (.goto 4, 3) := dk_167 0 4 (dk_at dksX0_part_1 4 rfl rfl)
theorem dX0_part_30 : decode cX0_part 30 = .ok (.iconst 0, 1) := dk_3 (dk_at dksX0_part_1 7 rfl rfl)
theorem dX0_part_31 : decode cX0_part 31 = .ok (.istore_n 3, 1) := dk_62 (dk_at dksX0_part_1 8 rfl rfl)
theorem dX0_part_32 : decode cX0_part 32 = .ok (.iload_n 3, 1) := dk_29 (dk_at dksX0_part_1 9 rfl rfl)
theorem dX0_part_33 : decode cX0_part 33 = .ok (.ifCond .eq 7, 3) := dk_153 0 7 (dk_at dksX0_part_1 10 rfl rfl)
theorem dX0_part_36 : decode cX0_part 36 = .ok (.iload_n 1, 1) := dk_27 (dk_at dksX0_part_1 13 rfl rfl)
theorem dX0_part_37 : decode cX0_part 37 = .ok (.ifCond .ge 5, 3) := dk_156 0 5 (dk_at dksX0_part_1 14 rfl rfl)
theorem dX0_part_40 : decode cX0_part 40 = .ok (.iconst (-1), 1) := dk_2 (dk_at dksX0_part_1 17 rfl rfl)
theorem dX0_part_41 : decode cX0_part 41 = .ok (.ireturn, 1) := dk_172 (dk_at dksX0_part_1 18 rfl rfl)
theorem dX0_part_42 : decode cX0_part 42 = .ok (.aload_n 0, 1) := dk_42 (dk_at dksX0_part_1 19 rfl rfl)
theorem dX0_part_43 : decode cX0_part 43 = .ok (.invokevirtual 359, 3) := dk_182 1 103 (dk_at dksX0_part_1 20 rfl rfl)
theorem dX0_part_46 : decode cX0_part 46 = .ok (.ifCond .ne 6, 3) := dk_154 0 6 (dk_at dksX0_part_2 0 rfl rfl)
theorem dX0_part_49 : decode cX0_part 49 = .ok (.bipush (-3), 2) := dk_16 253 (dk_at dksX0_part_2 3 rfl rfl)
theorem dX0_part_51 : decode cX0_part 51 = .ok (.ireturn, 1) := dk_172 (dk_at dksX0_part_2 5 rfl rfl)
theorem dX0_part_52 : decode cX0_part 52 = .ok (.iload_n 1, 1) := dk_27 (dk_at dksX0_part_2 6 rfl rfl)
theorem dX0_part_53 : decode cX0_part 53 = .ok (.aload_n 0, 1) := dk_42 (dk_at dksX0_part_2 7 rfl rfl)
theorem dX0_part_54 : decode cX0_part 54 = .ok (.invokevirtual 589, 3) := dk_182 2 77 (dk_at dksX0_part_2 8 rfl rfl)
theorem dX0_part_57 : decode cX0_part 57 = .ok (.invokevirtual 140, 3) := dk_182 0 140 (dk_at dksX0_part_2 11 rfl rfl)
theorem dX0_part_60 : decode cX0_part 60 = .ok (.if_icmp .lt 5, 3) := dk_161 0 5 (dk_at dksX0_part_2 14 rfl rfl)
theorem dX0_part_63 : decode cX0_part 63 = .ok (.iconst (-1), 1) := dk_2 (dk_at dksX0_part_2 17 rfl rfl)
theorem dX0_part_64 : decode cX0_part 64 = .ok (.ireturn, 1) := dk_172 (dk_at dksX0_part_2 18 rfl rfl)
theorem dX0_part_65 : decode cX0_part 65 = .ok (.aload_n 0, 1) := dk_42 (dk_at dksX0_part_2 19 rfl rfl)
theorem dX0_part_66 : decode cX0_part 66 = .ok (.getfield 92, 3) := dk_180 0 92 (dk_at dksX0_part_2 20 rfl rfl)
theorem dX0_part_69 : decode cX0_part 69 = .ok (.iload_n 1, 1) := dk_27 (dk_at dksX0_part_2 23 rfl rfl)
theorem dX0_part_70 : decode cX0_part 70 = .ok (.invokevirtual 290, 3) := dk_182 1 34 (dk_at dksX0_part_3 0 rfl rfl)
theorem dX0_part_73 : decode cX0_part 73 = .ok (.checkcast 577, 3) := dk_192 2 65 (dk_at dksX0_part_3 3 rfl rfl)
theorem dX0_part_76 : decode cX0_part 76 = .ok (.astore 4, 2) := dk_58 4 (dk_at dksX0_part_3 6 rfl rfl)
theorem dX0_part_78 : decode cX0_part 78 = .ok (.iload_n 2, 1) := dk_28 (dk_at dksX0_part_3 8 rfl rfl)
theorem dX0_part_79 : decode cX0_part 79 = .ok (.tableswitch 69 0 3 #[29, 37, 45, 61], 29) := by decide +kernel
theorem dX0_part_108 : decode cX0_part 108 = .ok (.aload 4, 2) := dk_25 4 (dk_at dksX0_part_5 0 rfl rfl)
theorem dX0_part_110 : decode cX0_part 110 = .ok (.getfield 582, 3) := dk_180 2 70 (dk_at dksX0_part_5 2 rfl rfl)
theorem dX0_part_113 : decode cX0_part 113 = .ok (.goto 62, 3) := dk_167 0 62 (dk_at dksX0_part_5 5 rfl rfl)
theorem dX0_part_116 : decode cX0_part 116 = .ok (.aload 4, 2) := dk_25 4 (dk_at dksX0_part_5 8 rfl rfl)
theorem dX0_part_118 : decode cX0_part 118 = .ok (.getfield 585, 3) := dk_180 2 73 (dk_at dksX0_part_5 10 rfl rfl)
theorem dX0_part_121 : decode cX0_part 121 = .ok (.goto 54, 3) := dk_167 0 54 (dk_at dksX0_part_5 13 rfl rfl)
theorem dX0_part_124 : decode cX0_part 124 = .ok (.aload 4, 2) := dk_25 4 (dk_at dksX0_part_5 16 rfl rfl)
theorem dX0_part_126 : decode cX0_part 126 = .ok (.getfield 580, 3) := dk_180 2 68 (dk_at dksX0_part_5 18 rfl rfl)
theorem dX0_part_129 : decode cX0_part 129 = .ok (.ifCond .eq 7, 3) := dk_153 0 7 (dk_at dksX0_part_5 21 rfl rfl)
theorem dX0_part_132 : decode cX0_part 132 = .ok (.iconst 1, 1) := dk_4 (dk_at dksX0_part_6 0 rfl rfl)
theorem dX0_part_133 : decode cX0_part 133 = .ok (.goto 42, 3) := dk_167 0 42 (dk_at dksX0_part_6 1 rfl rfl)
theorem dX0_part_136 : decode cX0_part 136 = .ok (.iconst 0, 1) := dk_3 (dk_at dksX0_part_6 4 rfl rfl)
theorem dX0_part_137 : decode cX0_part 137 = .ok (.goto 38, 3) := dk_167 0 38 (dk_at dksX0_part_6 5 rfl rfl)
theorem dX0_part_140 : decode cX0_part 140 = .ok (.aload 4, 2) := dk_25 4 (dk_at dksX0_part_6 8 rfl rfl)
theorem dX0_part_142 : decode cX0_part 142 = .ok (.getfield 597, 3) := dk_180 2 85 (dk_at dksX0_part_6 10 rfl rfl)
theorem dX0_part_145 : decode cX0_part 145 = .ok (.goto 30, 3) := dk_167 0 30 (dk_at dksX0_part_6 13 rfl rfl)
theorem dX0_part_148 : decode cX0_part 148 = .ok (.iload_n 2, 1) := dk_28 (dk_at dksX0_part_6 16 rfl rfl)
theorem dX0_part_149 : decode cX0_part 149 = .ok (.bipush 10, 2) := dk_16 10 (dk_at dksX0_part_6 17 rfl rfl)
theorem dX0_part_151 : decode cX0_part 151 = .ok (.isub, 1) := dk_100 (dk_at dksX0_part_6 19 rfl rfl)
theorem dX0_part_152 : decode cX0_part 152 = .ok (.aload 4, 2) := dk_25 4 (dk_at dksX0_part_6 20 rfl rfl)
theorem dX0_part_154 : decode cX0_part 154 = .ok (.getfield 585, 3) := dk_180 2 73 (dk_at dksX0_part_7 0 rfl rfl)
theorem dX0_part_157 : decode cX0_part 157 = .ok (.if_icmp .ge 16, 3) := dk_162 0 16 (dk_at dksX0_part_7 3 rfl rfl)
theorem dX0_part_160 : decode cX0_part 160 = .ok (.aload 4, 2) := dk_25 4 (dk_at dksX0_part_7 6 rfl rfl)
theorem dX0_part_162 : decode cX0_part 162 = .ok (.getfield 583, 3) := dk_180 2 71 (dk_at dksX0_part_7 8 rfl rfl)
theorem dX0_part_165 : decode cX0_part 165 = .ok (.iload_n 2, 1) := dk_28 (dk_at dksX0_part_7 11 rfl rfl)
theorem dX0_part_166 : decode cX0_part 166 = .ok (.bipush 10, 2) := dk_16 10 (dk_at dksX0_part_7 12 rfl rfl)
theorem dX0_part_168 : decode cX0_part 168 = .ok (.isub, 1) := dk_100 (dk_at dksX0_part_7 14 rfl rfl)
theorem dX0_part_169 : decode cX0_part 169 = .ok (.iaload, 1) := dk_46 (dk_at dksX0_part_7 15 rfl rfl)
theorem dX0_part_170 : decode cX0_part 170 = .ok (.goto 5, 3) := dk_167 0 5 (dk_at dksX0_part_7 16 rfl rfl)
theorem dX0_part_173 : decode cX0_part 173 = .ok (.bipush (-5), 2) := dk_16 251 (dk_at dksX0_part_7 19 rfl rfl)
theorem dX0_part_175 : decode cX0_part 175 = .ok (.ireturn, 1) := dk_172 (dk_at dksX0_part_7 21 rfl rfl)
abbrev cX0_partCost : ByteArray := prog_1_method_74_code
def yX0_partCost : MethodName := ⟨RX0, "partCost", "(I)J"⟩
def dkwX0_partCost_3 : List UInt8 := [47, 97, 66, 132, 5, 1, 167, 255, 226, 33, 173]
abbrev dktX0_partCost_3 : List UInt8 := dkwX0_partCost_3 ++ []
def dkwX0_partCost_2 : List UInt8 := [21, 5, 44, 180, 2, 73, 162, 0, 27, 33, 42, 180, 0, 29, 180, 1, 134, 44, 180, 2, 71, 21, 5, 46]
abbrev dktX0_partCost_2 : List UInt8 := dkwX0_partCost_2 ++ dktX0_partCost_3
def dkwX0_partCost_1 : List UInt8 := [154, 0, 7, 20, 1, 47, 173, 42, 180, 0, 92, 27, 182, 1, 34, 192, 2, 65, 77, 9, 66, 3, 54, 5]
abbrev dktX0_partCost_1 : List UInt8 := dkwX0_partCost_1 ++ dktX0_partCost_2
def dkwX0_partCost_0 : List UInt8 := [42, 182, 1, 103, 153, 0, 22, 27, 133, 9, 42, 182, 2, 77, 182, 0, 140, 4, 100, 133, 184, 0, 132]
abbrev dktX0_partCost_0 : List UInt8 := dkwX0_partCost_0 ++ dktX0_partCost_1
theorem dksX0_partCost_0 : cX0_partCost.data.toList.drop 0 = dktX0_partCost_0 := by decide +kernel
theorem dksX0_partCost_1 : cX0_partCost.data.toList.drop 23 = dktX0_partCost_1 := dk_seg dksX0_partCost_0 23 rfl rfl
theorem dksX0_partCost_2 : cX0_partCost.data.toList.drop 47 = dktX0_partCost_2 := dk_seg dksX0_partCost_1 24 rfl rfl
theorem dksX0_partCost_3 : cX0_partCost.data.toList.drop 71 = dktX0_partCost_3 := dk_seg dksX0_partCost_2 24 rfl rfl
theorem dX0_partCost_0 : decode cX0_partCost 0 = .ok (.aload_n 0, 1) := dk_42 (dk_at dksX0_partCost_0 0 rfl rfl)
theorem dX0_partCost_1 : decode cX0_partCost 1 = .ok (.invokevirtual 359, 3) := dk_182 1 103 (dk_at dksX0_partCost_0 1 rfl rfl)
theorem dX0_partCost_4 : decode cX0_partCost 4 = .ok (.ifCond .eq 22, 3) := dk_153 0 22 (dk_at dksX0_partCost_0 4 rfl rfl)
theorem dX0_partCost_7 : decode cX0_partCost 7 = .ok (.iload_n 1, 1) := dk_27 (dk_at dksX0_partCost_0 7 rfl rfl)
theorem dX0_partCost_8 : decode cX0_partCost 8 = .ok (.i2l, 1) := dk_133 (dk_at dksX0_partCost_0 8 rfl rfl)
theorem dX0_partCost_9 : decode cX0_partCost 9 = .ok (.lconst 0, 1) := dk_9 (dk_at dksX0_partCost_0 9 rfl rfl)
theorem dX0_partCost_10 : decode cX0_partCost 10 = .ok (.aload_n 0, 1) := dk_42 (dk_at dksX0_partCost_0 10 rfl rfl)
theorem dX0_partCost_11 : decode cX0_partCost 11 = .ok (.invokevirtual 589, 3) := dk_182 2 77 (dk_at dksX0_partCost_0 11 rfl rfl)
theorem dX0_partCost_14 : decode cX0_partCost 14 = .ok (.invokevirtual 140, 3) := dk_182 0 140 (dk_at dksX0_partCost_0 14 rfl rfl)
theorem dX0_partCost_17 : decode cX0_partCost 17 = .ok (.iconst 1, 1) := dk_4 (dk_at dksX0_partCost_0 17 rfl rfl)
theorem dX0_partCost_18 : decode cX0_partCost 18 = .ok (.isub, 1) := dk_100 (dk_at dksX0_partCost_0 18 rfl rfl)
theorem dX0_partCost_19 : decode cX0_partCost 19 = .ok (.i2l, 1) := dk_133 (dk_at dksX0_partCost_0 19 rfl rfl)
theorem dX0_partCost_20 : decode cX0_partCost 20 = .ok (.invokestatic 132, 3) := dk_184 0 132 (dk_at dksX0_partCost_0 20 rfl rfl)
theorem dX0_partCost_23 : decode cX0_partCost 23 = .ok (.ifCond .ne 7, 3) := dk_154 0 7 (dk_at dksX0_partCost_1 0 rfl rfl)
theorem dX0_partCost_26 : decode cX0_partCost 26 = .ok (.ldc2_w 303, 3) := dk_20 1 47 (dk_at dksX0_partCost_1 3 rfl rfl)
theorem dX0_partCost_29 : decode cX0_partCost 29 = .ok (.lreturn, 1) := dk_173 (dk_at dksX0_partCost_1 6 rfl rfl)
theorem dX0_partCost_30 : decode cX0_partCost 30 = .ok (.aload_n 0, 1) := dk_42 (dk_at dksX0_partCost_1 7 rfl rfl)
theorem dX0_partCost_31 : decode cX0_partCost 31 = .ok (.getfield 92, 3) := dk_180 0 92 (dk_at dksX0_partCost_1 8 rfl rfl)
theorem dX0_partCost_34 : decode cX0_partCost 34 = .ok (.iload_n 1, 1) := dk_27 (dk_at dksX0_partCost_1 11 rfl rfl)
theorem dX0_partCost_35 : decode cX0_partCost 35 = .ok (.invokevirtual 290, 3) := dk_182 1 34 (dk_at dksX0_partCost_1 12 rfl rfl)
theorem dX0_partCost_38 : decode cX0_partCost 38 = .ok (.checkcast 577, 3) := dk_192 2 65 (dk_at dksX0_partCost_1 15 rfl rfl)
theorem dX0_partCost_41 : decode cX0_partCost 41 = .ok (.astore_n 2, 1) := dk_77 (dk_at dksX0_partCost_1 18 rfl rfl)
theorem dX0_partCost_42 : decode cX0_partCost 42 = .ok (.lconst 0, 1) := dk_9 (dk_at dksX0_partCost_1 19 rfl rfl)
theorem dX0_partCost_43 : decode cX0_partCost 43 = .ok (.lstore_n 3, 1) := dk_66 (dk_at dksX0_partCost_1 20 rfl rfl)
theorem dX0_partCost_44 : decode cX0_partCost 44 = .ok (.iconst 0, 1) := dk_3 (dk_at dksX0_partCost_1 21 rfl rfl)
theorem dX0_partCost_45 : decode cX0_partCost 45 = .ok (.istore 5, 2) := dk_54 5 (dk_at dksX0_partCost_1 22 rfl rfl)
theorem dX0_partCost_47 : decode cX0_partCost 47 = .ok (.iload 5, 2) := dk_21 5 (dk_at dksX0_partCost_2 0 rfl rfl)
theorem dX0_partCost_49 : decode cX0_partCost 49 = .ok (.aload_n 2, 1) := dk_44 (dk_at dksX0_partCost_2 2 rfl rfl)
theorem dX0_partCost_50 : decode cX0_partCost 50 = .ok (.getfield 585, 3) := dk_180 2 73 (dk_at dksX0_partCost_2 3 rfl rfl)
theorem dX0_partCost_53 : decode cX0_partCost 53 = .ok (.if_icmp .ge 27, 3) := dk_162 0 27 (dk_at dksX0_partCost_2 6 rfl rfl)
theorem dX0_partCost_56 : decode cX0_partCost 56 = .ok (.lload_n 3, 1) := dk_33 (dk_at dksX0_partCost_2 9 rfl rfl)
theorem dX0_partCost_57 : decode cX0_partCost 57 = .ok (.aload_n 0, 1) := dk_42 (dk_at dksX0_partCost_2 10 rfl rfl)
theorem dX0_partCost_58 : decode cX0_partCost 58 = .ok (.getfield 29, 3) := dk_180 0 29 (dk_at dksX0_partCost_2 11 rfl rfl)
theorem dX0_partCost_61 : decode cX0_partCost 61 = .ok (.getfield 390, 3) := dk_180 1 134 (dk_at dksX0_partCost_2 14 rfl rfl)
theorem dX0_partCost_64 : decode cX0_partCost 64 = .ok (.aload_n 2, 1) := dk_44 (dk_at dksX0_partCost_2 17 rfl rfl)
theorem dX0_partCost_65 : decode cX0_partCost 65 = .ok (.getfield 583, 3) := dk_180 2 71 (dk_at dksX0_partCost_2 18 rfl rfl)
theorem dX0_partCost_68 : decode cX0_partCost 68 = .ok (.iload 5, 2) := dk_21 5 (dk_at dksX0_partCost_2 21 rfl rfl)
theorem dX0_partCost_70 : decode cX0_partCost 70 = .ok (.iaload, 1) := dk_46 (dk_at dksX0_partCost_2 23 rfl rfl)
theorem dX0_partCost_71 : decode cX0_partCost 71 = .ok (.laload, 1) := dk_47 (dk_at dksX0_partCost_3 0 rfl rfl)
theorem dX0_partCost_72 : decode cX0_partCost 72 = .ok (.ladd, 1) := dk_97 (dk_at dksX0_partCost_3 1 rfl rfl)
theorem dX0_partCost_73 : decode cX0_partCost 73 = .ok (.lstore_n 3, 1) := dk_66 (dk_at dksX0_partCost_3 2 rfl rfl)
theorem dX0_partCost_74 : decode cX0_partCost 74 = .ok (.iinc 5 1, 3) := dk_132 5 1 (dk_at dksX0_partCost_3 3 rfl rfl)
theorem dX0_partCost_77 : decode cX0_partCost 77 = .ok (.goto (-30), 3) := dk_167 255 226 (dk_at dksX0_partCost_3 6 rfl rfl)
theorem dX0_partCost_80 : decode cX0_partCost 80 = .ok (.lload_n 3, 1) := dk_33 (dk_at dksX0_partCost_3 9 rfl rfl)
theorem dX0_partCost_81 : decode cX0_partCost 81 = .ok (.lreturn, 1) := dk_173 (dk_at dksX0_partCost_3 10 rfl rfl)
abbrev cX0_spell : ByteArray := prog_1_method_75_code
def yX0_spell : MethodName := ⟨RX0, "spell", "()I"⟩
def dkwX0_spell_5 : List UInt8 := [182, 2, 104, 181, 0, 51, 42, 180, 0, 51, 182, 1, 54, 172]
abbrev dktX0_spell_5 : List UInt8 := dkwX0_spell_5 ++ []
def dkwX0_spell_4 : List UInt8 := [182, 2, 101, 42, 180, 0, 29, 180, 1, 111, 28, 46, 182, 2, 98, 87, 132, 2, 1, 167, 255, 164, 42, 43]
abbrev dktX0_spell_4 : List UInt8 := dkwX0_spell_4 ++ dktX0_spell_5
def dkwX0_spell_3 : List UInt8 := [28, 46, 182, 2, 98, 16, 62, 182, 2, 101, 42, 180, 0, 29, 180, 1, 132, 28, 46, 182, 2, 98, 16, 42]
abbrev dktX0_spell_3 : List UInt8 := dkwX0_spell_3 ++ dktX0_spell_4
def dkwX0_spell_2 : List UInt8 := [182, 2, 91, 154, 0, 8, 18, 49, 167, 0, 6, 19, 2, 92, 182, 2, 94, 42, 180, 0, 29, 180, 1, 127]
abbrev dktX0_spell_2 : List UInt8 := dkwX0_spell_2 ++ dktX0_spell_3
def dkwX0_spell_1 : List UInt8 := [180, 0, 29, 180, 0, 157, 162, 0, 87, 42, 180, 0, 29, 180, 1, 111, 28, 46, 158, 0, 69, 43, 43]
abbrev dktX0_spell_1 : List UInt8 := dkwX0_spell_1 ++ dktX0_spell_2
def dkwX0_spell_0 : List UInt8 := [42, 182, 1, 103, 154, 0, 6, 16, 253, 172, 187, 2, 88, 89, 183, 2, 90, 76, 3, 61, 28, 42]
abbrev dktX0_spell_0 : List UInt8 := dkwX0_spell_0 ++ dktX0_spell_1
theorem dksX0_spell_0 : cX0_spell.data.toList.drop 0 = dktX0_spell_0 := by decide +kernel
theorem dksX0_spell_1 : cX0_spell.data.toList.drop 22 = dktX0_spell_1 := dk_seg dksX0_spell_0 22 rfl rfl
theorem dksX0_spell_2 : cX0_spell.data.toList.drop 45 = dktX0_spell_2 := dk_seg dksX0_spell_1 23 rfl rfl
theorem dksX0_spell_3 : cX0_spell.data.toList.drop 69 = dktX0_spell_3 := dk_seg dksX0_spell_2 24 rfl rfl
theorem dksX0_spell_4 : cX0_spell.data.toList.drop 93 = dktX0_spell_4 := dk_seg dksX0_spell_3 24 rfl rfl
theorem dksX0_spell_5 : cX0_spell.data.toList.drop 117 = dktX0_spell_5 := dk_seg dksX0_spell_4 24 rfl rfl
theorem dX0_spell_0 : decode cX0_spell 0 = .ok (.aload_n 0, 1) := dk_42 (dk_at dksX0_spell_0 0 rfl rfl)
theorem dX0_spell_1 : decode cX0_spell 1 = .ok (.invokevirtual 359, 3) := dk_182 1 103 (dk_at dksX0_spell_0 1 rfl rfl)
theorem dX0_spell_4 : decode cX0_spell 4 = .ok (.ifCond .ne 6, 3) := dk_154 0 6 (dk_at dksX0_spell_0 4 rfl rfl)
theorem dX0_spell_7 : decode cX0_spell 7 = .ok (.bipush (-3), 2) := dk_16 253 (dk_at dksX0_spell_0 7 rfl rfl)
theorem dX0_spell_9 : decode cX0_spell 9 = .ok (.ireturn, 1) := dk_172 (dk_at dksX0_spell_0 9 rfl rfl)
theorem dX0_spell_10 : decode cX0_spell 10 = .ok (.new 600, 3) := dk_187 2 88 (dk_at dksX0_spell_0 10 rfl rfl)
theorem dX0_spell_13 : decode cX0_spell 13 = .ok (.dup, 1) := dk_89 (dk_at dksX0_spell_0 13 rfl rfl)
theorem dX0_spell_14 : decode cX0_spell 14 = .ok (.invokespecial 602, 3) := dk_183 2 90 (dk_at dksX0_spell_0 14 rfl rfl)
theorem dX0_spell_17 : decode cX0_spell 17 = .ok (.astore_n 1, 1) := dk_76 (dk_at dksX0_spell_0 17 rfl rfl)
theorem dX0_spell_18 : decode cX0_spell 18 = .ok (.iconst 0, 1) := dk_3 (dk_at dksX0_spell_0 18 rfl rfl)
theorem dX0_spell_19 : decode cX0_spell 19 = .ok (.istore_n 2, 1) := dk_61 (dk_at dksX0_spell_0 19 rfl rfl)
theorem dX0_spell_20 : decode cX0_spell 20 = .ok (.iload_n 2, 1) := dk_28 (dk_at dksX0_spell_0 20 rfl rfl)
theorem dX0_spell_21 : decode cX0_spell 21 = .ok (.aload_n 0, 1) := dk_42 (dk_at dksX0_spell_0 21 rfl rfl)
theorem dX0_spell_22 : decode cX0_spell 22 = .ok (.getfield 29, 3) := dk_180 0 29 (dk_at dksX0_spell_1 0 rfl rfl)
theorem dX0_spell_25 : decode cX0_spell 25 = .ok (.getfield 157, 3) := dk_180 0 157 (dk_at dksX0_spell_1 3 rfl rfl)
theorem dX0_spell_28 : decode cX0_spell 28 = .ok (.if_icmp .ge 87, 3) := dk_162 0 87 (dk_at dksX0_spell_1 6 rfl rfl)
theorem dX0_spell_31 : decode cX0_spell 31 = .ok (.aload_n 0, 1) := dk_42 (dk_at dksX0_spell_1 9 rfl rfl)
theorem dX0_spell_32 : decode cX0_spell 32 = .ok (.getfield 29, 3) := dk_180 0 29 (dk_at dksX0_spell_1 10 rfl rfl)
theorem dX0_spell_35 : decode cX0_spell 35 = .ok (.getfield 367, 3) := dk_180 1 111 (dk_at dksX0_spell_1 13 rfl rfl)
theorem dX0_spell_38 : decode cX0_spell 38 = .ok (.iload_n 2, 1) := dk_28 (dk_at dksX0_spell_1 16 rfl rfl)
theorem dX0_spell_39 : decode cX0_spell 39 = .ok (.iaload, 1) := dk_46 (dk_at dksX0_spell_1 17 rfl rfl)
theorem dX0_spell_40 : decode cX0_spell 40 = .ok (.ifCond .le 69, 3) := dk_158 0 69 (dk_at dksX0_spell_1 18 rfl rfl)
theorem dX0_spell_43 : decode cX0_spell 43 = .ok (.aload_n 1, 1) := dk_43 (dk_at dksX0_spell_1 21 rfl rfl)
theorem dX0_spell_44 : decode cX0_spell 44 = .ok (.aload_n 1, 1) := dk_43 (dk_at dksX0_spell_1 22 rfl rfl)
theorem dX0_spell_45 : decode cX0_spell 45 = .ok (.invokevirtual 603, 3) := dk_182 2 91 (dk_at dksX0_spell_2 0 rfl rfl)
theorem dX0_spell_48 : decode cX0_spell 48 = .ok (.ifCond .ne 8, 3) := dk_154 0 8 (dk_at dksX0_spell_2 3 rfl rfl)
theorem dX0_spell_51 : decode cX0_spell 51 = .ok (.ldc 49, 2) := dk_18 49 (dk_at dksX0_spell_2 6 rfl rfl)
theorem dX0_spell_53 : decode cX0_spell 53 = .ok (.goto 6, 3) := dk_167 0 6 (dk_at dksX0_spell_2 8 rfl rfl)
theorem dX0_spell_56 : decode cX0_spell 56 = .ok (.ldc_w 604, 3) := dk_19 2 92 (dk_at dksX0_spell_2 11 rfl rfl)
theorem dX0_spell_59 : decode cX0_spell 59 = .ok (.invokevirtual 606, 3) := dk_182 2 94 (dk_at dksX0_spell_2 14 rfl rfl)
theorem dX0_spell_62 : decode cX0_spell 62 = .ok (.aload_n 0, 1) := dk_42 (dk_at dksX0_spell_2 17 rfl rfl)
theorem dX0_spell_63 : decode cX0_spell 63 = .ok (.getfield 29, 3) := dk_180 0 29 (dk_at dksX0_spell_2 18 rfl rfl)
theorem dX0_spell_66 : decode cX0_spell 66 = .ok (.getfield 383, 3) := dk_180 1 127 (dk_at dksX0_spell_2 21 rfl rfl)
theorem dX0_spell_69 : decode cX0_spell 69 = .ok (.iload_n 2, 1) := dk_28 (dk_at dksX0_spell_3 0 rfl rfl)
theorem dX0_spell_70 : decode cX0_spell 70 = .ok (.iaload, 1) := dk_46 (dk_at dksX0_spell_3 1 rfl rfl)
theorem dX0_spell_71 : decode cX0_spell 71 = .ok (.invokevirtual 610, 3) := dk_182 2 98 (dk_at dksX0_spell_3 2 rfl rfl)
theorem dX0_spell_74 : decode cX0_spell 74 = .ok (.bipush 62, 2) := dk_16 62 (dk_at dksX0_spell_3 5 rfl rfl)
theorem dX0_spell_76 : decode cX0_spell 76 = .ok (.invokevirtual 613, 3) := dk_182 2 101 (dk_at dksX0_spell_3 7 rfl rfl)
theorem dX0_spell_79 : decode cX0_spell 79 = .ok (.aload_n 0, 1) := dk_42 (dk_at dksX0_spell_3 10 rfl rfl)
theorem dX0_spell_80 : decode cX0_spell 80 = .ok (.getfield 29, 3) := dk_180 0 29 (dk_at dksX0_spell_3 11 rfl rfl)
theorem dX0_spell_83 : decode cX0_spell 83 = .ok (.getfield 388, 3) := dk_180 1 132 (dk_at dksX0_spell_3 14 rfl rfl)
theorem dX0_spell_86 : decode cX0_spell 86 = .ok (.iload_n 2, 1) := dk_28 (dk_at dksX0_spell_3 17 rfl rfl)
theorem dX0_spell_87 : decode cX0_spell 87 = .ok (.iaload, 1) := dk_46 (dk_at dksX0_spell_3 18 rfl rfl)
theorem dX0_spell_88 : decode cX0_spell 88 = .ok (.invokevirtual 610, 3) := dk_182 2 98 (dk_at dksX0_spell_3 19 rfl rfl)
theorem dX0_spell_91 : decode cX0_spell 91 = .ok (.bipush 42, 2) := dk_16 42 (dk_at dksX0_spell_3 22 rfl rfl)
theorem dX0_spell_93 : decode cX0_spell 93 = .ok (.invokevirtual 613, 3) := dk_182 2 101 (dk_at dksX0_spell_4 0 rfl rfl)
theorem dX0_spell_96 : decode cX0_spell 96 = .ok (.aload_n 0, 1) := dk_42 (dk_at dksX0_spell_4 3 rfl rfl)
theorem dX0_spell_97 : decode cX0_spell 97 = .ok (.getfield 29, 3) := dk_180 0 29 (dk_at dksX0_spell_4 4 rfl rfl)
theorem dX0_spell_100 : decode cX0_spell 100 = .ok (.getfield 367, 3) := dk_180 1 111 (dk_at dksX0_spell_4 7 rfl rfl)
theorem dX0_spell_103 : decode cX0_spell 103 = .ok (.iload_n 2, 1) := dk_28 (dk_at dksX0_spell_4 10 rfl rfl)
theorem dX0_spell_104 : decode cX0_spell 104 = .ok (.iaload, 1) := dk_46 (dk_at dksX0_spell_4 11 rfl rfl)
theorem dX0_spell_105 : decode cX0_spell 105 = .ok (.invokevirtual 610, 3) := dk_182 2 98 (dk_at dksX0_spell_4 12 rfl rfl)
theorem dX0_spell_108 : decode cX0_spell 108 = .ok (.pop, 1) := dk_87 (dk_at dksX0_spell_4 15 rfl rfl)
theorem dX0_spell_109 : decode cX0_spell 109 = .ok (.iinc 2 1, 3) := dk_132 2 1 (dk_at dksX0_spell_4 16 rfl rfl)
theorem dX0_spell_112 : decode cX0_spell 112 = .ok (.goto (-92), 3) := dk_167 255 164 (dk_at dksX0_spell_4 19 rfl rfl)
theorem dX0_spell_115 : decode cX0_spell 115 = .ok (.aload_n 0, 1) := dk_42 (dk_at dksX0_spell_4 22 rfl rfl)
theorem dX0_spell_116 : decode cX0_spell 116 = .ok (.aload_n 1, 1) := dk_43 (dk_at dksX0_spell_4 23 rfl rfl)
theorem dX0_spell_117 : decode cX0_spell 117 = .ok (.invokevirtual 616, 3) := dk_182 2 104 (dk_at dksX0_spell_5 0 rfl rfl)
theorem dX0_spell_120 : decode cX0_spell 120 = .ok (.putfield 51, 3) := dk_181 0 51 (dk_at dksX0_spell_5 3 rfl rfl)
theorem dX0_spell_123 : decode cX0_spell 123 = .ok (.aload_n 0, 1) := dk_42 (dk_at dksX0_spell_5 6 rfl rfl)
theorem dX0_spell_124 : decode cX0_spell 124 = .ok (.getfield 51, 3) := dk_180 0 51 (dk_at dksX0_spell_5 7 rfl rfl)
theorem dX0_spell_127 : decode cX0_spell 127 = .ok (.invokevirtual 310, 3) := dk_182 1 54 (dk_at dksX0_spell_5 10 rfl rfl)
theorem dX0_spell_130 : decode cX0_spell 130 = .ok (.ireturn, 1) := dk_172 (dk_at dksX0_spell_5 13 rfl rfl)
abbrev cX0_told : ByteArray := prog_1_method_77_code
def yX0_told : MethodName := ⟨RX0, "told", "(I)J"⟩
def dkwX0_told_3 : List UInt8 := [16, 10, 100, 46, 133, 167, 0, 6, 20, 1, 47, 173]
abbrev dktX0_told_3 : List UInt8 := dkwX0_told_3 ++ []
def dkwX0_told_2 : List UInt8 := [20, 2, 81, 16, 10, 42, 180, 0, 11, 96, 4, 100, 133, 184, 0, 132, 153, 0, 16, 42, 180, 0, 15, 27]
abbrev dktX0_told_2 : List UInt8 := dkwX0_told_2 ++ dktX0_told_3
def dkwX0_told_1 : List UInt8 := [180, 0, 128, 27, 185, 2, 109, 2, 0, 192, 0, 107, 180, 2, 110, 185, 2, 114, 1, 0, 133, 173, 27, 133]
abbrev dktX0_told_1 : List UInt8 := dkwX0_told_1 ++ dktX0_told_2
def dkwX0_told_0 : List UInt8 := [27, 133, 9, 42, 180, 0, 128, 185, 2, 108, 1, 0, 4, 100, 133, 184, 0, 132, 153, 0, 26, 42]
abbrev dktX0_told_0 : List UInt8 := dkwX0_told_0 ++ dktX0_told_1
theorem dksX0_told_0 : cX0_told.data.toList.drop 0 = dktX0_told_0 := by decide +kernel
theorem dksX0_told_1 : cX0_told.data.toList.drop 22 = dktX0_told_1 := dk_seg dksX0_told_0 22 rfl rfl
theorem dksX0_told_2 : cX0_told.data.toList.drop 46 = dktX0_told_2 := dk_seg dksX0_told_1 24 rfl rfl
theorem dksX0_told_3 : cX0_told.data.toList.drop 70 = dktX0_told_3 := dk_seg dksX0_told_2 24 rfl rfl
theorem dX0_told_0 : decode cX0_told 0 = .ok (.iload_n 1, 1) := dk_27 (dk_at dksX0_told_0 0 rfl rfl)
theorem dX0_told_1 : decode cX0_told 1 = .ok (.i2l, 1) := dk_133 (dk_at dksX0_told_0 1 rfl rfl)
theorem dX0_told_2 : decode cX0_told 2 = .ok (.lconst 0, 1) := dk_9 (dk_at dksX0_told_0 2 rfl rfl)
theorem dX0_told_3 : decode cX0_told 3 = .ok (.aload_n 0, 1) := dk_42 (dk_at dksX0_told_0 3 rfl rfl)
theorem dX0_told_4 : decode cX0_told 4 = .ok (.getfield 128, 3) := dk_180 0 128 (dk_at dksX0_told_0 4 rfl rfl)
theorem dX0_told_7 : decode cX0_told 7 = .ok (.invokeinterface 620 1, 5) := by decide +kernel
theorem dX0_told_12 : decode cX0_told 12 = .ok (.iconst 1, 1) := dk_4 (dk_at dksX0_told_0 12 rfl rfl)
theorem dX0_told_13 : decode cX0_told 13 = .ok (.isub, 1) := dk_100 (dk_at dksX0_told_0 13 rfl rfl)
theorem dX0_told_14 : decode cX0_told 14 = .ok (.i2l, 1) := dk_133 (dk_at dksX0_told_0 14 rfl rfl)
theorem dX0_told_15 : decode cX0_told 15 = .ok (.invokestatic 132, 3) := dk_184 0 132 (dk_at dksX0_told_0 15 rfl rfl)
theorem dX0_told_18 : decode cX0_told 18 = .ok (.ifCond .eq 26, 3) := dk_153 0 26 (dk_at dksX0_told_0 18 rfl rfl)
theorem dX0_told_21 : decode cX0_told 21 = .ok (.aload_n 0, 1) := dk_42 (dk_at dksX0_told_0 21 rfl rfl)
theorem dX0_told_22 : decode cX0_told 22 = .ok (.getfield 128, 3) := dk_180 0 128 (dk_at dksX0_told_1 0 rfl rfl)
theorem dX0_told_25 : decode cX0_told 25 = .ok (.iload_n 1, 1) := dk_27 (dk_at dksX0_told_1 3 rfl rfl)
theorem dX0_told_26 : decode cX0_told 26 = .ok (.invokeinterface 621 2, 5) := by decide +kernel
theorem dX0_told_31 : decode cX0_told 31 = .ok (.checkcast 107, 3) := dk_192 0 107 (dk_at dksX0_told_1 9 rfl rfl)
theorem dX0_told_34 : decode cX0_told 34 = .ok (.getfield 622, 3) := dk_180 2 110 (dk_at dksX0_told_1 12 rfl rfl)
theorem dX0_told_37 : decode cX0_told 37 = .ok (.invokeinterface 626 1, 5) := by decide +kernel
theorem dX0_told_42 : decode cX0_told 42 = .ok (.i2l, 1) := dk_133 (dk_at dksX0_told_1 20 rfl rfl)
theorem dX0_told_43 : decode cX0_told 43 = .ok (.lreturn, 1) := dk_173 (dk_at dksX0_told_1 21 rfl rfl)
theorem dX0_told_44 : decode cX0_told 44 = .ok (.iload_n 1, 1) := dk_27 (dk_at dksX0_told_1 22 rfl rfl)
theorem dX0_told_45 : decode cX0_told 45 = .ok (.i2l, 1) := dk_133 (dk_at dksX0_told_1 23 rfl rfl)
theorem dX0_told_46 : decode cX0_told 46 = .ok (.ldc2_w 593, 3) := dk_20 2 81 (dk_at dksX0_told_2 0 rfl rfl)
theorem dX0_told_49 : decode cX0_told 49 = .ok (.bipush 10, 2) := dk_16 10 (dk_at dksX0_told_2 3 rfl rfl)
theorem dX0_told_51 : decode cX0_told 51 = .ok (.aload_n 0, 1) := dk_42 (dk_at dksX0_told_2 5 rfl rfl)
theorem dX0_told_52 : decode cX0_told 52 = .ok (.getfield 11, 3) := dk_180 0 11 (dk_at dksX0_told_2 6 rfl rfl)
theorem dX0_told_55 : decode cX0_told 55 = .ok (.iadd, 1) := dk_96 (dk_at dksX0_told_2 9 rfl rfl)
theorem dX0_told_56 : decode cX0_told 56 = .ok (.iconst 1, 1) := dk_4 (dk_at dksX0_told_2 10 rfl rfl)
theorem dX0_told_57 : decode cX0_told 57 = .ok (.isub, 1) := dk_100 (dk_at dksX0_told_2 11 rfl rfl)
theorem dX0_told_58 : decode cX0_told 58 = .ok (.i2l, 1) := dk_133 (dk_at dksX0_told_2 12 rfl rfl)
theorem dX0_told_59 : decode cX0_told 59 = .ok (.invokestatic 132, 3) := dk_184 0 132 (dk_at dksX0_told_2 13 rfl rfl)
theorem dX0_told_62 : decode cX0_told 62 = .ok (.ifCond .eq 16, 3) := dk_153 0 16 (dk_at dksX0_told_2 16 rfl rfl)
theorem dX0_told_65 : decode cX0_told 65 = .ok (.aload_n 0, 1) := dk_42 (dk_at dksX0_told_2 19 rfl rfl)
theorem dX0_told_66 : decode cX0_told 66 = .ok (.getfield 15, 3) := dk_180 0 15 (dk_at dksX0_told_2 20 rfl rfl)
theorem dX0_told_69 : decode cX0_told 69 = .ok (.iload_n 1, 1) := dk_27 (dk_at dksX0_told_2 23 rfl rfl)
theorem dX0_told_70 : decode cX0_told 70 = .ok (.bipush 10, 2) := dk_16 10 (dk_at dksX0_told_3 0 rfl rfl)
theorem dX0_told_72 : decode cX0_told 72 = .ok (.isub, 1) := dk_100 (dk_at dksX0_told_3 2 rfl rfl)
theorem dX0_told_73 : decode cX0_told 73 = .ok (.iaload, 1) := dk_46 (dk_at dksX0_told_3 3 rfl rfl)
theorem dX0_told_74 : decode cX0_told 74 = .ok (.i2l, 1) := dk_133 (dk_at dksX0_told_3 4 rfl rfl)
theorem dX0_told_75 : decode cX0_told 75 = .ok (.goto 6, 3) := dk_167 0 6 (dk_at dksX0_told_3 5 rfl rfl)
theorem dX0_told_78 : decode cX0_told 78 = .ok (.ldc2_w 303, 3) := dk_20 1 47 (dk_at dksX0_told_3 8 rfl rfl)
theorem dX0_told_81 : decode cX0_told 81 = .ok (.lreturn, 1) := dk_173 (dk_at dksX0_told_3 11 rfl rfl)
abbrev cX0_list : ByteArray := prog_1_method_78_code
def yX0_list : MethodName := ⟨RX0, "list", "(II)I"⟩
def dkwX0_list_1 : List UInt8 := [188, 11, 83, 167, 0, 7, 78, 16, 242, 172, 4, 172]
abbrev dktX0_list_1 : List UInt8 := dkwX0_list_1 ++ []
def dkwX0_list_0 : List UInt8 := [27, 184, 2, 2, 154, 0, 5, 2, 172, 28, 16, 30, 164, 0, 6, 16, 254, 172, 42, 180, 0, 72, 27, 28]
abbrev dktX0_list_0 : List UInt8 := dkwX0_list_0 ++ dktX0_list_1
theorem dksX0_list_0 : cX0_list.data.toList.drop 0 = dktX0_list_0 := by decide +kernel
theorem dksX0_list_1 : cX0_list.data.toList.drop 24 = dktX0_list_1 := dk_seg dksX0_list_0 24 rfl rfl
theorem dX0_list_0 : decode cX0_list 0 = .ok (.iload_n 1, 1) := dk_27 (dk_at dksX0_list_0 0 rfl rfl)
theorem dX0_list_1 : decode cX0_list 1 = .ok (.invokestatic 514, 3) := dk_184 2 2 (dk_at dksX0_list_0 1 rfl rfl)
theorem dX0_list_4 : decode cX0_list 4 = .ok (.ifCond .ne 5, 3) := dk_154 0 5 (dk_at dksX0_list_0 4 rfl rfl)
theorem dX0_list_7 : decode cX0_list 7 = .ok (.iconst (-1), 1) := dk_2 (dk_at dksX0_list_0 7 rfl rfl)
theorem dX0_list_8 : decode cX0_list 8 = .ok (.ireturn, 1) := dk_172 (dk_at dksX0_list_0 8 rfl rfl)
theorem dX0_list_9 : decode cX0_list 9 = .ok (.iload_n 2, 1) := dk_28 (dk_at dksX0_list_0 9 rfl rfl)
theorem dX0_list_10 : decode cX0_list 10 = .ok (.bipush 30, 2) := dk_16 30 (dk_at dksX0_list_0 10 rfl rfl)
theorem dX0_list_12 : decode cX0_list 12 = .ok (.if_icmp .le 6, 3) := dk_164 0 6 (dk_at dksX0_list_0 12 rfl rfl)
theorem dX0_list_15 : decode cX0_list 15 = .ok (.bipush (-2), 2) := dk_16 254 (dk_at dksX0_list_0 15 rfl rfl)
theorem dX0_list_17 : decode cX0_list 17 = .ok (.ireturn, 1) := dk_172 (dk_at dksX0_list_0 17 rfl rfl)
theorem dX0_list_18 : decode cX0_list 18 = .ok (.aload_n 0, 1) := dk_42 (dk_at dksX0_list_0 18 rfl rfl)
theorem dX0_list_19 : decode cX0_list 19 = .ok (.getfield 72, 3) := dk_180 0 72 (dk_at dksX0_list_0 19 rfl rfl)
theorem dX0_list_22 : decode cX0_list 22 = .ok (.iload_n 1, 1) := dk_27 (dk_at dksX0_list_0 22 rfl rfl)
theorem dX0_list_23 : decode cX0_list 23 = .ok (.iload_n 2, 1) := dk_28 (dk_at dksX0_list_0 23 rfl rfl)
theorem dX0_list_24 : decode cX0_list 24 = .ok (.newarray .long, 2) := dk_188_11 (dk_at dksX0_list_1 0 rfl rfl)
theorem dX0_list_26 : decode cX0_list 26 = .ok (.aastore, 1) := dk_83 (dk_at dksX0_list_1 2 rfl rfl)
theorem dX0_list_27 : decode cX0_list 27 = .ok (.goto 7, 3) := dk_167 0 7 (dk_at dksX0_list_1 3 rfl rfl)
theorem dX0_list_30 : decode cX0_list 30 = .ok (.astore_n 3, 1) := dk_78 (dk_at dksX0_list_1 6 rfl rfl)
theorem dX0_list_31 : decode cX0_list 31 = .ok (.bipush (-14), 2) := dk_16 242 (dk_at dksX0_list_1 7 rfl rfl)
theorem dX0_list_33 : decode cX0_list 33 = .ok (.ireturn, 1) := dk_172 (dk_at dksX0_list_1 9 rfl rfl)
theorem dX0_list_34 : decode cX0_list 34 = .ok (.iconst 1, 1) := dk_4 (dk_at dksX0_list_1 10 rfl rfl)
theorem dX0_list_35 : decode cX0_list 35 = .ok (.ireturn, 1) := dk_172 (dk_at dksX0_list_1 11 rfl rfl)
abbrev cX0_set : ByteArray := prog_1_method_79_code
def yX0_set : MethodName := ⟨RX0, "set", "(IIJ)I"⟩
def dkwX0_set_1 : List UInt8 := [16, 245, 172, 58, 5, 16, 243, 172, 4, 172]
abbrev dktX0_set_1 : List UInt8 := dkwX0_set_1 ++ []
def dkwX0_set_0 : List UInt8 := [27, 184, 2, 2, 154, 0, 5, 2, 172, 42, 180, 0, 72, 27, 50, 28, 33, 80, 167, 0, 13, 58, 5]
abbrev dktX0_set_0 : List UInt8 := dkwX0_set_0 ++ dktX0_set_1
theorem dksX0_set_0 : cX0_set.data.toList.drop 0 = dktX0_set_0 := by decide +kernel
theorem dksX0_set_1 : cX0_set.data.toList.drop 23 = dktX0_set_1 := dk_seg dksX0_set_0 23 rfl rfl
theorem dX0_set_0 : decode cX0_set 0 = .ok (.iload_n 1, 1) := dk_27 (dk_at dksX0_set_0 0 rfl rfl)
theorem dX0_set_1 : decode cX0_set 1 = .ok (.invokestatic 514, 3) := dk_184 2 2 (dk_at dksX0_set_0 1 rfl rfl)
theorem dX0_set_4 : decode cX0_set 4 = .ok (.ifCond .ne 5, 3) := dk_154 0 5 (dk_at dksX0_set_0 4 rfl rfl)
theorem dX0_set_7 : decode cX0_set 7 = .ok (.iconst (-1), 1) := dk_2 (dk_at dksX0_set_0 7 rfl rfl)
theorem dX0_set_8 : decode cX0_set 8 = .ok (.ireturn, 1) := dk_172 (dk_at dksX0_set_0 8 rfl rfl)
theorem dX0_set_9 : decode cX0_set 9 = .ok (.aload_n 0, 1) := dk_42 (dk_at dksX0_set_0 9 rfl rfl)
theorem dX0_set_10 : decode cX0_set 10 = .ok (.getfield 72, 3) := dk_180 0 72 (dk_at dksX0_set_0 10 rfl rfl)
theorem dX0_set_13 : decode cX0_set 13 = .ok (.iload_n 1, 1) := dk_27 (dk_at dksX0_set_0 13 rfl rfl)
theorem dX0_set_14 : decode cX0_set 14 = .ok (.aaload, 1) := dk_50 (dk_at dksX0_set_0 14 rfl rfl)
theorem dX0_set_15 : decode cX0_set 15 = .ok (.iload_n 2, 1) := dk_28 (dk_at dksX0_set_0 15 rfl rfl)
theorem dX0_set_16 : decode cX0_set 16 = .ok (.lload_n 3, 1) := dk_33 (dk_at dksX0_set_0 16 rfl rfl)
theorem dX0_set_17 : decode cX0_set 17 = .ok (.lastore, 1) := dk_80 (dk_at dksX0_set_0 17 rfl rfl)
theorem dX0_set_18 : decode cX0_set 18 = .ok (.goto 13, 3) := dk_167 0 13 (dk_at dksX0_set_0 18 rfl rfl)
theorem dX0_set_21 : decode cX0_set 21 = .ok (.astore 5, 2) := dk_58 5 (dk_at dksX0_set_0 21 rfl rfl)
theorem dX0_set_23 : decode cX0_set 23 = .ok (.bipush (-11), 2) := dk_16 245 (dk_at dksX0_set_1 0 rfl rfl)
theorem dX0_set_25 : decode cX0_set 25 = .ok (.ireturn, 1) := dk_172 (dk_at dksX0_set_1 2 rfl rfl)
theorem dX0_set_26 : decode cX0_set 26 = .ok (.astore 5, 2) := dk_58 5 (dk_at dksX0_set_1 3 rfl rfl)
theorem dX0_set_28 : decode cX0_set 28 = .ok (.bipush (-13), 2) := dk_16 243 (dk_at dksX0_set_1 5 rfl rfl)
theorem dX0_set_30 : decode cX0_set 30 = .ok (.ireturn, 1) := dk_172 (dk_at dksX0_set_1 7 rfl rfl)
theorem dX0_set_31 : decode cX0_set 31 = .ok (.iconst 1, 1) := dk_4 (dk_at dksX0_set_1 8 rfl rfl)
theorem dX0_set_32 : decode cX0_set 32 = .ok (.ireturn, 1) := dk_172 (dk_at dksX0_set_1 9 rfl rfl)
abbrev cX0_get : ByteArray := prog_1_method_80_code
def yX0_get : MethodName := ⟨RX0, "get", "(II)J"⟩
def dkwX0_get_1 : List UInt8 := [173]
abbrev dktX0_get_1 : List UInt8 := dkwX0_get_1 ++ []
def dkwX0_get_0 : List UInt8 := [27, 184, 2, 2, 154, 0, 7, 20, 1, 47, 173, 42, 180, 0, 72, 27, 50, 28, 47, 173, 78, 20, 1, 47]
abbrev dktX0_get_0 : List UInt8 := dkwX0_get_0 ++ dktX0_get_1
theorem dksX0_get_0 : cX0_get.data.toList.drop 0 = dktX0_get_0 := by decide +kernel
theorem dksX0_get_1 : cX0_get.data.toList.drop 24 = dktX0_get_1 := dk_seg dksX0_get_0 24 rfl rfl
theorem dX0_get_0 : decode cX0_get 0 = .ok (.iload_n 1, 1) := dk_27 (dk_at dksX0_get_0 0 rfl rfl)
theorem dX0_get_1 : decode cX0_get 1 = .ok (.invokestatic 514, 3) := dk_184 2 2 (dk_at dksX0_get_0 1 rfl rfl)
theorem dX0_get_4 : decode cX0_get 4 = .ok (.ifCond .ne 7, 3) := dk_154 0 7 (dk_at dksX0_get_0 4 rfl rfl)
theorem dX0_get_7 : decode cX0_get 7 = .ok (.ldc2_w 303, 3) := dk_20 1 47 (dk_at dksX0_get_0 7 rfl rfl)
theorem dX0_get_10 : decode cX0_get 10 = .ok (.lreturn, 1) := dk_173 (dk_at dksX0_get_0 10 rfl rfl)
theorem dX0_get_11 : decode cX0_get 11 = .ok (.aload_n 0, 1) := dk_42 (dk_at dksX0_get_0 11 rfl rfl)
theorem dX0_get_12 : decode cX0_get 12 = .ok (.getfield 72, 3) := dk_180 0 72 (dk_at dksX0_get_0 12 rfl rfl)
theorem dX0_get_15 : decode cX0_get 15 = .ok (.iload_n 1, 1) := dk_27 (dk_at dksX0_get_0 15 rfl rfl)
theorem dX0_get_16 : decode cX0_get 16 = .ok (.aaload, 1) := dk_50 (dk_at dksX0_get_0 16 rfl rfl)
theorem dX0_get_17 : decode cX0_get 17 = .ok (.iload_n 2, 1) := dk_28 (dk_at dksX0_get_0 17 rfl rfl)
theorem dX0_get_18 : decode cX0_get 18 = .ok (.laload, 1) := dk_47 (dk_at dksX0_get_0 18 rfl rfl)
theorem dX0_get_19 : decode cX0_get 19 = .ok (.lreturn, 1) := dk_173 (dk_at dksX0_get_0 19 rfl rfl)
theorem dX0_get_20 : decode cX0_get 20 = .ok (.astore_n 3, 1) := dk_78 (dk_at dksX0_get_0 20 rfl rfl)
theorem dX0_get_21 : decode cX0_get 21 = .ok (.ldc2_w 303, 3) := dk_20 1 47 (dk_at dksX0_get_0 21 rfl rfl)
theorem dX0_get_24 : decode cX0_get 24 = .ok (.lreturn, 1) := dk_173 (dk_at dksX0_get_1 0 rfl rfl)
abbrev cX0_lay : ByteArray := prog_1_method_81_code
def yX0_lay : MethodName := ⟨RX0, "lay", "(II)I"⟩
def dkwX0_lay_3 : List UInt8 := [167, 255, 222, 167, 0, 7, 78, 16, 243, 172, 42, 180, 0, 29, 180, 0, 157, 172]
abbrev dktX0_lay_3 : List UInt8 := dkwX0_lay_3 ++ []
def dkwX0_lay_2 : List UInt8 := [180, 0, 72, 27, 50, 28, 29, 96, 42, 180, 0, 29, 180, 1, 111, 29, 46, 133, 80, 132, 3, 1]
abbrev dktX0_lay_2 : List UInt8 := dkwX0_lay_2 ++ dktX0_lay_3
def dkwX0_lay_1 : List UInt8 := [182, 1, 103, 154, 0, 6, 16, 253, 172, 3, 62, 29, 42, 180, 0, 29, 180, 0, 157, 162, 0, 29, 42]
abbrev dktX0_lay_1 : List UInt8 := dkwX0_lay_1 ++ dktX0_lay_2
def dkwX0_lay_0 : List UInt8 := [27, 184, 2, 2, 154, 0, 5, 2, 172, 42, 180, 0, 72, 27, 50, 199, 0, 6, 16, 245, 172, 42]
abbrev dktX0_lay_0 : List UInt8 := dkwX0_lay_0 ++ dktX0_lay_1
theorem dksX0_lay_0 : cX0_lay.data.toList.drop 0 = dktX0_lay_0 := by decide +kernel
theorem dksX0_lay_1 : cX0_lay.data.toList.drop 22 = dktX0_lay_1 := dk_seg dksX0_lay_0 22 rfl rfl
theorem dksX0_lay_2 : cX0_lay.data.toList.drop 45 = dktX0_lay_2 := dk_seg dksX0_lay_1 23 rfl rfl
theorem dksX0_lay_3 : cX0_lay.data.toList.drop 67 = dktX0_lay_3 := dk_seg dksX0_lay_2 22 rfl rfl
theorem dX0_lay_0 : decode cX0_lay 0 = .ok (.iload_n 1, 1) := dk_27 (dk_at dksX0_lay_0 0 rfl rfl)
theorem dX0_lay_1 : decode cX0_lay 1 = .ok (.invokestatic 514, 3) := dk_184 2 2 (dk_at dksX0_lay_0 1 rfl rfl)
theorem dX0_lay_4 : decode cX0_lay 4 = .ok (.ifCond .ne 5, 3) := dk_154 0 5 (dk_at dksX0_lay_0 4 rfl rfl)
theorem dX0_lay_7 : decode cX0_lay 7 = .ok (.iconst (-1), 1) := dk_2 (dk_at dksX0_lay_0 7 rfl rfl)
theorem dX0_lay_8 : decode cX0_lay 8 = .ok (.ireturn, 1) := dk_172 (dk_at dksX0_lay_0 8 rfl rfl)
theorem dX0_lay_9 : decode cX0_lay 9 = .ok (.aload_n 0, 1) := dk_42 (dk_at dksX0_lay_0 9 rfl rfl)
theorem dX0_lay_10 : decode cX0_lay 10 = .ok (.getfield 72, 3) := dk_180 0 72 (dk_at dksX0_lay_0 10 rfl rfl)
theorem dX0_lay_13 : decode cX0_lay 13 = .ok (.iload_n 1, 1) := dk_27 (dk_at dksX0_lay_0 13 rfl rfl)
theorem dX0_lay_14 : decode cX0_lay 14 = .ok (.aaload, 1) := dk_50 (dk_at dksX0_lay_0 14 rfl rfl)
theorem dX0_lay_15 : decode cX0_lay 15 = .ok (.ifnonnull 6, 3) := dk_199 0 6 (dk_at dksX0_lay_0 15 rfl rfl)
theorem dX0_lay_18 : decode cX0_lay 18 = .ok (.bipush (-11), 2) := dk_16 245 (dk_at dksX0_lay_0 18 rfl rfl)
theorem dX0_lay_20 : decode cX0_lay 20 = .ok (.ireturn, 1) := dk_172 (dk_at dksX0_lay_0 20 rfl rfl)
theorem dX0_lay_21 : decode cX0_lay 21 = .ok (.aload_n 0, 1) := dk_42 (dk_at dksX0_lay_0 21 rfl rfl)
theorem dX0_lay_22 : decode cX0_lay 22 = .ok (.invokevirtual 359, 3) := dk_182 1 103 (dk_at dksX0_lay_1 0 rfl rfl)
theorem dX0_lay_25 : decode cX0_lay 25 = .ok (.ifCond .ne 6, 3) := dk_154 0 6 (dk_at dksX0_lay_1 3 rfl rfl)
theorem dX0_lay_28 : decode cX0_lay 28 = .ok (.bipush (-3), 2) := dk_16 253 (dk_at dksX0_lay_1 6 rfl rfl)
theorem dX0_lay_30 : decode cX0_lay 30 = .ok (.ireturn, 1) := dk_172 (dk_at dksX0_lay_1 8 rfl rfl)
theorem dX0_lay_31 : decode cX0_lay 31 = .ok (.iconst 0, 1) := dk_3 (dk_at dksX0_lay_1 9 rfl rfl)
theorem dX0_lay_32 : decode cX0_lay 32 = .ok (.istore_n 3, 1) := dk_62 (dk_at dksX0_lay_1 10 rfl rfl)
theorem dX0_lay_33 : decode cX0_lay 33 = .ok (.iload_n 3, 1) := dk_29 (dk_at dksX0_lay_1 11 rfl rfl)
theorem dX0_lay_34 : decode cX0_lay 34 = .ok (.aload_n 0, 1) := dk_42 (dk_at dksX0_lay_1 12 rfl rfl)
theorem dX0_lay_35 : decode cX0_lay 35 = .ok (.getfield 29, 3) := dk_180 0 29 (dk_at dksX0_lay_1 13 rfl rfl)
theorem dX0_lay_38 : decode cX0_lay 38 = .ok (.getfield 157, 3) := dk_180 0 157 (dk_at dksX0_lay_1 16 rfl rfl)
theorem dX0_lay_41 : decode cX0_lay 41 = .ok (.if_icmp .ge 29, 3) := dk_162 0 29 (dk_at dksX0_lay_1 19 rfl rfl)
theorem dX0_lay_44 : decode cX0_lay 44 = .ok (.aload_n 0, 1) := dk_42 (dk_at dksX0_lay_1 22 rfl rfl)
theorem dX0_lay_45 : decode cX0_lay 45 = .ok (.getfield 72, 3) := dk_180 0 72 (dk_at dksX0_lay_2 0 rfl rfl)
theorem dX0_lay_48 : decode cX0_lay 48 = .ok (.iload_n 1, 1) := dk_27 (dk_at dksX0_lay_2 3 rfl rfl)
theorem dX0_lay_49 : decode cX0_lay 49 = .ok (.aaload, 1) := dk_50 (dk_at dksX0_lay_2 4 rfl rfl)
theorem dX0_lay_50 : decode cX0_lay 50 = .ok (.iload_n 2, 1) := dk_28 (dk_at dksX0_lay_2 5 rfl rfl)
theorem dX0_lay_51 : decode cX0_lay 51 = .ok (.iload_n 3, 1) := dk_29 (dk_at dksX0_lay_2 6 rfl rfl)
theorem dX0_lay_52 : decode cX0_lay 52 = .ok (.iadd, 1) := dk_96 (dk_at dksX0_lay_2 7 rfl rfl)
theorem dX0_lay_53 : decode cX0_lay 53 = .ok (.aload_n 0, 1) := dk_42 (dk_at dksX0_lay_2 8 rfl rfl)
theorem dX0_lay_54 : decode cX0_lay 54 = .ok (.getfield 29, 3) := dk_180 0 29 (dk_at dksX0_lay_2 9 rfl rfl)
theorem dX0_lay_57 : decode cX0_lay 57 = .ok (.getfield 367, 3) := dk_180 1 111 (dk_at dksX0_lay_2 12 rfl rfl)
theorem dX0_lay_60 : decode cX0_lay 60 = .ok (.iload_n 3, 1) := dk_29 (dk_at dksX0_lay_2 15 rfl rfl)
theorem dX0_lay_61 : decode cX0_lay 61 = .ok (.iaload, 1) := dk_46 (dk_at dksX0_lay_2 16 rfl rfl)
theorem dX0_lay_62 : decode cX0_lay 62 = .ok (.i2l, 1) := dk_133 (dk_at dksX0_lay_2 17 rfl rfl)
theorem dX0_lay_63 : decode cX0_lay 63 = .ok (.lastore, 1) := dk_80 (dk_at dksX0_lay_2 18 rfl rfl)
theorem dX0_lay_64 : decode cX0_lay 64 = .ok (.iinc 3 1, 3) := dk_132 3 1 (dk_at dksX0_lay_2 19 rfl rfl)
theorem dX0_lay_67 : decode cX0_lay 67 = .ok (.goto (-34), 3) := dk_167 255 222 (dk_at dksX0_lay_3 0 rfl rfl)
theorem dX0_lay_70 : decode cX0_lay 70 = .ok (.goto 7, 3) := dk_167 0 7 (dk_at dksX0_lay_3 3 rfl rfl)
theorem dX0_lay_73 : decode cX0_lay 73 = .ok (.astore_n 3, 1) := dk_78 (dk_at dksX0_lay_3 6 rfl rfl)
theorem dX0_lay_74 : decode cX0_lay 74 = .ok (.bipush (-13), 2) := dk_16 243 (dk_at dksX0_lay_3 7 rfl rfl)
theorem dX0_lay_76 : decode cX0_lay 76 = .ok (.ireturn, 1) := dk_172 (dk_at dksX0_lay_3 9 rfl rfl)
theorem dX0_lay_77 : decode cX0_lay 77 = .ok (.aload_n 0, 1) := dk_42 (dk_at dksX0_lay_3 10 rfl rfl)
theorem dX0_lay_78 : decode cX0_lay 78 = .ok (.getfield 29, 3) := dk_180 0 29 (dk_at dksX0_lay_3 11 rfl rfl)
theorem dX0_lay_81 : decode cX0_lay 81 = .ok (.getfield 157, 3) := dk_180 0 157 (dk_at dksX0_lay_3 14 rfl rfl)
theorem dX0_lay_84 : decode cX0_lay 84 = .ok (.ireturn, 1) := dk_172 (dk_at dksX0_lay_3 17 rfl rfl)
abbrev cX0_image : ByteArray := prog_1_method_82_code
def yX0_image : MethodName := ⟨RX0, "image", "()I"⟩
def dkwX0_image_0 : List UInt8 := [42, 42, 182, 0, 233, 181, 2, 124, 42, 180, 0, 22, 182, 0, 140, 172]
abbrev dktX0_image_0 : List UInt8 := dkwX0_image_0 ++ []
theorem dksX0_image_0 : cX0_image.data.toList.drop 0 = dktX0_image_0 := by decide +kernel
theorem dX0_image_0 : decode cX0_image 0 = .ok (.aload_n 0, 1) := dk_42 (dk_at dksX0_image_0 0 rfl rfl)
theorem dX0_image_1 : decode cX0_image 1 = .ok (.aload_n 0, 1) := dk_42 (dk_at dksX0_image_0 1 rfl rfl)
theorem dX0_image_2 : decode cX0_image 2 = .ok (.invokevirtual 233, 3) := dk_182 0 233 (dk_at dksX0_image_0 2 rfl rfl)
theorem dX0_image_5 : decode cX0_image 5 = .ok (.putfield 636, 3) := dk_181 2 124 (dk_at dksX0_image_0 5 rfl rfl)
theorem dX0_image_8 : decode cX0_image 8 = .ok (.aload_n 0, 1) := dk_42 (dk_at dksX0_image_0 8 rfl rfl)
theorem dX0_image_9 : decode cX0_image 9 = .ok (.getfield 22, 3) := dk_180 0 22 (dk_at dksX0_image_0 9 rfl rfl)
theorem dX0_image_12 : decode cX0_image 12 = .ok (.invokevirtual 140, 3) := dk_182 0 140 (dk_at dksX0_image_0 12 rfl rfl)
theorem dX0_image_15 : decode cX0_image 15 = .ok (.ireturn, 1) := dk_172 (dk_at dksX0_image_0 15 rfl rfl)
abbrev cX0_undo : ByteArray := prog_1_method_83_code
def yX0_undo : MethodName := ⟨RX0, "undo", "()I"⟩
def dkwX0_undo_1 : List UInt8 := [182, 2, 128, 42, 180, 0, 22, 182, 0, 140, 172]
abbrev dktX0_undo_1 : List UInt8 := dkwX0_undo_1 ++ []
def dkwX0_undo_0 : List UInt8 := [42, 180, 2, 124, 199, 0, 6, 16, 253, 172, 42, 42, 180, 2, 124, 182, 1, 2, 42, 180, 0, 41]
abbrev dktX0_undo_0 : List UInt8 := dkwX0_undo_0 ++ dktX0_undo_1
theorem dksX0_undo_0 : cX0_undo.data.toList.drop 0 = dktX0_undo_0 := by decide +kernel
theorem dksX0_undo_1 : cX0_undo.data.toList.drop 22 = dktX0_undo_1 := dk_seg dksX0_undo_0 22 rfl rfl
theorem dX0_undo_0 : decode cX0_undo 0 = .ok (.aload_n 0, 1) := dk_42 (dk_at dksX0_undo_0 0 rfl rfl)
theorem dX0_undo_1 : decode cX0_undo 1 = .ok (.getfield 636, 3) := dk_180 2 124 (dk_at dksX0_undo_0 1 rfl rfl)
theorem dX0_undo_4 : decode cX0_undo 4 = .ok (.ifnonnull 6, 3) := dk_199 0 6 (dk_at dksX0_undo_0 4 rfl rfl)
theorem dX0_undo_7 : decode cX0_undo 7 = .ok (.bipush (-3), 2) := dk_16 253 (dk_at dksX0_undo_0 7 rfl rfl)
theorem dX0_undo_9 : decode cX0_undo 9 = .ok (.ireturn, 1) := dk_172 (dk_at dksX0_undo_0 9 rfl rfl)
theorem dX0_undo_10 : decode cX0_undo 10 = .ok (.aload_n 0, 1) := dk_42 (dk_at dksX0_undo_0 10 rfl rfl)
theorem dX0_undo_11 : decode cX0_undo 11 = .ok (.aload_n 0, 1) := dk_42 (dk_at dksX0_undo_0 11 rfl rfl)
theorem dX0_undo_12 : decode cX0_undo 12 = .ok (.getfield 636, 3) := dk_180 2 124 (dk_at dksX0_undo_0 12 rfl rfl)
theorem dX0_undo_15 : decode cX0_undo 15 = .ok (.invokevirtual 258, 3) := dk_182 1 2 (dk_at dksX0_undo_0 15 rfl rfl)
theorem dX0_undo_18 : decode cX0_undo 18 = .ok (.aload_n 0, 1) := dk_42 (dk_at dksX0_undo_0 18 rfl rfl)
theorem dX0_undo_19 : decode cX0_undo 19 = .ok (.getfield 41, 3) := dk_180 0 41 (dk_at dksX0_undo_0 19 rfl rfl)
theorem dX0_undo_22 : decode cX0_undo 22 = .ok (.invokevirtual 640, 3) := dk_182 2 128 (dk_at dksX0_undo_1 0 rfl rfl)
theorem dX0_undo_25 : decode cX0_undo 25 = .ok (.aload_n 0, 1) := dk_42 (dk_at dksX0_undo_1 3 rfl rfl)
theorem dX0_undo_26 : decode cX0_undo 26 = .ok (.getfield 22, 3) := dk_180 0 22 (dk_at dksX0_undo_1 4 rfl rfl)
theorem dX0_undo_29 : decode cX0_undo 29 = .ok (.invokevirtual 140, 3) := dk_182 0 140 (dk_at dksX0_undo_1 7 rfl rfl)
theorem dX0_undo_32 : decode cX0_undo 32 = .ok (.ireturn, 1) := dk_172 (dk_at dksX0_undo_1 10 rfl rfl)
theorem q127 : (Jvm.Cond.initialized "FreightRoads") ∈ lw_all := lw_g (lw_at lw_m1 1 rfl) rfl
theorem q199 : (Jvm.Cond.instantiable "FreightRoads" (32 : Nat)) ∈ lw_all := lw_g (lw_at lw_m1 73 rfl) rfl
theorem q201 : (Jvm.Cond.instanceMethod ({ cls := "FreightRoads", name := "<init>", desc := "()V" } : Jvm.MethodName)) ∈ lw_all := lw_g (lw_at lw_m1 75 rfl) rfl
theorem q202 : (Jvm.Cond.code ({ cls := "FreightRoads", name := "<init>", desc := "()V" } : Jvm.MethodName) prog_1_method_2_code (1 : Nat) (Option.none : Option Jvm.ClassFile.FieldType)) ∈ lw_all := lw_g (lw_at lw_m1 76 rfl) rfl
theorem q203 : (Jvm.Cond.methodLink "FreightRoads" (3 : Nat) ({ cls := "java/lang/Object", name := "<init>", desc := "()V" } : Jvm.MethodName)) ∈ lw_all := lw_g (lw_at lw_m1 77 rfl) rfl
theorem q206 : (Jvm.Cond.classLink "FreightRoads" (19 : Nat) "java/util/LinkedList") ∈ lw_all := lw_g (lw_at lw_m1 80 rfl) rfl
theorem q208 : (Jvm.Cond.methodLink "FreightRoads" (21 : Nat) ({ cls := "java/util/LinkedList", name := "<init>", desc := "()V" } : Jvm.MethodName)) ∈ lw_all := lw_g (lw_at lw_m1 82 rfl) rfl
theorem q240 : (Jvm.Cond.classLink "FreightRoads" (26 : Nat) "FreightRoads$Net") ∈ lw_all := lw_g (lw_at lw_m1 114 rfl) rfl
theorem q242 : (Jvm.Cond.methodLink "FreightRoads" (28 : Nat) ({ cls := "FreightRoads$Net", name := "<init>", desc := "()V" } : Jvm.MethodName)) ∈ lw_all := lw_g (lw_at lw_m1 116 rfl) rfl
theorem q663 : (Jvm.Cond.fieldLinkNest "FreightRoads" (383 : Nat) "FreightRoads$Net" "from" "[I" "FreightRoads") ∈ lw_tbl := lw_at lw_m3 57 rfl
theorem q665 : (Jvm.Cond.fieldLinkNest "FreightRoads" (388 : Nat) "FreightRoads$Net" "to" "[I" "FreightRoads") ∈ lw_tbl := lw_at lw_m3 59 rfl
theorem q667 : (Jvm.Cond.fieldLinkNest "FreightRoads" (520 : Nat) "FreightRoads$Net" "low" "[I" "FreightRoads") ∈ lw_tbl := lw_at lw_m3 61 rfl
theorem q669 : (Jvm.Cond.fieldLinkNest "FreightRoads" (522 : Nat) "FreightRoads$Net" "most" "[I" "FreightRoads") ∈ lw_tbl := lw_at lw_m3 63 rfl
theorem q671 : (Jvm.Cond.fieldLinkNest "FreightRoads" (390 : Nat) "FreightRoads$Net" "cost" "[J" "FreightRoads") ∈ lw_tbl := lw_at lw_m3 65 rfl
theorem q673 : (Jvm.Cond.fieldLinkNest "FreightRoads" (367 : Nat) "FreightRoads$Net" "amount" "[I" "FreightRoads") ∈ lw_tbl := lw_at lw_m3 67 rfl
theorem q675 : (Jvm.Cond.fieldLinkNest "FreightRoads" (195 : Nat) "FreightRoads$Net" "supply" "[I" "FreightRoads") ∈ lw_tbl := lw_at lw_m3 69 rfl
theorem q677 : (Jvm.Cond.fieldLinkNest "FreightRoads" (517 : Nat) "FreightRoads$Net" "left" "[I" "FreightRoads") ∈ lw_tbl := lw_at lw_m3 71 rfl
theorem q682 : (Jvm.Cond.fieldLinkNest "FreightRoads" (154 : Nat) "FreightRoads$Net" "towns" "I" "FreightRoads") ∈ lw_tbl := lw_at lw_m3 76 rfl
theorem q685 : (Jvm.Cond.fieldLinkNest "FreightRoads" (157 : Nat) "FreightRoads$Net" "roads" "I" "FreightRoads") ∈ lw_tbl := lw_at lw_m3 79 rfl
theorem q686 : (Jvm.Cond.fieldLinkNest "FreightRoads" (215 : Nat) "FreightRoads$Net" "isFlow" "Z" "FreightRoads") ∈ lw_tbl := lw_at lw_m3 80 rfl
theorem q689 : (Jvm.Cond.fieldLinkNest "FreightRoads" (465 : Nat) "FreightRoads$Net" "each" "J" "FreightRoads") ∈ lw_tbl := lw_at lw_m3 83 rfl
theorem q692 : (Jvm.Cond.fieldLinkNest "FreightRoads" (380 : Nat) "FreightRoads$Net" "prices" "[J" "FreightRoads") ∈ lw_tbl := lw_at lw_m3 86 rfl
theorem q695 : (Jvm.Cond.fieldLinkNest "FreightRoads" (376 : Nat) "FreightRoads$Net" "priced" "Ljava/util/BitSet;" "FreightRoads") ∈ lw_tbl := lw_at lw_m3 89 rfl
theorem q733 : (Jvm.Cond.classLink "FreightRoads" (36 : Nat) "java/util/ArrayDeque") ∈ lw_all := lw_g (lw_at lw_m3 127 rfl) rfl
theorem q735 : (Jvm.Cond.methodLink "FreightRoads" (38 : Nat) ({ cls := "java/util/ArrayDeque", name := "<init>", desc := "(I)V" } : Jvm.MethodName)) ∈ lw_all := lw_g (lw_at lw_m3 129 rfl) rfl
theorem q753 : (Jvm.Cond.stringRef "FreightRoads" (49 : Nat) "") ∈ lw_tbl := lw_at lw_m3 147 rfl
theorem q754 : (Jvm.Cond.classLink "FreightRoads" (61 : Nat) "FreightRoads$ByPrice") ∈ lw_all := lw_g (lw_at lw_m3 148 rfl) rfl
theorem q756 : (Jvm.Cond.methodLinkNest "FreightRoads" (63 : Nat) ({ cls := "FreightRoads$ByPrice", name := "<init>", desc := "(LFreightRoads;)V" } : Jvm.MethodName) "FreightRoads") ∈ lw_tbl := lw_at lw_m3 150 rfl
theorem q764 : (Jvm.Cond.classLink "FreightRoads" (70 : Nat) "[J") ∈ lw_all := lw_g (lw_at lw_m3 158 rfl) rfl
theorem q766 : (Jvm.Cond.classLink "FreightRoads" (85 : Nat) "java/util/BitSet") ∈ lw_all := lw_g (lw_at lw_m3 160 rfl) rfl
theorem q767 : (Jvm.Cond.methodLink "FreightRoads" (87 : Nat) ({ cls := "java/util/BitSet", name := "<init>", desc := "(I)V" } : Jvm.MethodName)) ∈ lw_all := lw_g (lw_at lw_m3 161 rfl) rfl
theorem q768 : (Jvm.Cond.classLink "FreightRoads" (107 : Nat) "FreightRoads$Teller") ∈ lw_all := lw_g (lw_at lw_m3 162 rfl) rfl
theorem q770 : (Jvm.Cond.privateMethod ({ cls := "FreightRoads", name := "lambda$new$4", desc := "()I" } : Jvm.MethodName)) ∈ lw_tbl := lw_at lw_m3 164 rfl
theorem q771 : (Jvm.Cond.instanceMethod ({ cls := "FreightRoads", name := "lambda$new$4", desc := "()I" } : Jvm.MethodName)) ∈ lw_all := lw_g (lw_at lw_m3 165 rfl) rfl
theorem q772 : (Jvm.Cond.code ({ cls := "FreightRoads", name := "lambda$new$4", desc := "()I" } : Jvm.MethodName) prog_1_method_88_code (1 : Nat) (Option.some Jvm.ClassFile.FieldType.int)) ∈ lw_all := lw_g (lw_at lw_m3 166 rfl) rfl
theorem q773 : (Jvm.Cond.methodLink "FreightRoads" (113 : Nat) ({ cls := "FreightRoads$Teller", name := "<init>", desc := "(LFreightRoads$Tells;)V" } : Jvm.MethodName)) ∈ lw_all := lw_g (lw_at lw_m3 167 rfl) rfl
theorem q778 : (Jvm.Cond.fieldLinkNest "FreightRoads" (622 : Nat) "FreightRoads$Teller" "tells" "LFreightRoads$Tells;" "FreightRoads") ∈ lw_tbl := lw_at lw_m3 172 rfl
theorem q782 : (Jvm.Cond.privateMethod ({ cls := "FreightRoads", name := "lambda$new$5", desc := "()I" } : Jvm.MethodName)) ∈ lw_tbl := lw_at lw_m3 176 rfl
theorem q783 : (Jvm.Cond.instanceMethod ({ cls := "FreightRoads", name := "lambda$new$5", desc := "()I" } : Jvm.MethodName)) ∈ lw_all := lw_g (lw_at lw_m3 177 rfl) rfl
theorem q784 : (Jvm.Cond.code ({ cls := "FreightRoads", name := "lambda$new$5", desc := "()I" } : Jvm.MethodName) prog_1_method_87_code (1 : Nat) (Option.some Jvm.ClassFile.FieldType.int)) ∈ lw_all := lw_g (lw_at lw_m3 178 rfl) rfl
theorem q785 : (Jvm.Cond.methodLink "FreightRoads" (140 : Nat) ({ cls := "java/util/LinkedList", name := "size", desc := "()I" } : Jvm.MethodName)) ∈ lw_all := lw_g (lw_at lw_m3 179 rfl) rfl
theorem q789 : (Jvm.Cond.privateMethod ({ cls := "FreightRoads", name := "sumOfSupplies", desc := "()I" } : Jvm.MethodName)) ∈ lw_tbl := lw_at lw_m3 183 rfl
theorem q790 : (Jvm.Cond.instanceMethod ({ cls := "FreightRoads", name := "sumOfSupplies", desc := "()I" } : Jvm.MethodName)) ∈ lw_all := lw_g (lw_at lw_m3 184 rfl) rfl
theorem q791 : (Jvm.Cond.code ({ cls := "FreightRoads", name := "sumOfSupplies", desc := "()I" } : Jvm.MethodName) prog_1_method_39_code (6 : Nat) (Option.some Jvm.ClassFile.FieldType.int)) ∈ lw_all := lw_g (lw_at lw_m3 185 rfl) rfl
theorem q792 : (Jvm.Cond.privateMethod ({ cls := "FreightRoads", name := "lambda$new$6", desc := "()I" } : Jvm.MethodName)) ∈ lw_tbl := lw_at lw_m3 186 rfl
theorem q793 : (Jvm.Cond.instanceMethod ({ cls := "FreightRoads", name := "lambda$new$6", desc := "()I" } : Jvm.MethodName)) ∈ lw_all := lw_g (lw_at lw_m3 187 rfl) rfl
theorem q794 : (Jvm.Cond.code ({ cls := "FreightRoads", name := "lambda$new$6", desc := "()I" } : Jvm.MethodName) prog_1_method_86_code (1 : Nat) (Option.some Jvm.ClassFile.FieldType.int)) ∈ lw_all := lw_g (lw_at lw_m3 188 rfl) rfl
theorem q795 : (Jvm.Cond.methodLink "FreightRoads" (241 : Nat) ({ cls := "java/util/ArrayDeque", name := "size", desc := "()I" } : Jvm.MethodName)) ∈ lw_all := lw_g (lw_at lw_m3 189 rfl) rfl
theorem q802 : (Jvm.Cond.privateMethod ({ cls := "FreightRoads", name := "lambda$new$7", desc := "()I" } : Jvm.MethodName)) ∈ lw_tbl := lw_at lw_m3 196 rfl
theorem q803 : (Jvm.Cond.instanceMethod ({ cls := "FreightRoads", name := "lambda$new$7", desc := "()I" } : Jvm.MethodName)) ∈ lw_all := lw_g (lw_at lw_m3 197 rfl) rfl
theorem q804 : (Jvm.Cond.code ({ cls := "FreightRoads", name := "lambda$new$7", desc := "()I" } : Jvm.MethodName) prog_1_method_85_code (1 : Nat) (Option.some Jvm.ClassFile.FieldType.int)) ∈ lw_all := lw_g (lw_at lw_m3 198 rfl) rfl
theorem q805 : (Jvm.Cond.privateMethod ({ cls := "FreightRoads", name := "lambda$new$8", desc := "()I" } : Jvm.MethodName)) ∈ lw_tbl := lw_at lw_m3 199 rfl
theorem q806 : (Jvm.Cond.instanceMethod ({ cls := "FreightRoads", name := "lambda$new$8", desc := "()I" } : Jvm.MethodName)) ∈ lw_all := lw_g (lw_at lw_m3 200 rfl) rfl
theorem q807 : (Jvm.Cond.code ({ cls := "FreightRoads", name := "lambda$new$8", desc := "()I" } : Jvm.MethodName) prog_1_method_84_code (1 : Nat) (Option.some Jvm.ClassFile.FieldType.int)) ∈ lw_all := lw_g (lw_at lw_m3 201 rfl) rfl
theorem q808 : (Jvm.Cond.methodLink "FreightRoads" (310 : Nat) ({ cls := "java/lang/String", name := "length", desc := "()I" } : Jvm.MethodName)) ∈ lw_all := lw_g (lw_at lw_m3 202 rfl) rfl
theorem q809 : (Jvm.Cond.privateMethod ({ cls := "FreightRoads", name := "tight", desc := "()I" } : Jvm.MethodName)) ∈ lw_tbl := lw_at lw_m3 203 rfl
theorem q810 : (Jvm.Cond.instanceMethod ({ cls := "FreightRoads", name := "tight", desc := "()I" } : Jvm.MethodName)) ∈ lw_all := lw_g (lw_at lw_m3 204 rfl) rfl
theorem q811 : (Jvm.Cond.code ({ cls := "FreightRoads", name := "tight", desc := "()I" } : Jvm.MethodName) prog_1_method_76_code (4 : Nat) (Option.some Jvm.ClassFile.FieldType.int)) ∈ lw_all := lw_g (lw_at lw_m3 205 rfl) rfl
theorem q812 : (Jvm.Cond.methodLink "FreightRoads" (159 : Nat) ({ cls := "java/util/LinkedList", name := "iterator", desc := "()Ljava/util/Iterator;" } : Jvm.MethodName)) ∈ lw_all := lw_g (lw_at lw_m3 206 rfl) rfl
theorem q865 : (Jvm.Cond.interfaceEntry "FreightRoads" (163 : Nat)) ∈ lw_tbl := lw_at lw_m4 19 rfl
theorem q866 : (Jvm.Cond.methodLink "FreightRoads" (163 : Nat) ({ cls := "java/util/Iterator", name := "hasNext", desc := "()Z" } : Jvm.MethodName)) ∈ lw_all := lw_g (lw_at lw_m4 20 rfl) rfl
theorem q916 : (Jvm.Cond.interfaceEntry "FreightRoads" (169 : Nat)) ∈ lw_tbl := lw_at lw_m4 70 rfl
theorem q917 : (Jvm.Cond.methodLink "FreightRoads" (169 : Nat) ({ cls := "java/util/Iterator", name := "next", desc := "()Ljava/lang/Object;" } : Jvm.MethodName)) ∈ lw_all := lw_g (lw_at lw_m4 71 rfl) rfl
theorem q981 : (Jvm.Cond.selects "FreightRoads" ({ cls := "java/lang/Object", name := "getClass", desc := "()Ljava/lang/Class;" } : Jvm.MethodName) ({ cls := "java/lang/Object", name := "getClass", desc := "()Ljava/lang/Class;" } : Jvm.MethodName)) ∈ lw_all := lw_g (lw_at lw_m4 135 rfl) rfl
theorem q1152 : (Jvm.Cond.classLink "FreightRoads" (173 : Nat) "FreightRoads$Road") ∈ lw_all := lw_g (lw_at lw_m5 66 rfl) rfl
theorem q1153 : (Jvm.Cond.methodLink "FreightRoads" (122 : Nat) ({ cls := "java/util/List", name := "of", desc := "(Ljava/lang/Object;Ljava/lang/Object;Ljava/lang/Object;Ljava/lang/Object;Ljava/lang/Object;Ljava/lang/Object;Ljava/lang/Object;)Ljava/util/List;" } : Jvm.MethodName)) ∈ lw_all := lw_g (lw_at lw_m5 67 rfl) rfl
theorem q1224 : (Jvm.Cond.fieldLink "FreightRoads" (11 : Nat) "FreightRoads" "n" "I") ∈ lw_all := lw_g (lw_at lw_m5 138 rfl) rfl
theorem q1225 : (Jvm.Cond.fieldLink "FreightRoads" (15 : Nat) "FreightRoads" "supplies" "[I") ∈ lw_all := lw_g (lw_at lw_m5 139 rfl) rfl
theorem q1226 : (Jvm.Cond.fieldLink "FreightRoads" (22 : Nat) "FreightRoads" "roads" "Ljava/util/LinkedList;") ∈ lw_all := lw_g (lw_at lw_m5 140 rfl) rfl
theorem q1228 : (Jvm.Cond.fieldLink "FreightRoads" (29 : Nat) "FreightRoads" "net" "LFreightRoads$Net;") ∈ lw_all := lw_g (lw_at lw_m5 142 rfl) rfl
theorem q1229 : (Jvm.Cond.fieldLink "FreightRoads" (33 : Nat) "FreightRoads" "thought" "LFreightRoads$Net;") ∈ lw_all := lw_g (lw_at lw_m5 143 rfl) rfl
theorem q1230 : (Jvm.Cond.fieldLink "FreightRoads" (144 : Nat) "FreightRoads" "isSolved" "Z") ∈ lw_all := lw_g (lw_at lw_m5 144 rfl) rfl
theorem q1231 : (Jvm.Cond.fieldLink "FreightRoads" (148 : Nat) "FreightRoads" "isPriced" "Z") ∈ lw_all := lw_g (lw_at lw_m5 145 rfl) rfl
theorem q1232 : (Jvm.Cond.fieldLink "FreightRoads" (151 : Nat) "FreightRoads" "isParted" "Z") ∈ lw_all := lw_g (lw_at lw_m5 146 rfl) rfl
theorem q1233 : (Jvm.Cond.fieldLink "FreightRoads" (41 : Nat) "FreightRoads" "done" "Ljava/util/ArrayDeque;") ∈ lw_all := lw_g (lw_at lw_m5 147 rfl) rfl
theorem q1234 : (Jvm.Cond.fieldLink "FreightRoads" (45 : Nat) "FreightRoads" "tape" "[B") ∈ lw_all := lw_g (lw_at lw_m5 148 rfl) rfl
theorem q1235 : (Jvm.Cond.fieldLink "FreightRoads" (307 : Nat) "FreightRoads" "length" "I") ∈ lw_all := lw_g (lw_at lw_m5 149 rfl) rfl
theorem q1236 : (Jvm.Cond.fieldLink "FreightRoads" (318 : Nat) "FreightRoads" "at" "I") ∈ lw_all := lw_g (lw_at lw_m5 150 rfl) rfl
theorem q1237 : (Jvm.Cond.fieldLink "FreightRoads" (51 : Nat) "FreightRoads" "paper" "Ljava/lang/String;") ∈ lw_all := lw_g (lw_at lw_m5 151 rfl) rfl
theorem q1238 : (Jvm.Cond.fieldLink "FreightRoads" (55 : Nat) "FreightRoads" "read" "Ljava/util/LinkedList;") ∈ lw_all := lw_g (lw_at lw_m5 152 rfl) rfl
theorem q1239 : (Jvm.Cond.fieldLink "FreightRoads" (58 : Nat) "FreightRoads" "readSupplies" "[I") ∈ lw_all := lw_g (lw_at lw_m5 153 rfl) rfl
theorem q1240 : (Jvm.Cond.fieldLink "FreightRoads" (66 : Nat) "FreightRoads" "byPrice" "LFreightRoads$ByPrice;") ∈ lw_all := lw_g (lw_at lw_m5 154 rfl) rfl
theorem q1241 : (Jvm.Cond.fieldLink "FreightRoads" (457 : Nat) "FreightRoads" "sentInAll" "I") ∈ lw_all := lw_g (lw_at lw_m5 155 rfl) rfl
theorem q1242 : (Jvm.Cond.fieldLink "FreightRoads" (506 : Nat) "FreightRoads" "totalThen" "J") ∈ lw_all := lw_g (lw_at lw_m5 156 rfl) rfl
theorem q1243 : (Jvm.Cond.fieldLink "FreightRoads" (72 : Nat) "FreightRoads" "rows" "[[J") ∈ lw_all := lw_g (lw_at lw_m5 157 rfl) rfl
theorem q1244 : (Jvm.Cond.fieldLink "FreightRoads" (76 : Nat) "FreightRoads" "told" "LFreightRoads$Net;") ∈ lw_all := lw_g (lw_at lw_m5 158 rfl) rfl
theorem q1245 : (Jvm.Cond.fieldLink "FreightRoads" (79 : Nat) "FreightRoads" "steps" "[I") ∈ lw_all := lw_g (lw_at lw_m5 159 rfl) rfl
theorem q1246 : (Jvm.Cond.fieldLink "FreightRoads" (82 : Nat) "FreightRoads" "ring" "[I") ∈ lw_all := lw_g (lw_at lw_m5 160 rfl) rfl
theorem q1247 : (Jvm.Cond.fieldLink "FreightRoads" (88 : Nat) "FreightRoads" "ringed" "Ljava/util/BitSet;") ∈ lw_all := lw_g (lw_at lw_m5 161 rfl) rfl
theorem q1248 : (Jvm.Cond.fieldLink "FreightRoads" (539 : Nat) "FreightRoads" "ringTowns" "I") ∈ lw_all := lw_g (lw_at lw_m5 162 rfl) rfl
theorem q1249 : (Jvm.Cond.fieldLink "FreightRoads" (527 : Nat) "FreightRoads" "ringCost" "J") ∈ lw_all := lw_g (lw_at lw_m5 163 rfl) rfl
theorem q1250 : (Jvm.Cond.fieldLink "FreightRoads" (92 : Nat) "FreightRoads" "ways" "Ljava/util/LinkedList;") ∈ lw_all := lw_g (lw_at lw_m5 164 rfl) rfl
theorem q1251 : (Jvm.Cond.fieldLink "FreightRoads" (95 : Nat) "FreightRoads" "amountsLeft" "[I") ∈ lw_all := lw_g (lw_at lw_m5 165 rfl) rfl
theorem q1252 : (Jvm.Cond.fieldLink "FreightRoads" (98 : Nat) "FreightRoads" "suppliesLeft" "[I") ∈ lw_all := lw_g (lw_at lw_m5 166 rfl) rfl
theorem q1253 : (Jvm.Cond.fieldLink "FreightRoads" (101 : Nat) "FreightRoads" "gone" "[I") ∈ lw_all := lw_g (lw_at lw_m5 167 rfl) rfl
theorem q1254 : (Jvm.Cond.fieldLink "FreightRoads" (104 : Nat) "FreightRoads" "townsGone" "[I") ∈ lw_all := lw_g (lw_at lw_m5 168 rfl) rfl
theorem q1255 : (Jvm.Cond.fieldLink "FreightRoads" (128 : Nat) "FreightRoads" "tellers" "Ljava/util/List;") ∈ lw_all := lw_g (lw_at lw_m5 169 rfl) rfl
theorem q1256 : (Jvm.Cond.fieldLink "FreightRoads" (636 : Nat) "FreightRoads" "image" "LFreightRoads$Shot;") ∈ lw_all := lw_g (lw_at lw_m5 170 rfl) rfl
theorem q1257 : (Jvm.Cond.lays "FreightRoads" "FreightRoads" "n" "I") ∈ lw_all := lw_g (lw_at lw_m5 171 rfl) rfl
theorem q1258 : (Jvm.Cond.soleField "FreightRoads" "n") ∈ lw_all := lw_g (lw_at lw_m5 172 rfl) rfl
theorem q1259 : (Jvm.Cond.laysFinal "FreightRoads" "FreightRoads" "supplies" "[I") ∈ lw_all := lw_g (lw_at lw_m5 173 rfl) rfl
theorem q1260 : (Jvm.Cond.soleField "FreightRoads" "supplies") ∈ lw_all := lw_g (lw_at lw_m5 174 rfl) rfl
theorem q1261 : (Jvm.Cond.laysFinal "FreightRoads" "FreightRoads" "roads" "Ljava/util/LinkedList;") ∈ lw_all := lw_g (lw_at lw_m5 175 rfl) rfl
theorem q1262 : (Jvm.Cond.soleField "FreightRoads" "roads") ∈ lw_all := lw_g (lw_at lw_m5 176 rfl) rfl
theorem q1263 : (Jvm.Cond.laysFinal "FreightRoads" "FreightRoads" "net" "LFreightRoads$Net;") ∈ lw_all := lw_g (lw_at lw_m5 177 rfl) rfl
theorem q1264 : (Jvm.Cond.soleField "FreightRoads" "net") ∈ lw_all := lw_g (lw_at lw_m5 178 rfl) rfl
theorem q1265 : (Jvm.Cond.laysFinal "FreightRoads" "FreightRoads" "thought" "LFreightRoads$Net;") ∈ lw_all := lw_g (lw_at lw_m5 179 rfl) rfl
theorem q1266 : (Jvm.Cond.soleField "FreightRoads" "thought") ∈ lw_all := lw_g (lw_at lw_m5 180 rfl) rfl
theorem q1267 : (Jvm.Cond.lays "FreightRoads" "FreightRoads" "isSolved" "Z") ∈ lw_all := lw_g (lw_at lw_m5 181 rfl) rfl
theorem q1268 : (Jvm.Cond.soleField "FreightRoads" "isSolved") ∈ lw_all := lw_g (lw_at lw_m5 182 rfl) rfl
theorem q1269 : (Jvm.Cond.lays "FreightRoads" "FreightRoads" "isPriced" "Z") ∈ lw_all := lw_g (lw_at lw_m5 183 rfl) rfl
theorem q1270 : (Jvm.Cond.soleField "FreightRoads" "isPriced") ∈ lw_all := lw_g (lw_at lw_m5 184 rfl) rfl
theorem q1271 : (Jvm.Cond.lays "FreightRoads" "FreightRoads" "isParted" "Z") ∈ lw_all := lw_g (lw_at lw_m5 185 rfl) rfl
theorem q1272 : (Jvm.Cond.soleField "FreightRoads" "isParted") ∈ lw_all := lw_g (lw_at lw_m5 186 rfl) rfl
theorem q1273 : (Jvm.Cond.laysFinal "FreightRoads" "FreightRoads" "done" "Ljava/util/ArrayDeque;") ∈ lw_all := lw_g (lw_at lw_m5 187 rfl) rfl
theorem q1274 : (Jvm.Cond.soleField "FreightRoads" "done") ∈ lw_all := lw_g (lw_at lw_m5 188 rfl) rfl
theorem q1275 : (Jvm.Cond.laysFinal "FreightRoads" "FreightRoads" "tape" "[B") ∈ lw_all := lw_g (lw_at lw_m5 189 rfl) rfl
theorem q1276 : (Jvm.Cond.soleField "FreightRoads" "tape") ∈ lw_all := lw_g (lw_at lw_m5 190 rfl) rfl
theorem q1277 : (Jvm.Cond.lays "FreightRoads" "FreightRoads" "length" "I") ∈ lw_all := lw_g (lw_at lw_m5 191 rfl) rfl
theorem q1278 : (Jvm.Cond.soleField "FreightRoads" "length") ∈ lw_all := lw_g (lw_at lw_m5 192 rfl) rfl
theorem q1279 : (Jvm.Cond.lays "FreightRoads" "FreightRoads" "at" "I") ∈ lw_all := lw_g (lw_at lw_m5 193 rfl) rfl
theorem q1280 : (Jvm.Cond.soleField "FreightRoads" "at") ∈ lw_all := lw_g (lw_at lw_m5 194 rfl) rfl
theorem q1281 : (Jvm.Cond.lays "FreightRoads" "FreightRoads" "paper" "Ljava/lang/String;") ∈ lw_all := lw_g (lw_at lw_m5 195 rfl) rfl
theorem q1282 : (Jvm.Cond.soleField "FreightRoads" "paper") ∈ lw_all := lw_g (lw_at lw_m5 196 rfl) rfl
theorem q1283 : (Jvm.Cond.laysFinal "FreightRoads" "FreightRoads" "read" "Ljava/util/LinkedList;") ∈ lw_all := lw_g (lw_at lw_m5 197 rfl) rfl
theorem q1284 : (Jvm.Cond.soleField "FreightRoads" "read") ∈ lw_all := lw_g (lw_at lw_m5 198 rfl) rfl
theorem q1285 : (Jvm.Cond.laysFinal "FreightRoads" "FreightRoads" "readSupplies" "[I") ∈ lw_all := lw_g (lw_at lw_m5 199 rfl) rfl
theorem q1286 : (Jvm.Cond.soleField "FreightRoads" "readSupplies") ∈ lw_all := lw_g (lw_at lw_m5 200 rfl) rfl
theorem q1287 : (Jvm.Cond.laysFinal "FreightRoads" "FreightRoads" "byPrice" "LFreightRoads$ByPrice;") ∈ lw_all := lw_g (lw_at lw_m5 201 rfl) rfl
theorem q1288 : (Jvm.Cond.soleField "FreightRoads" "byPrice") ∈ lw_all := lw_g (lw_at lw_m5 202 rfl) rfl
theorem q1289 : (Jvm.Cond.lays "FreightRoads" "FreightRoads" "sentInAll" "I") ∈ lw_all := lw_g (lw_at lw_m5 203 rfl) rfl
theorem q1290 : (Jvm.Cond.soleField "FreightRoads" "sentInAll") ∈ lw_all := lw_g (lw_at lw_m5 204 rfl) rfl
theorem q1291 : (Jvm.Cond.lays "FreightRoads" "FreightRoads" "totalThen" "J") ∈ lw_all := lw_g (lw_at lw_m5 205 rfl) rfl
theorem q1292 : (Jvm.Cond.soleField "FreightRoads" "totalThen") ∈ lw_all := lw_g (lw_at lw_m5 206 rfl) rfl
theorem q1293 : (Jvm.Cond.laysFinal "FreightRoads" "FreightRoads" "rows" "[[J") ∈ lw_all := lw_g (lw_at lw_m5 207 rfl) rfl
theorem q1294 : (Jvm.Cond.soleField "FreightRoads" "rows") ∈ lw_all := lw_g (lw_at lw_m5 208 rfl) rfl
theorem q1295 : (Jvm.Cond.laysFinal "FreightRoads" "FreightRoads" "told" "LFreightRoads$Net;") ∈ lw_all := lw_g (lw_at lw_m5 209 rfl) rfl
theorem q1296 : (Jvm.Cond.soleField "FreightRoads" "told") ∈ lw_all := lw_g (lw_at lw_m5 210 rfl) rfl
theorem q1297 : (Jvm.Cond.laysFinal "FreightRoads" "FreightRoads" "steps" "[I") ∈ lw_all := lw_g (lw_at lw_m5 211 rfl) rfl
theorem q1298 : (Jvm.Cond.soleField "FreightRoads" "steps") ∈ lw_all := lw_g (lw_at lw_m5 212 rfl) rfl
theorem q1299 : (Jvm.Cond.laysFinal "FreightRoads" "FreightRoads" "ring" "[I") ∈ lw_all := lw_g (lw_at lw_m5 213 rfl) rfl
theorem q1300 : (Jvm.Cond.soleField "FreightRoads" "ring") ∈ lw_all := lw_g (lw_at lw_m5 214 rfl) rfl
theorem q1301 : (Jvm.Cond.laysFinal "FreightRoads" "FreightRoads" "ringed" "Ljava/util/BitSet;") ∈ lw_all := lw_g (lw_at lw_m5 215 rfl) rfl
theorem q1302 : (Jvm.Cond.soleField "FreightRoads" "ringed") ∈ lw_all := lw_g (lw_at lw_m5 216 rfl) rfl
theorem q1303 : (Jvm.Cond.lays "FreightRoads" "FreightRoads" "ringTowns" "I") ∈ lw_all := lw_g (lw_at lw_m5 217 rfl) rfl
theorem q1304 : (Jvm.Cond.soleField "FreightRoads" "ringTowns") ∈ lw_all := lw_g (lw_at lw_m5 218 rfl) rfl
theorem q1305 : (Jvm.Cond.lays "FreightRoads" "FreightRoads" "ringCost" "J") ∈ lw_all := lw_g (lw_at lw_m5 219 rfl) rfl
theorem q1306 : (Jvm.Cond.soleField "FreightRoads" "ringCost") ∈ lw_all := lw_g (lw_at lw_m5 220 rfl) rfl
theorem q1307 : (Jvm.Cond.laysFinal "FreightRoads" "FreightRoads" "ways" "Ljava/util/LinkedList;") ∈ lw_all := lw_g (lw_at lw_m5 221 rfl) rfl
theorem q1308 : (Jvm.Cond.soleField "FreightRoads" "ways") ∈ lw_all := lw_g (lw_at lw_m5 222 rfl) rfl
theorem q1309 : (Jvm.Cond.laysFinal "FreightRoads" "FreightRoads" "amountsLeft" "[I") ∈ lw_all := lw_g (lw_at lw_m5 223 rfl) rfl
theorem q1310 : (Jvm.Cond.soleField "FreightRoads" "amountsLeft") ∈ lw_all := lw_g (lw_at lw_m5 224 rfl) rfl
theorem q1311 : (Jvm.Cond.laysFinal "FreightRoads" "FreightRoads" "suppliesLeft" "[I") ∈ lw_all := lw_g (lw_at lw_m5 225 rfl) rfl
theorem q1312 : (Jvm.Cond.soleField "FreightRoads" "suppliesLeft") ∈ lw_all := lw_g (lw_at lw_m5 226 rfl) rfl
theorem q1313 : (Jvm.Cond.laysFinal "FreightRoads" "FreightRoads" "gone" "[I") ∈ lw_all := lw_g (lw_at lw_m5 227 rfl) rfl
theorem q1314 : (Jvm.Cond.soleField "FreightRoads" "gone") ∈ lw_all := lw_g (lw_at lw_m5 228 rfl) rfl
theorem q1315 : (Jvm.Cond.laysFinal "FreightRoads" "FreightRoads" "townsGone" "[I") ∈ lw_all := lw_g (lw_at lw_m5 229 rfl) rfl
theorem q1316 : (Jvm.Cond.soleField "FreightRoads" "townsGone") ∈ lw_all := lw_g (lw_at lw_m5 230 rfl) rfl
theorem q1317 : (Jvm.Cond.laysFinal "FreightRoads" "FreightRoads" "tellers" "Ljava/util/List;") ∈ lw_all := lw_g (lw_at lw_m5 231 rfl) rfl
theorem q1318 : (Jvm.Cond.soleField "FreightRoads" "tellers") ∈ lw_all := lw_g (lw_at lw_m5 232 rfl) rfl
theorem q1319 : (Jvm.Cond.lays "FreightRoads" "FreightRoads" "image" "LFreightRoads$Shot;") ∈ lw_all := lw_g (lw_at lw_m5 233 rfl) rfl
theorem q1320 : (Jvm.Cond.soleField "FreightRoads" "image") ∈ lw_all := lw_g (lw_at lw_m5 234 rfl) rfl
theorem q1321 : (Jvm.Cond.superclass "FreightRoads" "java/lang/Object") ∈ lw_all := lw_g (lw_at lw_m5 235 rfl) rfl
theorem q1323 : (Jvm.Cond.instanceMethod ({ cls := "FreightRoads", name := "back", desc := "()I" } : Jvm.MethodName)) ∈ lw_all := lw_g (lw_at lw_m5 237 rfl) rfl
theorem q1324 : (Jvm.Cond.selects "FreightRoads" ({ cls := "FreightRoads", name := "back", desc := "()I" } : Jvm.MethodName) ({ cls := "FreightRoads", name := "back", desc := "()I" } : Jvm.MethodName)) ∈ lw_all := lw_g (lw_at lw_m5 238 rfl) rfl
theorem q1325 : (Jvm.Cond.code ({ cls := "FreightRoads", name := "back", desc := "()I" } : Jvm.MethodName) prog_1_method_13_code (1 : Nat) (Option.some Jvm.ClassFile.FieldType.int)) ∈ lw_all := lw_g (lw_at lw_m5 239 rfl) rfl
theorem q1326 : (Jvm.Cond.methodLink "FreightRoads" (252 : Nat) ({ cls := "java/util/ArrayDeque", name := "isEmpty", desc := "()Z" } : Jvm.MethodName)) ∈ lw_all := lw_g (lw_at lw_m6 0 rfl) rfl
theorem q1327 : (Jvm.Cond.methodLink "FreightRoads" (255 : Nat) ({ cls := "java/util/ArrayDeque", name := "removeLast", desc := "()Ljava/lang/Object;" } : Jvm.MethodName)) ∈ lw_all := lw_g (lw_at lw_m6 1 rfl) rfl
theorem q1338 : (Jvm.Cond.classLink "FreightRoads" (218 : Nat) "FreightRoads$Shot") ∈ lw_all := lw_g (lw_at lw_m6 12 rfl) rfl
theorem q1339 : (Jvm.Cond.methodLink "FreightRoads" (258 : Nat) ({ cls := "FreightRoads", name := "becomes", desc := "(LFreightRoads$Shot;)V" } : Jvm.MethodName)) ∈ lw_all := lw_g (lw_at lw_m6 13 rfl) rfl
theorem q1340 : (Jvm.Cond.privateMethod ({ cls := "FreightRoads", name := "becomes", desc := "(LFreightRoads$Shot;)V" } : Jvm.MethodName)) ∈ lw_tbl := lw_at lw_m6 14 rfl
theorem q1341 : (Jvm.Cond.instanceMethod ({ cls := "FreightRoads", name := "becomes", desc := "(LFreightRoads$Shot;)V" } : Jvm.MethodName)) ∈ lw_all := lw_g (lw_at lw_m6 15 rfl) rfl
theorem q1342 : (Jvm.Cond.code ({ cls := "FreightRoads", name := "becomes", desc := "(LFreightRoads$Shot;)V" } : Jvm.MethodName) prog_1_method_12_code (3 : Nat) (Option.none : Option Jvm.ClassFile.FieldType)) ∈ lw_all := lw_g (lw_at lw_m6 16 rfl) rfl
theorem q1343 : (Jvm.Cond.methodLink "FreightRoads" (198 : Nat) ({ cls := "java/lang/System", name := "arraycopy", desc := "(Ljava/lang/Object;ILjava/lang/Object;II)V" } : Jvm.MethodName)) ∈ lw_all := lw_g (lw_at lw_m6 17 rfl) rfl
theorem q1344 : (Jvm.Cond.methodLink "FreightRoads" (248 : Nat) ({ cls := "java/util/LinkedList", name := "clear", desc := "()V" } : Jvm.MethodName)) ∈ lw_all := lw_g (lw_at lw_m6 18 rfl) rfl
theorem q1348 : (Jvm.Cond.methodLink "FreightRoads" (229 : Nat) ({ cls := "FreightRoads$Road", name := "copy", desc := "()LFreightRoads$Road;" } : Jvm.MethodName)) ∈ lw_all := lw_g (lw_at lw_m6 22 rfl) rfl
theorem q1359 : (Jvm.Cond.fieldLinkNest "FreightRoads" (175 : Nat) "FreightRoads$Road" "from" "I" "FreightRoads") ∈ lw_tbl := lw_at lw_m6 33 rfl
theorem q1361 : (Jvm.Cond.fieldLinkNest "FreightRoads" (178 : Nat) "FreightRoads$Road" "to" "I" "FreightRoads") ∈ lw_tbl := lw_at lw_m6 35 rfl
theorem q1363 : (Jvm.Cond.fieldLinkNest "FreightRoads" (181 : Nat) "FreightRoads$Road" "low" "I" "FreightRoads") ∈ lw_tbl := lw_at lw_m6 37 rfl
theorem q1365 : (Jvm.Cond.fieldLinkNest "FreightRoads" (184 : Nat) "FreightRoads$Road" "most" "I" "FreightRoads") ∈ lw_tbl := lw_at lw_m6 39 rfl
theorem q1367 : (Jvm.Cond.fieldLinkNest "FreightRoads" (187 : Nat) "FreightRoads$Road" "cost" "J" "FreightRoads") ∈ lw_tbl := lw_at lw_m6 41 rfl
theorem q1383 : (Jvm.Cond.methodLink "FreightRoads" (251 : Nat) ({ cls := "java/util/LinkedList", name := "addLast", desc := "(Ljava/lang/Object;)V" } : Jvm.MethodName)) ∈ lw_all := lw_g (lw_at lw_m6 57 rfl) rfl
theorem q1412 : (Jvm.Cond.methodLink "FreightRoads" (245 : Nat) ({ cls := "FreightRoads", name := "changes", desc := "()V" } : Jvm.MethodName)) ∈ lw_all := lw_g (lw_at lw_m6 86 rfl) rfl
theorem q1413 : (Jvm.Cond.privateMethod ({ cls := "FreightRoads", name := "changes", desc := "()V" } : Jvm.MethodName)) ∈ lw_tbl := lw_at lw_m6 87 rfl
theorem q1414 : (Jvm.Cond.instanceMethod ({ cls := "FreightRoads", name := "changes", desc := "()V" } : Jvm.MethodName)) ∈ lw_all := lw_g (lw_at lw_m6 88 rfl) rfl
theorem q1415 : (Jvm.Cond.code ({ cls := "FreightRoads", name := "changes", desc := "()V" } : Jvm.MethodName) prog_1_method_6_code (1 : Nat) (Option.none : Option Jvm.ClassFile.FieldType)) ∈ lw_all := lw_g (lw_at lw_m6 89 rfl) rfl
theorem q1417 : (Jvm.Cond.instanceMethod ({ cls := "FreightRoads", name := "towns", desc := "(I)I" } : Jvm.MethodName)) ∈ lw_all := lw_g (lw_at lw_m6 91 rfl) rfl
theorem q1418 : (Jvm.Cond.selects "FreightRoads" ({ cls := "FreightRoads", name := "towns", desc := "(I)I" } : Jvm.MethodName) ({ cls := "FreightRoads", name := "towns", desc := "(I)I" } : Jvm.MethodName)) ∈ lw_all := lw_g (lw_at lw_m6 92 rfl) rfl
theorem q1419 : (Jvm.Cond.code ({ cls := "FreightRoads", name := "towns", desc := "(I)I" } : Jvm.MethodName) prog_1_method_14_code (4 : Nat) (Option.some Jvm.ClassFile.FieldType.int)) ∈ lw_all := lw_g (lw_at lw_m6 93 rfl) rfl
theorem q1420 : (Jvm.Cond.constantLong "FreightRoads" (262 : Nat) (2 : Int64)) ∈ lw_all := lw_g (lw_at lw_m6 94 rfl) rfl
theorem q1421 : (Jvm.Cond.constantLong "FreightRoads" (264 : Nat) (8 : Int64)) ∈ lw_all := lw_g (lw_at lw_m6 95 rfl) rfl
theorem q1422 : (Jvm.Cond.methodLink "FreightRoads" (132 : Nat) ({ cls := "FreightRoads", name := "isIn", desc := "(JJJ)Z" } : Jvm.MethodName)) ∈ lw_all := lw_g (lw_at lw_m6 96 rfl) rfl
theorem q1423 : (Jvm.Cond.static ({ cls := "FreightRoads", name := "isIn", desc := "(JJJ)Z" } : Jvm.MethodName)) ∈ lw_all := lw_g (lw_at lw_m6 97 rfl) rfl
theorem q1424 : (Jvm.Cond.code ({ cls := "FreightRoads", name := "isIn", desc := "(JJJ)Z" } : Jvm.MethodName) prog_1_method_1_code (6 : Nat) (Option.some Jvm.ClassFile.FieldType.boolean)) ∈ lw_all := lw_g (lw_at lw_m6 98 rfl) rfl
theorem q1425 : (Jvm.Cond.methodLink "FreightRoads" (266 : Nat) ({ cls := "FreightRoads", name := "steps", desc := "()V" } : Jvm.MethodName)) ∈ lw_all := lw_g (lw_at lw_m6 99 rfl) rfl
theorem q1426 : (Jvm.Cond.privateMethod ({ cls := "FreightRoads", name := "steps", desc := "()V" } : Jvm.MethodName)) ∈ lw_tbl := lw_at lw_m6 100 rfl
theorem q1427 : (Jvm.Cond.instanceMethod ({ cls := "FreightRoads", name := "steps", desc := "()V" } : Jvm.MethodName)) ∈ lw_all := lw_g (lw_at lw_m6 101 rfl) rfl
theorem q1428 : (Jvm.Cond.code ({ cls := "FreightRoads", name := "steps", desc := "()V" } : Jvm.MethodName) prog_1_method_11_code (1 : Nat) (Option.none : Option Jvm.ClassFile.FieldType)) ∈ lw_all := lw_g (lw_at lw_m6 102 rfl) rfl
theorem q1429 : (Jvm.Cond.methodLink "FreightRoads" (233 : Nat) ({ cls := "FreightRoads", name := "shot", desc := "()LFreightRoads$Shot;" } : Jvm.MethodName)) ∈ lw_all := lw_g (lw_at lw_m6 103 rfl) rfl
theorem q1430 : (Jvm.Cond.privateMethod ({ cls := "FreightRoads", name := "shot", desc := "()LFreightRoads$Shot;" } : Jvm.MethodName)) ∈ lw_tbl := lw_at lw_m6 104 rfl
theorem q1431 : (Jvm.Cond.instanceMethod ({ cls := "FreightRoads", name := "shot", desc := "()LFreightRoads$Shot;" } : Jvm.MethodName)) ∈ lw_all := lw_g (lw_at lw_m6 105 rfl) rfl
theorem q1432 : (Jvm.Cond.code ({ cls := "FreightRoads", name := "shot", desc := "()LFreightRoads$Shot;" } : Jvm.MethodName) prog_1_method_10_code (4 : Nat) (Option.some (Jvm.ClassFile.FieldType.object "FreightRoads$Shot"))) ∈ lw_all := lw_g (lw_at lw_m6 106 rfl) rfl
theorem q1434 : (Jvm.Cond.methodLinkNest "FreightRoads" (220 : Nat) ({ cls := "FreightRoads$Shot", name := "<init>", desc := "()V" } : Jvm.MethodName) "FreightRoads") ∈ lw_tbl := lw_at lw_m6 108 rfl
theorem q1441 : (Jvm.Cond.fieldLinkNest "FreightRoads" (222 : Nat) "FreightRoads$Shot" "supplies" "[I" "FreightRoads") ∈ lw_tbl := lw_at lw_m6 115 rfl
theorem q1443 : (Jvm.Cond.fieldLinkNest "FreightRoads" (223 : Nat) "FreightRoads$Shot" "roads" "[LFreightRoads$Road;" "FreightRoads") ∈ lw_tbl := lw_at lw_m6 117 rfl
theorem q1444 : (Jvm.Cond.fieldLinkNest "FreightRoads" (221 : Nat) "FreightRoads$Shot" "towns" "I" "FreightRoads") ∈ lw_tbl := lw_at lw_m6 118 rfl
theorem q1445 : (Jvm.Cond.fieldLinkNest "FreightRoads" (226 : Nat) "FreightRoads$Shot" "many" "I" "FreightRoads") ∈ lw_tbl := lw_at lw_m6 119 rfl
theorem q1455 : (Jvm.Cond.methodLink "FreightRoads" (237 : Nat) ({ cls := "java/util/ArrayDeque", name := "addLast", desc := "(Ljava/lang/Object;)V" } : Jvm.MethodName)) ∈ lw_all := lw_g (lw_at lw_m6 129 rfl) rfl
theorem q1480 : (Jvm.Cond.methodLink "FreightRoads" (242 : Nat) ({ cls := "java/util/ArrayDeque", name := "removeFirst", desc := "()Ljava/lang/Object;" } : Jvm.MethodName)) ∈ lw_all := lw_g (lw_at lw_m6 154 rfl) rfl
theorem q1485 : (Jvm.Cond.instanceMethod ({ cls := "FreightRoads", name := "supply", desc := "(II)I" } : Jvm.MethodName)) ∈ lw_all := lw_g (lw_at lw_m6 159 rfl) rfl
theorem q1486 : (Jvm.Cond.selects "FreightRoads" ({ cls := "FreightRoads", name := "supply", desc := "(II)I" } : Jvm.MethodName) ({ cls := "FreightRoads", name := "supply", desc := "(II)I" } : Jvm.MethodName)) ∈ lw_all := lw_g (lw_at lw_m6 160 rfl) rfl
theorem q1487 : (Jvm.Cond.code ({ cls := "FreightRoads", name := "supply", desc := "(II)I" } : Jvm.MethodName) prog_1_method_15_code (3 : Nat) (Option.some Jvm.ClassFile.FieldType.int)) ∈ lw_all := lw_g (lw_at lw_m6 161 rfl) rfl
theorem q1488 : (Jvm.Cond.methodLink "FreightRoads" (136 : Nat) ({ cls := "FreightRoads", name := "isTown", desc := "(I)Z" } : Jvm.MethodName)) ∈ lw_all := lw_g (lw_at lw_m6 162 rfl) rfl
theorem q1489 : (Jvm.Cond.privateMethod ({ cls := "FreightRoads", name := "isTown", desc := "(I)Z" } : Jvm.MethodName)) ∈ lw_tbl := lw_at lw_m6 163 rfl
theorem q1490 : (Jvm.Cond.instanceMethod ({ cls := "FreightRoads", name := "isTown", desc := "(I)Z" } : Jvm.MethodName)) ∈ lw_all := lw_g (lw_at lw_m6 164 rfl) rfl
theorem q1491 : (Jvm.Cond.code ({ cls := "FreightRoads", name := "isTown", desc := "(I)Z" } : Jvm.MethodName) prog_1_method_3_code (2 : Nat) (Option.some Jvm.ClassFile.FieldType.boolean)) ∈ lw_all := lw_g (lw_at lw_m6 165 rfl) rfl
theorem q1492 : (Jvm.Cond.constantLong "FreightRoads" (268 : Nat) (-99 : Int64)) ∈ lw_all := lw_g (lw_at lw_m6 166 rfl) rfl
theorem q1493 : (Jvm.Cond.constantLong "FreightRoads" (270 : Nat) (99 : Int64)) ∈ lw_all := lw_g (lw_at lw_m6 167 rfl) rfl
theorem q1495 : (Jvm.Cond.instanceMethod ({ cls := "FreightRoads", name := "road", desc := "(IIIIJ)I" } : Jvm.MethodName)) ∈ lw_all := lw_g (lw_at lw_m6 169 rfl) rfl
theorem q1496 : (Jvm.Cond.selects "FreightRoads" ({ cls := "FreightRoads", name := "road", desc := "(IIIIJ)I" } : Jvm.MethodName) ({ cls := "FreightRoads", name := "road", desc := "(IIIIJ)I" } : Jvm.MethodName)) ∈ lw_all := lw_g (lw_at lw_m6 170 rfl) rfl
theorem q1497 : (Jvm.Cond.code ({ cls := "FreightRoads", name := "road", desc := "(IIIIJ)I" } : Jvm.MethodName) prog_1_method_16_code (7 : Nat) (Option.some Jvm.ClassFile.FieldType.int)) ∈ lw_all := lw_g (lw_at lw_m6 171 rfl) rfl
theorem q1498 : (Jvm.Cond.methodLink "FreightRoads" (272 : Nat) ({ cls := "FreightRoads", name := "areTowns", desc := "(II)Z" } : Jvm.MethodName)) ∈ lw_all := lw_g (lw_at lw_m6 172 rfl) rfl
theorem q1499 : (Jvm.Cond.privateMethod ({ cls := "FreightRoads", name := "areTowns", desc := "(II)Z" } : Jvm.MethodName)) ∈ lw_tbl := lw_at lw_m6 173 rfl
theorem q1500 : (Jvm.Cond.instanceMethod ({ cls := "FreightRoads", name := "areTowns", desc := "(II)Z" } : Jvm.MethodName)) ∈ lw_all := lw_g (lw_at lw_m6 174 rfl) rfl
theorem q1501 : (Jvm.Cond.code ({ cls := "FreightRoads", name := "areTowns", desc := "(II)Z" } : Jvm.MethodName) prog_1_method_4_code (3 : Nat) (Option.some Jvm.ClassFile.FieldType.boolean)) ∈ lw_all := lw_g (lw_at lw_m6 175 rfl) rfl
theorem q1502 : (Jvm.Cond.methodLink "FreightRoads" (276 : Nat) ({ cls := "FreightRoads$Road", name := "may", desc := "(IIJ)Z" } : Jvm.MethodName)) ∈ lw_all := lw_g (lw_at lw_m6 176 rfl) rfl
theorem q1509 : (Jvm.Cond.methodLink "FreightRoads" (280 : Nat) ({ cls := "FreightRoads$Road", name := "<init>", desc := "(II)V" } : Jvm.MethodName)) ∈ lw_all := lw_g (lw_at lw_m6 183 rfl) rfl
theorem q1510 : (Jvm.Cond.methodLink "FreightRoads" (283 : Nat) ({ cls := "FreightRoads$Road", name := "bounded", desc := "(IIJ)LFreightRoads$Road;" } : Jvm.MethodName)) ∈ lw_all := lw_g (lw_at lw_m6 184 rfl) rfl
theorem q1512 : (Jvm.Cond.instanceMethod ({ cls := "FreightRoads", name := "alter", desc := "(IIIJ)I" } : Jvm.MethodName)) ∈ lw_all := lw_g (lw_at lw_m6 186 rfl) rfl
theorem q1513 : (Jvm.Cond.selects "FreightRoads" ({ cls := "FreightRoads", name := "alter", desc := "(IIIJ)I" } : Jvm.MethodName) ({ cls := "FreightRoads", name := "alter", desc := "(IIIJ)I" } : Jvm.MethodName)) ∈ lw_all := lw_g (lw_at lw_m6 187 rfl) rfl
theorem q1514 : (Jvm.Cond.code ({ cls := "FreightRoads", name := "alter", desc := "(IIIJ)I" } : Jvm.MethodName) prog_1_method_17_code (6 : Nat) (Option.some Jvm.ClassFile.FieldType.int)) ∈ lw_all := lw_g (lw_at lw_m6 188 rfl) rfl
theorem q1515 : (Jvm.Cond.methodLink "FreightRoads" (287 : Nat) ({ cls := "FreightRoads", name := "isRoad", desc := "(I)Z" } : Jvm.MethodName)) ∈ lw_all := lw_g (lw_at lw_m6 189 rfl) rfl
theorem q1516 : (Jvm.Cond.privateMethod ({ cls := "FreightRoads", name := "isRoad", desc := "(I)Z" } : Jvm.MethodName)) ∈ lw_tbl := lw_at lw_m6 190 rfl
theorem q1517 : (Jvm.Cond.instanceMethod ({ cls := "FreightRoads", name := "isRoad", desc := "(I)Z" } : Jvm.MethodName)) ∈ lw_all := lw_g (lw_at lw_m6 191 rfl) rfl
theorem q1518 : (Jvm.Cond.code ({ cls := "FreightRoads", name := "isRoad", desc := "(I)Z" } : Jvm.MethodName) prog_1_method_5_code (2 : Nat) (Option.some Jvm.ClassFile.FieldType.boolean)) ∈ lw_all := lw_g (lw_at lw_m6 192 rfl) rfl
theorem q1519 : (Jvm.Cond.methodLink "FreightRoads" (290 : Nat) ({ cls := "java/util/LinkedList", name := "get", desc := "(I)Ljava/lang/Object;" } : Jvm.MethodName)) ∈ lw_all := lw_g (lw_at lw_m6 193 rfl) rfl
theorem q1521 : (Jvm.Cond.instanceMethod ({ cls := "FreightRoads", name := "close", desc := "(I)I" } : Jvm.MethodName)) ∈ lw_all := lw_g (lw_at lw_m6 195 rfl) rfl
theorem q1522 : (Jvm.Cond.selects "FreightRoads" ({ cls := "FreightRoads", name := "close", desc := "(I)I" } : Jvm.MethodName) ({ cls := "FreightRoads", name := "close", desc := "(I)I" } : Jvm.MethodName)) ∈ lw_all := lw_g (lw_at lw_m6 196 rfl) rfl
theorem q1523 : (Jvm.Cond.code ({ cls := "FreightRoads", name := "close", desc := "(I)I" } : Jvm.MethodName) prog_1_method_18_code (4 : Nat) (Option.some Jvm.ClassFile.FieldType.int)) ∈ lw_all := lw_g (lw_at lw_m6 197 rfl) rfl
theorem q1524 : (Jvm.Cond.interfaceEntry "FreightRoads" (294 : Nat)) ∈ lw_tbl := lw_at lw_m6 198 rfl
theorem q1525 : (Jvm.Cond.methodLink "FreightRoads" (294 : Nat) ({ cls := "java/util/Iterator", name := "remove", desc := "()V" } : Jvm.MethodName)) ∈ lw_all := lw_g (lw_at lw_m6 199 rfl) rfl
theorem q1935 : (Jvm.Cond.instanceMethod ({ cls := "FreightRoads", name := "of", desc := "(II)J" } : Jvm.MethodName)) ∈ lw_all := lw_g (lw_at lw_m8 129 rfl) rfl
theorem q1936 : (Jvm.Cond.selects "FreightRoads" ({ cls := "FreightRoads", name := "of", desc := "(II)J" } : Jvm.MethodName) ({ cls := "FreightRoads", name := "of", desc := "(II)J" } : Jvm.MethodName)) ∈ lw_all := lw_g (lw_at lw_m8 130 rfl) rfl
theorem q1937 : (Jvm.Cond.code ({ cls := "FreightRoads", name := "of", desc := "(II)J" } : Jvm.MethodName) prog_1_method_19_code (3 : Nat) (Option.some Jvm.ClassFile.FieldType.long)) ∈ lw_all := lw_g (lw_at lw_m8 131 rfl) rfl
theorem q1938 : (Jvm.Cond.constantLong "FreightRoads" (297 : Nat) (4 : Int64)) ∈ lw_all := lw_g (lw_at lw_m8 132 rfl) rfl
theorem q1939 : (Jvm.Cond.methodLink "FreightRoads" (299 : Nat) ({ cls := "FreightRoads$Road", name := "figure", desc := "(I)J" } : Jvm.MethodName)) ∈ lw_all := lw_g (lw_at lw_m8 133 rfl) rfl
theorem q1943 : (Jvm.Cond.constantLong "FreightRoads" (303 : Nat) (-9223372036854775808 : Int64)) ∈ lw_all := lw_g (lw_at lw_m8 137 rfl) rfl
theorem q1945 : (Jvm.Cond.instanceMethod ({ cls := "FreightRoads", name := "feed", desc := "(I)I" } : Jvm.MethodName)) ∈ lw_all := lw_g (lw_at lw_m8 139 rfl) rfl
theorem q1946 : (Jvm.Cond.selects "FreightRoads" ({ cls := "FreightRoads", name := "feed", desc := "(I)I" } : Jvm.MethodName) ({ cls := "FreightRoads", name := "feed", desc := "(I)I" } : Jvm.MethodName)) ∈ lw_all := lw_g (lw_at lw_m8 140 rfl) rfl
theorem q1947 : (Jvm.Cond.code ({ cls := "FreightRoads", name := "feed", desc := "(I)I" } : Jvm.MethodName) prog_1_method_20_code (2 : Nat) (Option.some Jvm.ClassFile.FieldType.int)) ∈ lw_all := lw_g (lw_at lw_m8 141 rfl) rfl
theorem q1948 : (Jvm.Cond.constantLong "FreightRoads" (305 : Nat) (127 : Int64)) ∈ lw_all := lw_g (lw_at lw_m8 142 rfl) rfl
theorem q1950 : (Jvm.Cond.instanceMethod ({ cls := "FreightRoads", name := "clear", desc := "()I" } : Jvm.MethodName)) ∈ lw_all := lw_g (lw_at lw_m8 144 rfl) rfl
theorem q1951 : (Jvm.Cond.selects "FreightRoads" ({ cls := "FreightRoads", name := "clear", desc := "()I" } : Jvm.MethodName) ({ cls := "FreightRoads", name := "clear", desc := "()I" } : Jvm.MethodName)) ∈ lw_all := lw_g (lw_at lw_m8 145 rfl) rfl
theorem q1952 : (Jvm.Cond.code ({ cls := "FreightRoads", name := "clear", desc := "()I" } : Jvm.MethodName) prog_1_method_21_code (2 : Nat) (Option.some Jvm.ClassFile.FieldType.int)) ∈ lw_all := lw_g (lw_at lw_m8 146 rfl) rfl
theorem q1954 : (Jvm.Cond.instanceMethod ({ cls := "FreightRoads", name := "paper", desc := "(I)I" } : Jvm.MethodName)) ∈ lw_all := lw_g (lw_at lw_m8 148 rfl) rfl
theorem q1955 : (Jvm.Cond.selects "FreightRoads" ({ cls := "FreightRoads", name := "paper", desc := "(I)I" } : Jvm.MethodName) ({ cls := "FreightRoads", name := "paper", desc := "(I)I" } : Jvm.MethodName)) ∈ lw_all := lw_g (lw_at lw_m8 149 rfl) rfl
theorem q1956 : (Jvm.Cond.code ({ cls := "FreightRoads", name := "paper", desc := "(I)I" } : Jvm.MethodName) prog_1_method_22_code (2 : Nat) (Option.some Jvm.ClassFile.FieldType.int)) ∈ lw_all := lw_g (lw_at lw_m8 150 rfl) rfl
theorem q1957 : (Jvm.Cond.methodLink "FreightRoads" (314 : Nat) ({ cls := "java/lang/String", name := "charAt", desc := "(I)C" } : Jvm.MethodName)) ∈ lw_all := lw_g (lw_at lw_m8 151 rfl) rfl
theorem q1982 : (Jvm.Cond.instanceMethod ({ cls := "FreightRoads", name := "roads", desc := "()I" } : Jvm.MethodName)) ∈ lw_all := lw_g (lw_at lw_m8 176 rfl) rfl
theorem q1983 : (Jvm.Cond.selects "FreightRoads" ({ cls := "FreightRoads", name := "roads", desc := "()I" } : Jvm.MethodName) ({ cls := "FreightRoads", name := "roads", desc := "()I" } : Jvm.MethodName)) ∈ lw_all := lw_g (lw_at lw_m8 177 rfl) rfl
theorem q1984 : (Jvm.Cond.code ({ cls := "FreightRoads", name := "roads", desc := "()I" } : Jvm.MethodName) prog_1_method_29_code (4 : Nat) (Option.some Jvm.ClassFile.FieldType.int)) ∈ lw_all := lw_g (lw_at lw_m8 178 rfl) rfl
theorem q1985 : (Jvm.Cond.privateMethod ({ cls := "FreightRoads", name := "readRoad", desc := "()V" } : Jvm.MethodName)) ∈ lw_tbl := lw_at lw_m8 179 rfl
theorem q1986 : (Jvm.Cond.instanceMethod ({ cls := "FreightRoads", name := "readRoad", desc := "()V" } : Jvm.MethodName)) ∈ lw_all := lw_g (lw_at lw_m8 180 rfl) rfl
theorem q1987 : (Jvm.Cond.code ({ cls := "FreightRoads", name := "readRoad", desc := "()V" } : Jvm.MethodName) prog_1_method_28_code (9 : Nat) (Option.none : Option Jvm.ClassFile.FieldType)) ∈ lw_all := lw_g (lw_at lw_m8 181 rfl) rfl
theorem q1988 : (Jvm.Cond.classLink "FreightRoads" (327 : Nat) "FreightRoads$Fault") ∈ lw_all := lw_g (lw_at lw_m8 182 rfl) rfl
theorem q1997 : (Jvm.Cond.methodLink "FreightRoads" (329 : Nat) ({ cls := "FreightRoads$Fault", name := "<init>", desc := "(I)V" } : Jvm.MethodName)) ∈ lw_all := lw_g (lw_at lw_m8 191 rfl) rfl
theorem q2010 : (Jvm.Cond.fieldLinkNest "FreightRoads" (338 : Nat) "FreightRoads$Fault" "place" "I" "FreightRoads") ∈ lw_tbl := lw_at lw_m8 204 rfl
theorem q2015 : (Jvm.Cond.methodLink "FreightRoads" (341 : Nat) ({ cls := "FreightRoads", name := "number", desc := "(III)I" } : Jvm.MethodName)) ∈ lw_all := lw_g (lw_at lw_m8 209 rfl) rfl
theorem q2016 : (Jvm.Cond.privateMethod ({ cls := "FreightRoads", name := "number", desc := "(III)I" } : Jvm.MethodName)) ∈ lw_tbl := lw_at lw_m8 210 rfl
theorem q2017 : (Jvm.Cond.instanceMethod ({ cls := "FreightRoads", name := "number", desc := "(III)I" } : Jvm.MethodName)) ∈ lw_all := lw_g (lw_at lw_m8 211 rfl) rfl
theorem q2018 : (Jvm.Cond.code ({ cls := "FreightRoads", name := "number", desc := "(III)I" } : Jvm.MethodName) prog_1_method_26_code (6 : Nat) (Option.some Jvm.ClassFile.FieldType.int)) ∈ lw_all := lw_g (lw_at lw_m8 212 rfl) rfl
theorem q2019 : (Jvm.Cond.methodLink "FreightRoads" (321 : Nat) ({ cls := "FreightRoads", name := "peek", desc := "()I" } : Jvm.MethodName)) ∈ lw_all := lw_g (lw_at lw_m8 213 rfl) rfl
theorem q2020 : (Jvm.Cond.privateMethod ({ cls := "FreightRoads", name := "peek", desc := "()I" } : Jvm.MethodName)) ∈ lw_tbl := lw_at lw_m8 214 rfl
theorem q2021 : (Jvm.Cond.instanceMethod ({ cls := "FreightRoads", name := "peek", desc := "()I" } : Jvm.MethodName)) ∈ lw_all := lw_g (lw_at lw_m8 215 rfl) rfl
theorem q2022 : (Jvm.Cond.code ({ cls := "FreightRoads", name := "peek", desc := "()I" } : Jvm.MethodName) prog_1_method_23_code (1 : Nat) (Option.some Jvm.ClassFile.FieldType.int)) ∈ lw_all := lw_g (lw_at lw_m8 216 rfl) rfl
theorem q2023 : (Jvm.Cond.constantLong "FreightRoads" (330 : Nat) (48 : Int64)) ∈ lw_all := lw_g (lw_at lw_m8 217 rfl) rfl
theorem q2024 : (Jvm.Cond.constantLong "FreightRoads" (332 : Nat) (57 : Int64)) ∈ lw_all := lw_g (lw_at lw_m8 218 rfl) rfl
theorem q2025 : (Jvm.Cond.methodLink "FreightRoads" (345 : Nat) ({ cls := "FreightRoads", name := "expect", desc := "(I)V" } : Jvm.MethodName)) ∈ lw_all := lw_g (lw_at lw_m8 219 rfl) rfl
theorem q2026 : (Jvm.Cond.privateMethod ({ cls := "FreightRoads", name := "expect", desc := "(I)V" } : Jvm.MethodName)) ∈ lw_tbl := lw_at lw_m8 220 rfl
theorem q2027 : (Jvm.Cond.instanceMethod ({ cls := "FreightRoads", name := "expect", desc := "(I)V" } : Jvm.MethodName)) ∈ lw_all := lw_g (lw_at lw_m8 221 rfl) rfl
theorem q2028 : (Jvm.Cond.code ({ cls := "FreightRoads", name := "expect", desc := "(I)V" } : Jvm.MethodName) prog_1_method_25_code (2 : Nat) (Option.none : Option Jvm.ClassFile.FieldType)) ∈ lw_all := lw_g (lw_at lw_m8 222 rfl) rfl
theorem q2029 : (Jvm.Cond.methodLink "FreightRoads" (324 : Nat) ({ cls := "FreightRoads", name := "skips", desc := "(I)Z" } : Jvm.MethodName)) ∈ lw_all := lw_g (lw_at lw_m8 223 rfl) rfl
theorem q2030 : (Jvm.Cond.privateMethod ({ cls := "FreightRoads", name := "skips", desc := "(I)Z" } : Jvm.MethodName)) ∈ lw_tbl := lw_at lw_m8 224 rfl
theorem q2031 : (Jvm.Cond.instanceMethod ({ cls := "FreightRoads", name := "skips", desc := "(I)Z" } : Jvm.MethodName)) ∈ lw_all := lw_g (lw_at lw_m8 225 rfl) rfl
theorem q2032 : (Jvm.Cond.code ({ cls := "FreightRoads", name := "skips", desc := "(I)Z" } : Jvm.MethodName) prog_1_method_24_code (2 : Nat) (Option.some Jvm.ClassFile.FieldType.boolean)) ∈ lw_all := lw_g (lw_at lw_m8 226 rfl) rfl
theorem q2033 : (Jvm.Cond.constant "FreightRoads" (350 : Nat) (2147483647 : Int32)) ∈ lw_all := lw_g (lw_at lw_m8 227 rfl) rfl
theorem q2034 : (Jvm.Cond.methodLink "FreightRoads" (354 : Nat) ({ cls := "FreightRoads", name := "parts", desc := "(LFreightRoads$Part;)I" } : Jvm.MethodName)) ∈ lw_all := lw_g (lw_at lw_m8 228 rfl) rfl
theorem q2035 : (Jvm.Cond.privateMethod ({ cls := "FreightRoads", name := "parts", desc := "(LFreightRoads$Part;)I" } : Jvm.MethodName)) ∈ lw_tbl := lw_at lw_m8 229 rfl
theorem q2036 : (Jvm.Cond.instanceMethod ({ cls := "FreightRoads", name := "parts", desc := "(LFreightRoads$Part;)I" } : Jvm.MethodName)) ∈ lw_all := lw_g (lw_at lw_m8 230 rfl) rfl
theorem q2037 : (Jvm.Cond.codeWith ({ cls := "FreightRoads", name := "parts", desc := "(LFreightRoads$Part;)I" } : Jvm.MethodName) prog_1_method_27_code (6 : Nat) (Option.some Jvm.ClassFile.FieldType.int) [((7 : Nat), (50 : Nat), (57 : Nat), (327 : Nat)), ((7 : Nat), (50 : Nat), (75 : Nat), (0 : Nat)), ((57 : Nat), (67 : Nat), (75 : Nat), (0 : Nat)), ((75 : Nat), (77 : Nat), (75 : Nat), (0 : Nat))]) ∈ lw_all := lw_g (lw_at lw_m8 231 rfl) rfl
theorem q2038 : (Jvm.Cond.interfaceEntry "FreightRoads" (334 : Nat)) ∈ lw_tbl := lw_at lw_m8 232 rfl
theorem q2039 : (Jvm.Cond.methodLink "FreightRoads" (334 : Nat) ({ cls := "FreightRoads$Part", name := "read", desc := "()V" } : Jvm.MethodName)) ∈ lw_all := lw_g (lw_at lw_m8 233 rfl) rfl
theorem q2043 : (Jvm.Cond.instanceMethod ({ cls := "FreightRoads", name := "supplies", desc := "()I" } : Jvm.MethodName)) ∈ lw_all := lw_g (lw_at lw_m8 237 rfl) rfl
theorem q2044 : (Jvm.Cond.selects "FreightRoads" ({ cls := "FreightRoads", name := "supplies", desc := "()I" } : Jvm.MethodName) ({ cls := "FreightRoads", name := "supplies", desc := "()I" } : Jvm.MethodName)) ∈ lw_all := lw_g (lw_at lw_m8 238 rfl) rfl
theorem q2045 : (Jvm.Cond.code ({ cls := "FreightRoads", name := "supplies", desc := "()I" } : Jvm.MethodName) prog_1_method_31_code (2 : Nat) (Option.some Jvm.ClassFile.FieldType.int)) ∈ lw_all := lw_g (lw_at lw_m8 239 rfl) rfl
theorem q2046 : (Jvm.Cond.privateMethod ({ cls := "FreightRoads", name := "readSupply", desc := "()V" } : Jvm.MethodName)) ∈ lw_tbl := lw_at lw_m9 0 rfl
theorem q2047 : (Jvm.Cond.instanceMethod ({ cls := "FreightRoads", name := "readSupply", desc := "()V" } : Jvm.MethodName)) ∈ lw_all := lw_g (lw_at lw_m9 1 rfl) rfl
theorem q2048 : (Jvm.Cond.code ({ cls := "FreightRoads", name := "readSupply", desc := "()V" } : Jvm.MethodName) prog_1_method_30_code (4 : Nat) (Option.none : Option Jvm.ClassFile.FieldType)) ∈ lw_all := lw_g (lw_at lw_m9 2 rfl) rfl
theorem q2050 : (Jvm.Cond.instanceMethod ({ cls := "FreightRoads", name := "is", desc := "()I" } : Jvm.MethodName)) ∈ lw_all := lw_g (lw_at lw_m9 4 rfl) rfl
theorem q2051 : (Jvm.Cond.selects "FreightRoads" ({ cls := "FreightRoads", name := "is", desc := "()I" } : Jvm.MethodName) ({ cls := "FreightRoads", name := "is", desc := "()I" } : Jvm.MethodName)) ∈ lw_all := lw_g (lw_at lw_m9 5 rfl) rfl
theorem q2052 : (Jvm.Cond.codeWith ({ cls := "FreightRoads", name := "is", desc := "()I" } : Jvm.MethodName) prog_1_method_32_code (2 : Nat) (Option.some Jvm.ClassFile.FieldType.int) [((10 : Nat), (19 : Nat), (20 : Nat), (365 : Nat))]) ∈ lw_all := lw_g (lw_at lw_m9 6 rfl) rfl
theorem q2053 : (Jvm.Cond.classLink "FreightRoads" (365 : Nat) "java/lang/ArithmeticException") ∈ lw_all := lw_g (lw_at lw_m9 7 rfl) rfl
theorem q2067 : (Jvm.Cond.methodLink "FreightRoads" (359 : Nat) ({ cls := "FreightRoads", name := "isFlow", desc := "()Z" } : Jvm.MethodName)) ∈ lw_all := lw_g (lw_at lw_m9 21 rfl) rfl
theorem q2068 : (Jvm.Cond.privateMethod ({ cls := "FreightRoads", name := "isFlow", desc := "()Z" } : Jvm.MethodName)) ∈ lw_tbl := lw_at lw_m9 22 rfl
theorem q2069 : (Jvm.Cond.instanceMethod ({ cls := "FreightRoads", name := "isFlow", desc := "()Z" } : Jvm.MethodName)) ∈ lw_all := lw_g (lw_at lw_m9 23 rfl) rfl
theorem q2070 : (Jvm.Cond.code ({ cls := "FreightRoads", name := "isFlow", desc := "()Z" } : Jvm.MethodName) prog_1_method_9_code (1 : Nat) (Option.some Jvm.ClassFile.FieldType.boolean)) ∈ lw_all := lw_g (lw_at lw_m9 24 rfl) rfl
theorem q2071 : (Jvm.Cond.methodLink "FreightRoads" (211 : Nat) ({ cls := "FreightRoads", name := "solved", desc := "()LFreightRoads$Net;" } : Jvm.MethodName)) ∈ lw_all := lw_g (lw_at lw_m9 25 rfl) rfl
theorem q2072 : (Jvm.Cond.privateMethod ({ cls := "FreightRoads", name := "solved", desc := "()LFreightRoads$Net;" } : Jvm.MethodName)) ∈ lw_tbl := lw_at lw_m9 26 rfl
theorem q2073 : (Jvm.Cond.instanceMethod ({ cls := "FreightRoads", name := "solved", desc := "()LFreightRoads$Net;" } : Jvm.MethodName)) ∈ lw_all := lw_g (lw_at lw_m9 27 rfl) rfl
theorem q2074 : (Jvm.Cond.code ({ cls := "FreightRoads", name := "solved", desc := "()LFreightRoads$Net;" } : Jvm.MethodName) prog_1_method_8_code (1 : Nat) (Option.some (Jvm.ClassFile.FieldType.object "FreightRoads$Net"))) ∈ lw_all := lw_g (lw_at lw_m9 28 rfl) rfl
theorem q2075 : (Jvm.Cond.methodLink "FreightRoads" (204 : Nat) ({ cls := "FreightRoads", name := "lays", desc := "(LFreightRoads$Net;)V" } : Jvm.MethodName)) ∈ lw_all := lw_g (lw_at lw_m9 29 rfl) rfl
theorem q2076 : (Jvm.Cond.privateMethod ({ cls := "FreightRoads", name := "lays", desc := "(LFreightRoads$Net;)V" } : Jvm.MethodName)) ∈ lw_tbl := lw_at lw_m9 30 rfl
theorem q2077 : (Jvm.Cond.instanceMethod ({ cls := "FreightRoads", name := "lays", desc := "(LFreightRoads$Net;)V" } : Jvm.MethodName)) ∈ lw_all := lw_g (lw_at lw_m9 31 rfl) rfl
theorem q2078 : (Jvm.Cond.code ({ cls := "FreightRoads", name := "lays", desc := "(LFreightRoads$Net;)V" } : Jvm.MethodName) prog_1_method_7_code (4 : Nat) (Option.none : Option Jvm.ClassFile.FieldType)) ∈ lw_all := lw_g (lw_at lw_m9 32 rfl) rfl
theorem q2079 : (Jvm.Cond.methodLink "FreightRoads" (191 : Nat) ({ cls := "FreightRoads$Net", name := "adds", desc := "(IIIIJ)V" } : Jvm.MethodName)) ∈ lw_all := lw_g (lw_at lw_m9 33 rfl) rfl
theorem q2083 : (Jvm.Cond.methodLink "FreightRoads" (208 : Nat) ({ cls := "FreightRoads$Net", name := "solve", desc := "()Z" } : Jvm.MethodName)) ∈ lw_all := lw_g (lw_at lw_m9 37 rfl) rfl
theorem q2123 : (Jvm.Cond.selects "FreightRoads" ({ cls := "java/lang/Object", name := "equals", desc := "(Ljava/lang/Object;)Z" } : Jvm.MethodName) ({ cls := "java/lang/Object", name := "equals", desc := "(Ljava/lang/Object;)Z" } : Jvm.MethodName)) ∈ lw_all := lw_g (lw_at lw_m9 77 rfl) rfl
theorem q2244 : (Jvm.Cond.methodLink "FreightRoads" (361 : Nat) ({ cls := "FreightRoads$Net", name := "total", desc := "()J" } : Jvm.MethodName)) ∈ lw_all := lw_g (lw_at lw_m9 198 rfl) rfl
theorem q2263 : (Jvm.Cond.instanceMethod ({ cls := "FreightRoads", name := "flow", desc := "(I)I" } : Jvm.MethodName)) ∈ lw_all := lw_g (lw_at lw_m9 217 rfl) rfl
theorem q2264 : (Jvm.Cond.selects "FreightRoads" ({ cls := "FreightRoads", name := "flow", desc := "(I)I" } : Jvm.MethodName) ({ cls := "FreightRoads", name := "flow", desc := "(I)I" } : Jvm.MethodName)) ∈ lw_all := lw_g (lw_at lw_m9 218 rfl) rfl
theorem q2265 : (Jvm.Cond.code ({ cls := "FreightRoads", name := "flow", desc := "(I)I" } : Jvm.MethodName) prog_1_method_33_code (2 : Nat) (Option.some Jvm.ClassFile.FieldType.int)) ∈ lw_all := lw_g (lw_at lw_m9 219 rfl) rfl
theorem q2267 : (Jvm.Cond.instanceMethod ({ cls := "FreightRoads", name := "total", desc := "()J" } : Jvm.MethodName)) ∈ lw_all := lw_g (lw_at lw_m9 221 rfl) rfl
theorem q2268 : (Jvm.Cond.selects "FreightRoads" ({ cls := "FreightRoads", name := "total", desc := "()J" } : Jvm.MethodName) ({ cls := "FreightRoads", name := "total", desc := "()J" } : Jvm.MethodName)) ∈ lw_all := lw_g (lw_at lw_m9 222 rfl) rfl
theorem q2269 : (Jvm.Cond.codeWith ({ cls := "FreightRoads", name := "total", desc := "()J" } : Jvm.MethodName) prog_1_method_34_code (2 : Nat) (Option.some Jvm.ClassFile.FieldType.long) [((11 : Nat), (18 : Nat), (19 : Nat), (365 : Nat))]) ∈ lw_all := lw_g (lw_at lw_m9 223 rfl) rfl
theorem q2271 : (Jvm.Cond.instanceMethod ({ cls := "FreightRoads", name := "price", desc := "(I)J" } : Jvm.MethodName)) ∈ lw_all := lw_g (lw_at lw_m9 225 rfl) rfl
theorem q2272 : (Jvm.Cond.selects "FreightRoads" ({ cls := "FreightRoads", name := "price", desc := "(I)J" } : Jvm.MethodName) ({ cls := "FreightRoads", name := "price", desc := "(I)J" } : Jvm.MethodName)) ∈ lw_all := lw_g (lw_at lw_m9 226 rfl) rfl
theorem q2273 : (Jvm.Cond.code ({ cls := "FreightRoads", name := "price", desc := "(I)J" } : Jvm.MethodName) prog_1_method_36_code (2 : Nat) (Option.some Jvm.ClassFile.FieldType.long)) ∈ lw_all := lw_g (lw_at lw_m9 227 rfl) rfl
theorem q2274 : (Jvm.Cond.methodLink "FreightRoads" (373 : Nat) ({ cls := "FreightRoads", name := "priced", desc := "()LFreightRoads$Net;" } : Jvm.MethodName)) ∈ lw_all := lw_g (lw_at lw_m9 228 rfl) rfl
theorem q2275 : (Jvm.Cond.privateMethod ({ cls := "FreightRoads", name := "priced", desc := "()LFreightRoads$Net;" } : Jvm.MethodName)) ∈ lw_tbl := lw_at lw_m9 229 rfl
theorem q2276 : (Jvm.Cond.instanceMethod ({ cls := "FreightRoads", name := "priced", desc := "()LFreightRoads$Net;" } : Jvm.MethodName)) ∈ lw_all := lw_g (lw_at lw_m9 230 rfl) rfl
theorem q2277 : (Jvm.Cond.code ({ cls := "FreightRoads", name := "priced", desc := "()LFreightRoads$Net;" } : Jvm.MethodName) prog_1_method_35_code (1 : Nat) (Option.some (Jvm.ClassFile.FieldType.object "FreightRoads$Net"))) ∈ lw_all := lw_g (lw_at lw_m9 231 rfl) rfl
theorem q2278 : (Jvm.Cond.methodLink "FreightRoads" (370 : Nat) ({ cls := "FreightRoads$Net", name := "pricesAll", desc := "()V" } : Jvm.MethodName)) ∈ lw_all := lw_g (lw_at lw_m9 232 rfl) rfl
theorem q2312 : (Jvm.Cond.methodLink "FreightRoads" (378 : Nat) ({ cls := "java/util/BitSet", name := "get", desc := "(I)Z" } : Jvm.MethodName)) ∈ lw_all := lw_g (lw_at lw_m10 26 rfl) rfl
theorem q2314 : (Jvm.Cond.instanceMethod ({ cls := "FreightRoads", name := "reduced", desc := "(I)J" } : Jvm.MethodName)) ∈ lw_all := lw_g (lw_at lw_m10 28 rfl) rfl
theorem q2315 : (Jvm.Cond.selects "FreightRoads" ({ cls := "FreightRoads", name := "reduced", desc := "(I)J" } : Jvm.MethodName) ({ cls := "FreightRoads", name := "reduced", desc := "(I)J" } : Jvm.MethodName)) ∈ lw_all := lw_g (lw_at lw_m10 29 rfl) rfl
theorem q2316 : (Jvm.Cond.code ({ cls := "FreightRoads", name := "reduced", desc := "(I)J" } : Jvm.MethodName) prog_1_method_37_code (6 : Nat) (Option.some Jvm.ClassFile.FieldType.long)) ∈ lw_all := lw_g (lw_at lw_m10 30 rfl) rfl
theorem q2317 : (Jvm.Cond.methodLink "FreightRoads" (385 : Nat) ({ cls := "FreightRoads", name := "price", desc := "(I)J" } : Jvm.MethodName)) ∈ lw_all := lw_g (lw_at lw_m10 31 rfl) rfl
theorem q2319 : (Jvm.Cond.instanceMethod ({ cls := "FreightRoads", name := "dear", desc := "(I)I" } : Jvm.MethodName)) ∈ lw_all := lw_g (lw_at lw_m10 33 rfl) rfl
theorem q2320 : (Jvm.Cond.selects "FreightRoads" ({ cls := "FreightRoads", name := "dear", desc := "(I)I" } : Jvm.MethodName) ({ cls := "FreightRoads", name := "dear", desc := "(I)I" } : Jvm.MethodName)) ∈ lw_all := lw_g (lw_at lw_m10 34 rfl) rfl
theorem q2321 : (Jvm.Cond.code ({ cls := "FreightRoads", name := "dear", desc := "(I)I" } : Jvm.MethodName) prog_1_method_38_code (6 : Nat) (Option.some Jvm.ClassFile.FieldType.int)) ∈ lw_all := lw_g (lw_at lw_m10 35 rfl) rfl
theorem q2322 : (Jvm.Cond.classLink "FreightRoads" (392 : Nat) "java/util/TreeSet") ∈ lw_all := lw_g (lw_at lw_m10 36 rfl) rfl
theorem q2324 : (Jvm.Cond.methodLink "FreightRoads" (394 : Nat) ({ cls := "java/util/TreeSet", name := "<init>", desc := "(Ljava/util/Comparator;)V" } : Jvm.MethodName)) ∈ lw_all := lw_g (lw_at lw_m10 38 rfl) rfl
theorem q2373 : (Jvm.Cond.methodLink "FreightRoads" (397 : Nat) ({ cls := "java/lang/Integer", name := "valueOf", desc := "(I)Ljava/lang/Integer;" } : Jvm.MethodName)) ∈ lw_all := lw_g (lw_at lw_m10 87 rfl) rfl
theorem q2392 : (Jvm.Cond.methodLink "FreightRoads" (401 : Nat) ({ cls := "java/util/TreeSet", name := "add", desc := "(Ljava/lang/Object;)Z" } : Jvm.MethodName)) ∈ lw_all := lw_g (lw_at lw_m10 106 rfl) rfl
theorem q2465 : (Jvm.Cond.methodLink "FreightRoads" (405 : Nat) ({ cls := "java/util/TreeSet", name := "iterator", desc := "()Ljava/util/Iterator;" } : Jvm.MethodName)) ∈ lw_all := lw_g (lw_at lw_m10 179 rfl) rfl
theorem q2537 : (Jvm.Cond.classLink "FreightRoads" (348 : Nat) "java/lang/Integer") ∈ lw_all := lw_g (lw_at lw_m11 11 rfl) rfl
theorem q2538 : (Jvm.Cond.methodLink "FreightRoads" (406 : Nat) ({ cls := "java/lang/Integer", name := "intValue", desc := "()I" } : Jvm.MethodName)) ∈ lw_all := lw_g (lw_at lw_m11 12 rfl) rfl
theorem q2540 : (Jvm.Cond.instanceMethod ({ cls := "FreightRoads", name := "cut", desc := "()I" } : Jvm.MethodName)) ∈ lw_all := lw_g (lw_at lw_m11 14 rfl) rfl
theorem q2541 : (Jvm.Cond.selects "FreightRoads" ({ cls := "FreightRoads", name := "cut", desc := "()I" } : Jvm.MethodName) ({ cls := "FreightRoads", name := "cut", desc := "()I" } : Jvm.MethodName)) ∈ lw_all := lw_g (lw_at lw_m11 15 rfl) rfl
theorem q2542 : (Jvm.Cond.code ({ cls := "FreightRoads", name := "cut", desc := "()I" } : Jvm.MethodName) prog_1_method_40_code (1 : Nat) (Option.some Jvm.ClassFile.FieldType.int)) ∈ lw_all := lw_g (lw_at lw_m11 16 rfl) rfl
theorem q2543 : (Jvm.Cond.methodLink "FreightRoads" (409 : Nat) ({ cls := "FreightRoads", name := "sumOfSupplies", desc := "()I" } : Jvm.MethodName)) ∈ lw_all := lw_g (lw_at lw_m11 17 rfl) rfl
theorem q2544 : (Jvm.Cond.methodLink "FreightRoads" (412 : Nat) ({ cls := "FreightRoads$Net", name := "cut", desc := "()I" } : Jvm.MethodName)) ∈ lw_all := lw_g (lw_at lw_m11 18 rfl) rfl
theorem q2549 : (Jvm.Cond.instanceMethod ({ cls := "FreightRoads", name := "step", desc := "(II)I" } : Jvm.MethodName)) ∈ lw_all := lw_g (lw_at lw_m11 23 rfl) rfl
theorem q2550 : (Jvm.Cond.selects "FreightRoads" ({ cls := "FreightRoads", name := "step", desc := "(II)I" } : Jvm.MethodName) ({ cls := "FreightRoads", name := "step", desc := "(II)I" } : Jvm.MethodName)) ∈ lw_all := lw_g (lw_at lw_m11 24 rfl) rfl
theorem q2551 : (Jvm.Cond.code ({ cls := "FreightRoads", name := "step", desc := "(II)I" } : Jvm.MethodName) prog_1_method_41_code (3 : Nat) (Option.some Jvm.ClassFile.FieldType.int)) ∈ lw_all := lw_g (lw_at lw_m11 25 rfl) rfl
theorem q2552 : (Jvm.Cond.methodLink "FreightRoads" (415 : Nat) ({ cls := "FreightRoads$Net", name := "cheapest", desc := "(II)I" } : Jvm.MethodName)) ∈ lw_all := lw_g (lw_at lw_m11 26 rfl) rfl
theorem q2557 : (Jvm.Cond.instanceMethod ({ cls := "FreightRoads", name := "wider", desc := "(II)J" } : Jvm.MethodName)) ∈ lw_all := lw_g (lw_at lw_m11 31 rfl) rfl
theorem q2558 : (Jvm.Cond.selects "FreightRoads" ({ cls := "FreightRoads", name := "wider", desc := "(II)J" } : Jvm.MethodName) ({ cls := "FreightRoads", name := "wider", desc := "(II)J" } : Jvm.MethodName)) ∈ lw_all := lw_g (lw_at lw_m11 32 rfl) rfl
theorem q2559 : (Jvm.Cond.code ({ cls := "FreightRoads", name := "wider", desc := "(II)J" } : Jvm.MethodName) prog_1_method_45_code (3 : Nat) (Option.some Jvm.ClassFile.FieldType.long)) ∈ lw_all := lw_g (lw_at lw_m11 33 rfl) rfl
theorem q2560 : (Jvm.Cond.static ({ cls := "FreightRoads", name := "lambda$wider$0", desc := "(IILFreightRoads$Net;)V" } : Jvm.MethodName)) ∈ lw_all := lw_g (lw_at lw_m11 34 rfl) rfl
theorem q2561 : (Jvm.Cond.code ({ cls := "FreightRoads", name := "lambda$wider$0", desc := "(IILFreightRoads$Net;)V" } : Jvm.MethodName) prog_1_method_92_code (3 : Nat) (Option.none : Option Jvm.ClassFile.FieldType)) ∈ lw_all := lw_g (lw_at lw_m11 35 rfl) rfl
theorem q2562 : (Jvm.Cond.static ({ cls := "FreightRoads", name := "less", desc := "(JJ)J" } : Jvm.MethodName)) ∈ lw_all := lw_g (lw_at lw_m11 36 rfl) rfl
theorem q2563 : (Jvm.Cond.code ({ cls := "FreightRoads", name := "less", desc := "(JJ)J" } : Jvm.MethodName) prog_1_method_43_code (4 : Nat) (Option.some Jvm.ClassFile.FieldType.long)) ∈ lw_all := lw_g (lw_at lw_m11 37 rfl) rfl
theorem q2564 : (Jvm.Cond.methodLink "FreightRoads" (429 : Nat) ({ cls := "java/lang/Math", name := "subtractExact", desc := "(JJ)J" } : Jvm.MethodName)) ∈ lw_all := lw_g (lw_at lw_m11 38 rfl) rfl
theorem q2567 : (Jvm.Cond.methodLink "FreightRoads" (440 : Nat) ({ cls := "FreightRoads", name := "supposed", desc := "(LFreightRoads$Thought;LFreightRoads$Loss;)J" } : Jvm.MethodName)) ∈ lw_all := lw_g (lw_at lw_m11 41 rfl) rfl
theorem q2568 : (Jvm.Cond.privateMethod ({ cls := "FreightRoads", name := "supposed", desc := "(LFreightRoads$Thought;LFreightRoads$Loss;)J" } : Jvm.MethodName)) ∈ lw_tbl := lw_at lw_m11 42 rfl
theorem q2569 : (Jvm.Cond.instanceMethod ({ cls := "FreightRoads", name := "supposed", desc := "(LFreightRoads$Thought;LFreightRoads$Loss;)J" } : Jvm.MethodName)) ∈ lw_all := lw_g (lw_at lw_m11 43 rfl) rfl
theorem q2570 : (Jvm.Cond.codeWith ({ cls := "FreightRoads", name := "supposed", desc := "(LFreightRoads$Thought;LFreightRoads$Loss;)J" } : Jvm.MethodName) prog_1_method_42_code (4 : Nat) (Option.some Jvm.ClassFile.FieldType.long) [((39 : Nat), (59 : Nat), (60 : Nat), (365 : Nat))]) ∈ lw_all := lw_g (lw_at lw_m11 44 rfl) rfl
theorem q2571 : (Jvm.Cond.interfaceEntry "FreightRoads" (419 : Nat)) ∈ lw_tbl := lw_at lw_m11 45 rfl
theorem q2572 : (Jvm.Cond.methodLink "FreightRoads" (419 : Nat) ({ cls := "FreightRoads$Thought", name := "on", desc := "(LFreightRoads$Net;)V" } : Jvm.MethodName)) ∈ lw_all := lw_g (lw_at lw_m11 46 rfl) rfl
theorem q2575 : (Jvm.Cond.interfaceEntry "FreightRoads" (424 : Nat)) ∈ lw_tbl := lw_at lw_m11 49 rfl
theorem q2576 : (Jvm.Cond.methodLink "FreightRoads" (424 : Nat) ({ cls := "FreightRoads$Loss", name := "of", desc := "(JJ)J" } : Jvm.MethodName)) ∈ lw_all := lw_g (lw_at lw_m11 50 rfl) rfl
theorem q2580 : (Jvm.Cond.instanceMethod ({ cls := "FreightRoads", name := "without", desc := "(I)J" } : Jvm.MethodName)) ∈ lw_all := lw_g (lw_at lw_m11 54 rfl) rfl
theorem q2581 : (Jvm.Cond.selects "FreightRoads" ({ cls := "FreightRoads", name := "without", desc := "(I)J" } : Jvm.MethodName) ({ cls := "FreightRoads", name := "without", desc := "(I)J" } : Jvm.MethodName)) ∈ lw_all := lw_g (lw_at lw_m11 55 rfl) rfl
theorem q2582 : (Jvm.Cond.code ({ cls := "FreightRoads", name := "without", desc := "(I)J" } : Jvm.MethodName) prog_1_method_46_code (2 : Nat) (Option.some Jvm.ClassFile.FieldType.long)) ∈ lw_all := lw_g (lw_at lw_m11 56 rfl) rfl
theorem q2583 : (Jvm.Cond.static ({ cls := "FreightRoads", name := "lambda$without$1", desc := "(ILFreightRoads$Net;)V" } : Jvm.MethodName)) ∈ lw_all := lw_g (lw_at lw_m11 57 rfl) rfl
theorem q2584 : (Jvm.Cond.code ({ cls := "FreightRoads", name := "lambda$without$1", desc := "(ILFreightRoads$Net;)V" } : Jvm.MethodName) prog_1_method_91_code (2 : Nat) (Option.none : Option Jvm.ClassFile.FieldType)) ∈ lw_all := lw_g (lw_at lw_m11 58 rfl) rfl
theorem q2585 : (Jvm.Cond.methodLink "FreightRoads" (509 : Nat) ({ cls := "FreightRoads$Net", name := "removes", desc := "(I)V" } : Jvm.MethodName)) ∈ lw_all := lw_g (lw_at lw_m11 59 rfl) rfl
theorem q2589 : (Jvm.Cond.static ({ cls := "FreightRoads", name := "more", desc := "(JJ)J" } : Jvm.MethodName)) ∈ lw_all := lw_g (lw_at lw_m11 63 rfl) rfl
theorem q2590 : (Jvm.Cond.code ({ cls := "FreightRoads", name := "more", desc := "(JJ)J" } : Jvm.MethodName) prog_1_method_44_code (4 : Nat) (Option.some Jvm.ClassFile.FieldType.long)) ∈ lw_all := lw_g (lw_at lw_m11 64 rfl) rfl
theorem q2592 : (Jvm.Cond.instanceMethod ({ cls := "FreightRoads", name := "adding", desc := "(IIIJ)J" } : Jvm.MethodName)) ∈ lw_all := lw_g (lw_at lw_m11 66 rfl) rfl
theorem q2593 : (Jvm.Cond.selects "FreightRoads" ({ cls := "FreightRoads", name := "adding", desc := "(IIIJ)J" } : Jvm.MethodName) ({ cls := "FreightRoads", name := "adding", desc := "(IIIJ)J" } : Jvm.MethodName)) ∈ lw_all := lw_g (lw_at lw_m11 67 rfl) rfl
theorem q2594 : (Jvm.Cond.code ({ cls := "FreightRoads", name := "adding", desc := "(IIIJ)J" } : Jvm.MethodName) prog_1_method_47_code (6 : Nat) (Option.some Jvm.ClassFile.FieldType.long)) ∈ lw_all := lw_g (lw_at lw_m11 68 rfl) rfl
theorem q2595 : (Jvm.Cond.static ({ cls := "FreightRoads", name := "lambda$adding$2", desc := "(IIIJLFreightRoads$Net;)V" } : Jvm.MethodName)) ∈ lw_all := lw_g (lw_at lw_m11 69 rfl) rfl
theorem q2596 : (Jvm.Cond.code ({ cls := "FreightRoads", name := "lambda$adding$2", desc := "(IIIJLFreightRoads$Net;)V" } : Jvm.MethodName) prog_1_method_90_code (6 : Nat) (Option.none : Option Jvm.ClassFile.FieldType)) ∈ lw_all := lw_g (lw_at lw_m11 70 rfl) rfl
theorem q2598 : (Jvm.Cond.instanceMethod ({ cls := "FreightRoads", name := "sent", desc := "(III)J" } : Jvm.MethodName)) ∈ lw_all := lw_g (lw_at lw_m11 72 rfl) rfl
theorem q2599 : (Jvm.Cond.selects "FreightRoads" ({ cls := "FreightRoads", name := "sent", desc := "(III)J" } : Jvm.MethodName) ({ cls := "FreightRoads", name := "sent", desc := "(III)J" } : Jvm.MethodName)) ∈ lw_all := lw_g (lw_at lw_m11 73 rfl) rfl
theorem q2600 : (Jvm.Cond.code ({ cls := "FreightRoads", name := "sent", desc := "(III)J" } : Jvm.MethodName) prog_1_method_49_code (4 : Nat) (Option.some Jvm.ClassFile.FieldType.long)) ∈ lw_all := lw_g (lw_at lw_m11 74 rfl) rfl
theorem q2601 : (Jvm.Cond.static ({ cls := "FreightRoads", name := "lambda$sent$3", desc := "(IIILFreightRoads$Net;)V" } : Jvm.MethodName)) ∈ lw_all := lw_g (lw_at lw_m11 75 rfl) rfl
theorem q2602 : (Jvm.Cond.code ({ cls := "FreightRoads", name := "lambda$sent$3", desc := "(IIILFreightRoads$Net;)V" } : Jvm.MethodName) prog_1_method_89_code (4 : Nat) (Option.none : Option Jvm.ClassFile.FieldType)) ∈ lw_all := lw_g (lw_at lw_m11 76 rfl) rfl
theorem q2603 : (Jvm.Cond.methodLink "FreightRoads" (641 : Nat) ({ cls := "FreightRoads", name := "sends", desc := "(LFreightRoads$Net;III)V" } : Jvm.MethodName)) ∈ lw_all := lw_g (lw_at lw_m11 77 rfl) rfl
theorem q2604 : (Jvm.Cond.static ({ cls := "FreightRoads", name := "sends", desc := "(LFreightRoads$Net;III)V" } : Jvm.MethodName)) ∈ lw_all := lw_g (lw_at lw_m11 78 rfl) rfl
theorem q2605 : (Jvm.Cond.code ({ cls := "FreightRoads", name := "sends", desc := "(LFreightRoads$Net;III)V" } : Jvm.MethodName) prog_1_method_48_code (4 : Nat) (Option.none : Option Jvm.ClassFile.FieldType)) ∈ lw_all := lw_g (lw_at lw_m11 79 rfl) rfl
theorem q2607 : (Jvm.Cond.instanceMethod ({ cls := "FreightRoads", name := "greatest", desc := "(II)I" } : Jvm.MethodName)) ∈ lw_all := lw_g (lw_at lw_m11 81 rfl) rfl
theorem q2608 : (Jvm.Cond.selects "FreightRoads" ({ cls := "FreightRoads", name := "greatest", desc := "(II)I" } : Jvm.MethodName) ({ cls := "FreightRoads", name := "greatest", desc := "(II)I" } : Jvm.MethodName)) ∈ lw_all := lw_g (lw_at lw_m11 82 rfl) rfl
theorem q2609 : (Jvm.Cond.code ({ cls := "FreightRoads", name := "greatest", desc := "(II)I" } : Jvm.MethodName) prog_1_method_51_code (3 : Nat) (Option.some Jvm.ClassFile.FieldType.int)) ∈ lw_all := lw_g (lw_at lw_m11 83 rfl) rfl
theorem q2610 : (Jvm.Cond.methodLink "FreightRoads" (484 : Nat) ({ cls := "FreightRoads", name := "stretched", desc := "(II)Ljava/util/TreeMap;" } : Jvm.MethodName)) ∈ lw_all := lw_g (lw_at lw_m11 84 rfl) rfl
theorem q2611 : (Jvm.Cond.privateMethod ({ cls := "FreightRoads", name := "stretched", desc := "(II)Ljava/util/TreeMap;" } : Jvm.MethodName)) ∈ lw_tbl := lw_at lw_m11 85 rfl
theorem q2612 : (Jvm.Cond.instanceMethod ({ cls := "FreightRoads", name := "stretched", desc := "(II)Ljava/util/TreeMap;" } : Jvm.MethodName)) ∈ lw_all := lw_g (lw_at lw_m11 86 rfl) rfl
theorem q2613 : (Jvm.Cond.code ({ cls := "FreightRoads", name := "stretched", desc := "(II)Ljava/util/TreeMap;" } : Jvm.MethodName) prog_1_method_50_code (8 : Nat) (Option.some (Jvm.ClassFile.FieldType.object "java/util/TreeMap"))) ∈ lw_all := lw_g (lw_at lw_m11 87 rfl) rfl
theorem q2614 : (Jvm.Cond.classLink "FreightRoads" (454 : Nat) "java/util/TreeMap") ∈ lw_all := lw_g (lw_at lw_m11 88 rfl) rfl
theorem q2615 : (Jvm.Cond.methodLink "FreightRoads" (456 : Nat) ({ cls := "java/util/TreeMap", name := "<init>", desc := "()V" } : Jvm.MethodName)) ∈ lw_all := lw_g (lw_at lw_m11 89 rfl) rfl
theorem q2618 : (Jvm.Cond.methodLink "FreightRoads" (460 : Nat) ({ cls := "FreightRoads$Net", name := "sendsMore", desc := "(III)I" } : Jvm.MethodName)) ∈ lw_all := lw_g (lw_at lw_m11 92 rfl) rfl
theorem q2622 : (Jvm.Cond.classLink "FreightRoads" (463 : Nat) "FreightRoads$Each") ∈ lw_all := lw_g (lw_at lw_m11 96 rfl) rfl
theorem q2624 : (Jvm.Cond.methodLink "FreightRoads" (468 : Nat) ({ cls := "FreightRoads$Each", name := "<init>", desc := "(J)V" } : Jvm.MethodName)) ∈ lw_all := lw_g (lw_at lw_m11 98 rfl) rfl
theorem q2629 : (Jvm.Cond.fieldLinkNest "FreightRoads" (498 : Nat) "FreightRoads$Each" "cost" "J" "FreightRoads") ∈ lw_tbl := lw_at lw_m11 103 rfl
theorem q2633 : (Jvm.Cond.methodLink "FreightRoads" (471 : Nat) ({ cls := "java/util/TreeMap", name := "get", desc := "(Ljava/lang/Object;)Ljava/lang/Object;" } : Jvm.MethodName)) ∈ lw_all := lw_g (lw_at lw_m11 107 rfl) rfl
theorem q2645 : (Jvm.Cond.classLink "FreightRoads" (474 : Nat) "FreightRoads$Stretch") ∈ lw_all := lw_g (lw_at lw_m11 119 rfl) rfl
theorem q2647 : (Jvm.Cond.methodLink "FreightRoads" (476 : Nat) ({ cls := "FreightRoads$Stretch", name := "<init>", desc := "(LFreightRoads$Each;)V" } : Jvm.MethodName)) ∈ lw_all := lw_g (lw_at lw_m11 121 rfl) rfl
theorem q2652 : (Jvm.Cond.fieldLinkNest "FreightRoads" (495 : Nat) "FreightRoads$Stretch" "each" "LFreightRoads$Each;" "FreightRoads") ∈ lw_tbl := lw_at lw_m11 126 rfl
theorem q2653 : (Jvm.Cond.fieldLinkNest "FreightRoads" (483 : Nat) "FreightRoads$Stretch" "many" "I" "FreightRoads") ∈ lw_tbl := lw_at lw_m11 127 rfl
theorem q2659 : (Jvm.Cond.methodLink "FreightRoads" (479 : Nat) ({ cls := "java/util/TreeMap", name := "put", desc := "(Ljava/lang/Object;Ljava/lang/Object;)Ljava/lang/Object;" } : Jvm.MethodName)) ∈ lw_all := lw_g (lw_at lw_m11 133 rfl) rfl
theorem q2661 : (Jvm.Cond.instanceMethod ({ cls := "FreightRoads", name := "stretch", desc := "(IIII)J" } : Jvm.MethodName)) ∈ lw_all := lw_g (lw_at lw_m11 135 rfl) rfl
theorem q2662 : (Jvm.Cond.selects "FreightRoads" ({ cls := "FreightRoads", name := "stretch", desc := "(IIII)J" } : Jvm.MethodName) ({ cls := "FreightRoads", name := "stretch", desc := "(IIII)J" } : Jvm.MethodName)) ∈ lw_all := lw_g (lw_at lw_m11 136 rfl) rfl
theorem q2663 : (Jvm.Cond.code ({ cls := "FreightRoads", name := "stretch", desc := "(IIII)J" } : Jvm.MethodName) prog_1_method_52_code (8 : Nat) (Option.some Jvm.ClassFile.FieldType.long)) ∈ lw_all := lw_g (lw_at lw_m11 137 rfl) rfl
theorem q2664 : (Jvm.Cond.methodLink "FreightRoads" (488 : Nat) ({ cls := "java/util/TreeMap", name := "values", desc := "()Ljava/util/Collection;" } : Jvm.MethodName)) ∈ lw_all := lw_g (lw_at lw_m11 138 rfl) rfl
theorem q2678 : (Jvm.Cond.interfaceEntry "FreightRoads" (492 : Nat)) ∈ lw_tbl := lw_at lw_m11 152 rfl
theorem q2679 : (Jvm.Cond.methodLink "FreightRoads" (492 : Nat) ({ cls := "java/util/Collection", name := "iterator", desc := "()Ljava/util/Iterator;" } : Jvm.MethodName)) ∈ lw_all := lw_g (lw_at lw_m11 153 rfl) rfl
theorem q2798 : (Jvm.Cond.instanceMethod ({ cls := "FreightRoads", name := "stretches", desc := "(II)I" } : Jvm.MethodName)) ∈ lw_all := lw_g (lw_at lw_m12 32 rfl) rfl
theorem q2799 : (Jvm.Cond.selects "FreightRoads" ({ cls := "FreightRoads", name := "stretches", desc := "(II)I" } : Jvm.MethodName) ({ cls := "FreightRoads", name := "stretches", desc := "(II)I" } : Jvm.MethodName)) ∈ lw_all := lw_g (lw_at lw_m12 33 rfl) rfl
theorem q2800 : (Jvm.Cond.code ({ cls := "FreightRoads", name := "stretches", desc := "(II)I" } : Jvm.MethodName) prog_1_method_53_code (3 : Nat) (Option.some Jvm.ClassFile.FieldType.int)) ∈ lw_all := lw_g (lw_at lw_m12 34 rfl) rfl
theorem q2801 : (Jvm.Cond.methodLink "FreightRoads" (499 : Nat) ({ cls := "java/util/TreeMap", name := "size", desc := "()I" } : Jvm.MethodName)) ∈ lw_all := lw_g (lw_at lw_m12 35 rfl) rfl
theorem q2803 : (Jvm.Cond.instanceMethod ({ cls := "FreightRoads", name := "dearest", desc := "()I" } : Jvm.MethodName)) ∈ lw_all := lw_g (lw_at lw_m12 37 rfl) rfl
theorem q2804 : (Jvm.Cond.selects "FreightRoads" ({ cls := "FreightRoads", name := "dearest", desc := "()I" } : Jvm.MethodName) ({ cls := "FreightRoads", name := "dearest", desc := "()I" } : Jvm.MethodName)) ∈ lw_all := lw_g (lw_at lw_m12 38 rfl) rfl
theorem q2805 : (Jvm.Cond.code ({ cls := "FreightRoads", name := "dearest", desc := "()I" } : Jvm.MethodName) prog_1_method_54_code (6 : Nat) (Option.some Jvm.ClassFile.FieldType.int)) ∈ lw_all := lw_g (lw_at lw_m12 39 rfl) rfl
theorem q2806 : (Jvm.Cond.methodLink "FreightRoads" (500 : Nat) ({ cls := "FreightRoads", name := "is", desc := "()I" } : Jvm.MethodName)) ∈ lw_all := lw_g (lw_at lw_m12 40 rfl) rfl
theorem q2807 : (Jvm.Cond.methodLink "FreightRoads" (503 : Nat) ({ cls := "FreightRoads", name := "hasTotalWithout", desc := "(I)Z" } : Jvm.MethodName)) ∈ lw_all := lw_g (lw_at lw_m12 41 rfl) rfl
theorem q2808 : (Jvm.Cond.privateMethod ({ cls := "FreightRoads", name := "hasTotalWithout", desc := "(I)Z" } : Jvm.MethodName)) ∈ lw_tbl := lw_at lw_m12 42 rfl
theorem q2809 : (Jvm.Cond.instanceMethod ({ cls := "FreightRoads", name := "hasTotalWithout", desc := "(I)Z" } : Jvm.MethodName)) ∈ lw_all := lw_g (lw_at lw_m12 43 rfl) rfl
theorem q2810 : (Jvm.Cond.codeWith ({ cls := "FreightRoads", name := "hasTotalWithout", desc := "(I)Z" } : Jvm.MethodName) prog_1_method_55_code (3 : Nat) (Option.some Jvm.ClassFile.FieldType.boolean) [((28 : Nat), (40 : Nat), (41 : Nat), (365 : Nat))]) ∈ lw_all := lw_g (lw_at lw_m12 44 rfl) rfl
theorem q2812 : (Jvm.Cond.instanceMethod ({ cls := "FreightRoads", name := "judge", desc := "(II)I" } : Jvm.MethodName)) ∈ lw_all := lw_g (lw_at lw_m12 46 rfl) rfl
theorem q2813 : (Jvm.Cond.selects "FreightRoads" ({ cls := "FreightRoads", name := "judge", desc := "(II)I" } : Jvm.MethodName) ({ cls := "FreightRoads", name := "judge", desc := "(II)I" } : Jvm.MethodName)) ∈ lw_all := lw_g (lw_at lw_m12 47 rfl) rfl
theorem q2814 : (Jvm.Cond.code ({ cls := "FreightRoads", name := "judge", desc := "(II)I" } : Jvm.MethodName) prog_1_method_63_code (6 : Nat) (Option.some Jvm.ClassFile.FieldType.int)) ∈ lw_all := lw_g (lw_at lw_m12 48 rfl) rfl
theorem q2815 : (Jvm.Cond.methodLink "FreightRoads" (555 : Nat) ({ cls := "FreightRoads", name := "refusal", desc := "(II)I" } : Jvm.MethodName)) ∈ lw_all := lw_g (lw_at lw_m12 49 rfl) rfl
theorem q2816 : (Jvm.Cond.privateMethod ({ cls := "FreightRoads", name := "refusal", desc := "(II)I" } : Jvm.MethodName)) ∈ lw_tbl := lw_at lw_m12 50 rfl
theorem q2817 : (Jvm.Cond.instanceMethod ({ cls := "FreightRoads", name := "refusal", desc := "(II)I" } : Jvm.MethodName)) ∈ lw_all := lw_g (lw_at lw_m12 51 rfl) rfl
theorem q2818 : (Jvm.Cond.code ({ cls := "FreightRoads", name := "refusal", desc := "(II)I" } : Jvm.MethodName) prog_1_method_57_code (3 : Nat) (Option.some Jvm.ClassFile.FieldType.int)) ∈ lw_all := lw_g (lw_at lw_m12 52 rfl) rfl
theorem q2819 : (Jvm.Cond.methodLink "FreightRoads" (514 : Nat) ({ cls := "FreightRoads", name := "isList", desc := "(I)Z" } : Jvm.MethodName)) ∈ lw_all := lw_g (lw_at lw_m12 53 rfl) rfl
theorem q2820 : (Jvm.Cond.static ({ cls := "FreightRoads", name := "isList", desc := "(I)Z" } : Jvm.MethodName)) ∈ lw_all := lw_g (lw_at lw_m12 54 rfl) rfl
theorem q2821 : (Jvm.Cond.code ({ cls := "FreightRoads", name := "isList", desc := "(I)Z" } : Jvm.MethodName) prog_1_method_56_code (1 : Nat) (Option.some Jvm.ClassFile.FieldType.boolean)) ∈ lw_all := lw_g (lw_at lw_m12 55 rfl) rfl
theorem q2822 : (Jvm.Cond.constantLong "FreightRoads" (512 : Nat) (3 : Int64)) ∈ lw_all := lw_g (lw_at lw_m12 56 rfl) rfl
theorem q2823 : (Jvm.Cond.methodLink "FreightRoads" (558 : Nat) ({ cls := "FreightRoads", name := "isToldFlow", desc := "(II)Z" } : Jvm.MethodName)) ∈ lw_all := lw_g (lw_at lw_m12 57 rfl) rfl
theorem q2824 : (Jvm.Cond.privateMethod ({ cls := "FreightRoads", name := "isToldFlow", desc := "(II)Z" } : Jvm.MethodName)) ∈ lw_tbl := lw_at lw_m12 58 rfl
theorem q2825 : (Jvm.Cond.instanceMethod ({ cls := "FreightRoads", name := "isToldFlow", desc := "(II)Z" } : Jvm.MethodName)) ∈ lw_all := lw_g (lw_at lw_m12 59 rfl) rfl
theorem q2826 : (Jvm.Cond.code ({ cls := "FreightRoads", name := "isToldFlow", desc := "(II)Z" } : Jvm.MethodName) prog_1_method_58_code (8 : Nat) (Option.some Jvm.ClassFile.FieldType.boolean)) ∈ lw_all := lw_g (lw_at lw_m12 60 rfl) rfl
theorem q2827 : (Jvm.Cond.methodLink "FreightRoads" (561 : Nat) ({ cls := "FreightRoads", name := "hasRing", desc := "()Z" } : Jvm.MethodName)) ∈ lw_all := lw_g (lw_at lw_m12 61 rfl) rfl
theorem q2828 : (Jvm.Cond.privateMethod ({ cls := "FreightRoads", name := "hasRing", desc := "()Z" } : Jvm.MethodName)) ∈ lw_tbl := lw_at lw_m12 62 rfl
theorem q2829 : (Jvm.Cond.instanceMethod ({ cls := "FreightRoads", name := "hasRing", desc := "()Z" } : Jvm.MethodName)) ∈ lw_all := lw_g (lw_at lw_m12 63 rfl) rfl
theorem q2830 : (Jvm.Cond.code ({ cls := "FreightRoads", name := "hasRing", desc := "()Z" } : Jvm.MethodName) prog_1_method_60_code (3 : Nat) (Option.some Jvm.ClassFile.FieldType.boolean)) ∈ lw_all := lw_g (lw_at lw_m12 64 rfl) rfl
theorem q2831 : (Jvm.Cond.methodLink "FreightRoads" (538 : Nat) ({ cls := "java/util/BitSet", name := "clear", desc := "()V" } : Jvm.MethodName)) ∈ lw_all := lw_g (lw_at lw_m12 65 rfl) rfl
theorem q2832 : (Jvm.Cond.methodLink "FreightRoads" (530 : Nat) ({ cls := "java/util/BitSet", name := "set", desc := "(I)V" } : Jvm.MethodName)) ∈ lw_all := lw_g (lw_at lw_m12 66 rfl) rfl
theorem q2833 : (Jvm.Cond.methodLink "FreightRoads" (533 : Nat) ({ cls := "FreightRoads", name := "isRing", desc := "(IIJ)Z" } : Jvm.MethodName)) ∈ lw_all := lw_g (lw_at lw_m12 67 rfl) rfl
theorem q2834 : (Jvm.Cond.privateMethod ({ cls := "FreightRoads", name := "isRing", desc := "(IIJ)Z" } : Jvm.MethodName)) ∈ lw_tbl := lw_at lw_m12 68 rfl
theorem q2835 : (Jvm.Cond.instanceMethod ({ cls := "FreightRoads", name := "isRing", desc := "(IIJ)Z" } : Jvm.MethodName)) ∈ lw_all := lw_g (lw_at lw_m12 69 rfl) rfl
theorem q2836 : (Jvm.Cond.code ({ cls := "FreightRoads", name := "isRing", desc := "(IIJ)Z" } : Jvm.MethodName) prog_1_method_59_code (9 : Nat) (Option.some Jvm.ClassFile.FieldType.boolean)) ∈ lw_all := lw_g (lw_at lw_m12 70 rfl) rfl
theorem q2837 : (Jvm.Cond.methodLink "FreightRoads" (524 : Nat) ({ cls := "FreightRoads$Net", name := "stepCost", desc := "(I)J" } : Jvm.MethodName)) ∈ lw_all := lw_g (lw_at lw_m12 71 rfl) rfl
theorem q2838 : (Jvm.Cond.methodLink "FreightRoads" (536 : Nat) ({ cls := "java/util/BitSet", name := "clear", desc := "(I)V" } : Jvm.MethodName)) ∈ lw_all := lw_g (lw_at lw_m12 72 rfl) rfl
theorem q2848 : (Jvm.Cond.instanceMethod ({ cls := "FreightRoads", name := "ring", desc := "(III)I" } : Jvm.MethodName)) ∈ lw_all := lw_g (lw_at lw_m12 82 rfl) rfl
theorem q2849 : (Jvm.Cond.selects "FreightRoads" ({ cls := "FreightRoads", name := "ring", desc := "(III)I" } : Jvm.MethodName) ({ cls := "FreightRoads", name := "ring", desc := "(III)I" } : Jvm.MethodName)) ∈ lw_all := lw_g (lw_at lw_m12 83 rfl) rfl
theorem q2850 : (Jvm.Cond.code ({ cls := "FreightRoads", name := "ring", desc := "(III)I" } : Jvm.MethodName) prog_1_method_64_code (5 : Nat) (Option.some Jvm.ClassFile.FieldType.int)) ∈ lw_all := lw_g (lw_at lw_m12 84 rfl) rfl
theorem q2852 : (Jvm.Cond.instanceMethod ({ cls := "FreightRoads", name := "gain", desc := "(II)J" } : Jvm.MethodName)) ∈ lw_all := lw_g (lw_at lw_m12 86 rfl) rfl
theorem q2853 : (Jvm.Cond.selects "FreightRoads" ({ cls := "FreightRoads", name := "gain", desc := "(II)J" } : Jvm.MethodName) ({ cls := "FreightRoads", name := "gain", desc := "(II)J" } : Jvm.MethodName)) ∈ lw_all := lw_g (lw_at lw_m12 87 rfl) rfl
theorem q2854 : (Jvm.Cond.code ({ cls := "FreightRoads", name := "gain", desc := "(II)J" } : Jvm.MethodName) prog_1_method_65_code (3 : Nat) (Option.some Jvm.ClassFile.FieldType.long)) ∈ lw_all := lw_g (lw_at lw_m12 88 rfl) rfl
theorem q2856 : (Jvm.Cond.instanceMethod ({ cls := "FreightRoads", name := "mend", desc := "(II)I" } : Jvm.MethodName)) ∈ lw_all := lw_g (lw_at lw_m12 90 rfl) rfl
theorem q2857 : (Jvm.Cond.selects "FreightRoads" ({ cls := "FreightRoads", name := "mend", desc := "(II)I" } : Jvm.MethodName) ({ cls := "FreightRoads", name := "mend", desc := "(II)I" } : Jvm.MethodName)) ∈ lw_all := lw_g (lw_at lw_m12 91 rfl) rfl
theorem q2858 : (Jvm.Cond.code ({ cls := "FreightRoads", name := "mend", desc := "(II)I" } : Jvm.MethodName) prog_1_method_66_code (6 : Nat) (Option.some Jvm.ClassFile.FieldType.int)) ∈ lw_all := lw_g (lw_at lw_m12 92 rfl) rfl
theorem q2859 : (Jvm.Cond.methodLink "FreightRoads" (564 : Nat) ({ cls := "FreightRoads", name := "turnsRing", desc := "()V" } : Jvm.MethodName)) ∈ lw_all := lw_g (lw_at lw_m12 93 rfl) rfl
theorem q2860 : (Jvm.Cond.privateMethod ({ cls := "FreightRoads", name := "turnsRing", desc := "()V" } : Jvm.MethodName)) ∈ lw_tbl := lw_at lw_m12 94 rfl
theorem q2861 : (Jvm.Cond.instanceMethod ({ cls := "FreightRoads", name := "turnsRing", desc := "()V" } : Jvm.MethodName)) ∈ lw_all := lw_g (lw_at lw_m12 95 rfl) rfl
theorem q2862 : (Jvm.Cond.code ({ cls := "FreightRoads", name := "turnsRing", desc := "()V" } : Jvm.MethodName) prog_1_method_62_code (3 : Nat) (Option.none : Option Jvm.ClassFile.FieldType)) ∈ lw_all := lw_g (lw_at lw_m12 96 rfl) rfl
theorem q2863 : (Jvm.Cond.methodLink "FreightRoads" (542 : Nat) ({ cls := "FreightRoads", name := "ringStep", desc := "(I)I" } : Jvm.MethodName)) ∈ lw_all := lw_g (lw_at lw_m12 97 rfl) rfl
theorem q2864 : (Jvm.Cond.privateMethod ({ cls := "FreightRoads", name := "ringStep", desc := "(I)I" } : Jvm.MethodName)) ∈ lw_tbl := lw_at lw_m12 98 rfl
theorem q2865 : (Jvm.Cond.instanceMethod ({ cls := "FreightRoads", name := "ringStep", desc := "(I)I" } : Jvm.MethodName)) ∈ lw_all := lw_g (lw_at lw_m12 99 rfl) rfl
theorem q2866 : (Jvm.Cond.code ({ cls := "FreightRoads", name := "ringStep", desc := "(I)I" } : Jvm.MethodName) prog_1_method_61_code (2 : Nat) (Option.some Jvm.ClassFile.FieldType.int)) ∈ lw_all := lw_g (lw_at lw_m12 100 rfl) rfl
theorem q2867 : (Jvm.Cond.methodLink "FreightRoads" (546 : Nat) ({ cls := "FreightRoads$Net", name := "room", desc := "(I)I" } : Jvm.MethodName)) ∈ lw_all := lw_g (lw_at lw_m12 101 rfl) rfl
theorem q2868 : (Jvm.Cond.methodLink "FreightRoads" (549 : Nat) ({ cls := "java/lang/Math", name := "min", desc := "(II)I" } : Jvm.MethodName)) ∈ lw_all := lw_g (lw_at lw_m12 102 rfl) rfl
theorem q2869 : (Jvm.Cond.methodLink "FreightRoads" (552 : Nat) ({ cls := "FreightRoads$Net", name := "goes", desc := "(II)V" } : Jvm.MethodName)) ∈ lw_all := lw_g (lw_at lw_m12 103 rfl) rfl
theorem q2871 : (Jvm.Cond.instanceMethod ({ cls := "FreightRoads", name := "parts", desc := "()I" } : Jvm.MethodName)) ∈ lw_all := lw_g (lw_at lw_m12 105 rfl) rfl
theorem q2872 : (Jvm.Cond.selects "FreightRoads" ({ cls := "FreightRoads", name := "parts", desc := "()I" } : Jvm.MethodName) ({ cls := "FreightRoads", name := "parts", desc := "()I" } : Jvm.MethodName)) ∈ lw_all := lw_g (lw_at lw_m12 106 rfl) rfl
theorem q2873 : (Jvm.Cond.code ({ cls := "FreightRoads", name := "parts", desc := "()I" } : Jvm.MethodName) prog_1_method_72_code (1 : Nat) (Option.some Jvm.ClassFile.FieldType.int)) ∈ lw_all := lw_g (lw_at lw_m12 107 rfl) rfl
theorem q2874 : (Jvm.Cond.methodLink "FreightRoads" (589 : Nat) ({ cls := "FreightRoads", name := "parted", desc := "()Ljava/util/LinkedList;" } : Jvm.MethodName)) ∈ lw_all := lw_g (lw_at lw_m12 108 rfl) rfl
theorem q2875 : (Jvm.Cond.privateMethod ({ cls := "FreightRoads", name := "parted", desc := "()Ljava/util/LinkedList;" } : Jvm.MethodName)) ∈ lw_tbl := lw_at lw_m12 109 rfl
theorem q2876 : (Jvm.Cond.instanceMethod ({ cls := "FreightRoads", name := "parted", desc := "()Ljava/util/LinkedList;" } : Jvm.MethodName)) ∈ lw_all := lw_g (lw_at lw_m12 110 rfl) rfl
theorem q2877 : (Jvm.Cond.code ({ cls := "FreightRoads", name := "parted", desc := "()Ljava/util/LinkedList;" } : Jvm.MethodName) prog_1_method_71_code (2 : Nat) (Option.some (Jvm.ClassFile.FieldType.object "java/util/LinkedList"))) ∈ lw_all := lw_g (lw_at lw_m12 111 rfl) rfl
theorem q2878 : (Jvm.Cond.methodLink "FreightRoads" (586 : Nat) ({ cls := "FreightRoads", name := "isWayTaken", desc := "()Z" } : Jvm.MethodName)) ∈ lw_all := lw_g (lw_at lw_m12 112 rfl) rfl
theorem q2879 : (Jvm.Cond.privateMethod ({ cls := "FreightRoads", name := "isWayTaken", desc := "()Z" } : Jvm.MethodName)) ∈ lw_tbl := lw_at lw_m12 113 rfl
theorem q2880 : (Jvm.Cond.instanceMethod ({ cls := "FreightRoads", name := "isWayTaken", desc := "()Z" } : Jvm.MethodName)) ∈ lw_all := lw_g (lw_at lw_m12 114 rfl) rfl
theorem q2881 : (Jvm.Cond.code ({ cls := "FreightRoads", name := "isWayTaken", desc := "()Z" } : Jvm.MethodName) prog_1_method_69_code (8 : Nat) (Option.some Jvm.ClassFile.FieldType.boolean)) ∈ lw_all := lw_g (lw_at lw_m12 115 rfl) rfl
theorem q2882 : (Jvm.Cond.methodLink "FreightRoads" (567 : Nat) ({ cls := "FreightRoads", name := "townLeft", desc := "()I" } : Jvm.MethodName)) ∈ lw_all := lw_g (lw_at lw_m12 116 rfl) rfl
theorem q2883 : (Jvm.Cond.privateMethod ({ cls := "FreightRoads", name := "townLeft", desc := "()I" } : Jvm.MethodName)) ∈ lw_tbl := lw_at lw_m12 117 rfl
theorem q2884 : (Jvm.Cond.instanceMethod ({ cls := "FreightRoads", name := "townLeft", desc := "()I" } : Jvm.MethodName)) ∈ lw_all := lw_g (lw_at lw_m12 118 rfl) rfl
theorem q2885 : (Jvm.Cond.code ({ cls := "FreightRoads", name := "townLeft", desc := "()I" } : Jvm.MethodName) prog_1_method_68_code (2 : Nat) (Option.some Jvm.ClassFile.FieldType.int)) ∈ lw_all := lw_g (lw_at lw_m12 119 rfl) rfl
theorem q2886 : (Jvm.Cond.methodLink "FreightRoads" (570 : Nat) ({ cls := "FreightRoads", name := "roadLeftFrom", desc := "(I)I" } : Jvm.MethodName)) ∈ lw_all := lw_g (lw_at lw_m12 120 rfl) rfl
theorem q2887 : (Jvm.Cond.privateMethod ({ cls := "FreightRoads", name := "roadLeftFrom", desc := "(I)I" } : Jvm.MethodName)) ∈ lw_tbl := lw_at lw_m12 121 rfl
theorem q2888 : (Jvm.Cond.instanceMethod ({ cls := "FreightRoads", name := "roadLeftFrom", desc := "(I)I" } : Jvm.MethodName)) ∈ lw_all := lw_g (lw_at lw_m12 122 rfl) rfl
theorem q2889 : (Jvm.Cond.code ({ cls := "FreightRoads", name := "roadLeftFrom", desc := "(I)I" } : Jvm.MethodName) prog_1_method_67_code (3 : Nat) (Option.some Jvm.ClassFile.FieldType.int)) ∈ lw_all := lw_g (lw_at lw_m12 123 rfl) rfl
theorem q2890 : (Jvm.Cond.methodLink "FreightRoads" (573 : Nat) ({ cls := "FreightRoads", name := "takes", desc := "(IIZ)V" } : Jvm.MethodName)) ∈ lw_all := lw_g (lw_at lw_m12 124 rfl) rfl
theorem q2891 : (Jvm.Cond.privateMethod ({ cls := "FreightRoads", name := "takes", desc := "(IIZ)V" } : Jvm.MethodName)) ∈ lw_tbl := lw_at lw_m12 125 rfl
theorem q2892 : (Jvm.Cond.instanceMethod ({ cls := "FreightRoads", name := "takes", desc := "(IIZ)V" } : Jvm.MethodName)) ∈ lw_all := lw_g (lw_at lw_m12 126 rfl) rfl
theorem q2893 : (Jvm.Cond.code ({ cls := "FreightRoads", name := "takes", desc := "(IIZ)V" } : Jvm.MethodName) prog_1_method_70_code (6 : Nat) (Option.none : Option Jvm.ClassFile.FieldType)) ∈ lw_all := lw_g (lw_at lw_m12 127 rfl) rfl
theorem q2894 : (Jvm.Cond.classLink "FreightRoads" (577 : Nat) "FreightRoads$Way") ∈ lw_all := lw_g (lw_at lw_m12 128 rfl) rfl
theorem q2896 : (Jvm.Cond.methodLink "FreightRoads" (579 : Nat) ({ cls := "FreightRoads$Way", name := "<init>", desc := "(I)V" } : Jvm.MethodName)) ∈ lw_all := lw_g (lw_at lw_m12 130 rfl) rfl
theorem q2901 : (Jvm.Cond.fieldLinkNest "FreightRoads" (583 : Nat) "FreightRoads$Way" "roads" "[I" "FreightRoads") ∈ lw_tbl := lw_at lw_m12 135 rfl
theorem q2903 : (Jvm.Cond.fieldLinkNest "FreightRoads" (597 : Nat) "FreightRoads$Way" "begin" "I" "FreightRoads") ∈ lw_tbl := lw_at lw_m12 137 rfl
theorem q2904 : (Jvm.Cond.fieldLinkNest "FreightRoads" (585 : Nat) "FreightRoads$Way" "length" "I" "FreightRoads") ∈ lw_tbl := lw_at lw_m12 138 rfl
theorem q2905 : (Jvm.Cond.fieldLinkNest "FreightRoads" (582 : Nat) "FreightRoads$Way" "many" "I" "FreightRoads") ∈ lw_tbl := lw_at lw_m12 139 rfl
theorem q2906 : (Jvm.Cond.fieldLinkNest "FreightRoads" (580 : Nat) "FreightRoads$Way" "isRing" "Z" "FreightRoads") ∈ lw_tbl := lw_at lw_m12 140 rfl
theorem q2919 : (Jvm.Cond.instanceMethod ({ cls := "FreightRoads", name := "part", desc := "(II)I" } : Jvm.MethodName)) ∈ lw_all := lw_g (lw_at lw_m12 153 rfl) rfl
theorem q2920 : (Jvm.Cond.selects "FreightRoads" ({ cls := "FreightRoads", name := "part", desc := "(II)I" } : Jvm.MethodName) ({ cls := "FreightRoads", name := "part", desc := "(II)I" } : Jvm.MethodName)) ∈ lw_all := lw_g (lw_at lw_m12 154 rfl) rfl
theorem q2921 : (Jvm.Cond.code ({ cls := "FreightRoads", name := "part", desc := "(II)I" } : Jvm.MethodName) prog_1_method_73_code (5 : Nat) (Option.some Jvm.ClassFile.FieldType.int)) ∈ lw_all := lw_g (lw_at lw_m12 155 rfl) rfl
theorem q2922 : (Jvm.Cond.constantLong "FreightRoads" (593 : Nat) (10 : Int64)) ∈ lw_all := lw_g (lw_at lw_m12 156 rfl) rfl
theorem q2923 : (Jvm.Cond.constantLong "FreightRoads" (595 : Nat) (17 : Int64)) ∈ lw_all := lw_g (lw_at lw_m12 157 rfl) rfl
theorem q2925 : (Jvm.Cond.instanceMethod ({ cls := "FreightRoads", name := "partCost", desc := "(I)J" } : Jvm.MethodName)) ∈ lw_all := lw_g (lw_at lw_m12 159 rfl) rfl
theorem q2926 : (Jvm.Cond.selects "FreightRoads" ({ cls := "FreightRoads", name := "partCost", desc := "(I)J" } : Jvm.MethodName) ({ cls := "FreightRoads", name := "partCost", desc := "(I)J" } : Jvm.MethodName)) ∈ lw_all := lw_g (lw_at lw_m12 160 rfl) rfl
theorem q2927 : (Jvm.Cond.code ({ cls := "FreightRoads", name := "partCost", desc := "(I)J" } : Jvm.MethodName) prog_1_method_74_code (6 : Nat) (Option.some Jvm.ClassFile.FieldType.long)) ∈ lw_all := lw_g (lw_at lw_m12 161 rfl) rfl
theorem q2929 : (Jvm.Cond.instanceMethod ({ cls := "FreightRoads", name := "spell", desc := "()I" } : Jvm.MethodName)) ∈ lw_all := lw_g (lw_at lw_m12 163 rfl) rfl
theorem q2930 : (Jvm.Cond.selects "FreightRoads" ({ cls := "FreightRoads", name := "spell", desc := "()I" } : Jvm.MethodName) ({ cls := "FreightRoads", name := "spell", desc := "()I" } : Jvm.MethodName)) ∈ lw_all := lw_g (lw_at lw_m12 164 rfl) rfl
theorem q2931 : (Jvm.Cond.code ({ cls := "FreightRoads", name := "spell", desc := "()I" } : Jvm.MethodName) prog_1_method_75_code (3 : Nat) (Option.some Jvm.ClassFile.FieldType.int)) ∈ lw_all := lw_g (lw_at lw_m12 165 rfl) rfl
theorem q2932 : (Jvm.Cond.classLink "FreightRoads" (600 : Nat) "java/lang/StringBuilder") ∈ lw_all := lw_g (lw_at lw_m12 166 rfl) rfl
theorem q2933 : (Jvm.Cond.methodLink "FreightRoads" (602 : Nat) ({ cls := "java/lang/StringBuilder", name := "<init>", desc := "()V" } : Jvm.MethodName)) ∈ lw_all := lw_g (lw_at lw_m12 167 rfl) rfl
theorem q2934 : (Jvm.Cond.methodLink "FreightRoads" (603 : Nat) ({ cls := "java/lang/StringBuilder", name := "length", desc := "()I" } : Jvm.MethodName)) ∈ lw_all := lw_g (lw_at lw_m12 168 rfl) rfl
theorem q2935 : (Jvm.Cond.stringRef "FreightRoads" (604 : Nat) " ") ∈ lw_tbl := lw_at lw_m12 169 rfl
theorem q2936 : (Jvm.Cond.methodLink "FreightRoads" (606 : Nat) ({ cls := "java/lang/StringBuilder", name := "append", desc := "(Ljava/lang/String;)Ljava/lang/StringBuilder;" } : Jvm.MethodName)) ∈ lw_all := lw_g (lw_at lw_m12 170 rfl) rfl
theorem q2937 : (Jvm.Cond.methodLink "FreightRoads" (610 : Nat) ({ cls := "java/lang/StringBuilder", name := "append", desc := "(I)Ljava/lang/StringBuilder;" } : Jvm.MethodName)) ∈ lw_all := lw_g (lw_at lw_m12 171 rfl) rfl
theorem q2938 : (Jvm.Cond.methodLink "FreightRoads" (613 : Nat) ({ cls := "java/lang/StringBuilder", name := "append", desc := "(C)Ljava/lang/StringBuilder;" } : Jvm.MethodName)) ∈ lw_all := lw_g (lw_at lw_m12 172 rfl) rfl
theorem q2951 : (Jvm.Cond.methodLink "FreightRoads" (616 : Nat) ({ cls := "java/lang/StringBuilder", name := "toString", desc := "()Ljava/lang/String;" } : Jvm.MethodName)) ∈ lw_all := lw_g (lw_at lw_m12 185 rfl) rfl
theorem q2953 : (Jvm.Cond.instanceMethod ({ cls := "FreightRoads", name := "told", desc := "(I)J" } : Jvm.MethodName)) ∈ lw_all := lw_g (lw_at lw_m12 187 rfl) rfl
theorem q2954 : (Jvm.Cond.selects "FreightRoads" ({ cls := "FreightRoads", name := "told", desc := "(I)J" } : Jvm.MethodName) ({ cls := "FreightRoads", name := "told", desc := "(I)J" } : Jvm.MethodName)) ∈ lw_all := lw_g (lw_at lw_m12 188 rfl) rfl
theorem q2955 : (Jvm.Cond.code ({ cls := "FreightRoads", name := "told", desc := "(I)J" } : Jvm.MethodName) prog_1_method_77_code (2 : Nat) (Option.some Jvm.ClassFile.FieldType.long)) ∈ lw_all := lw_g (lw_at lw_m12 189 rfl) rfl
theorem q2956 : (Jvm.Cond.interfaceEntry "FreightRoads" (620 : Nat)) ∈ lw_tbl := lw_at lw_m12 190 rfl
theorem q2957 : (Jvm.Cond.methodLink "FreightRoads" (620 : Nat) ({ cls := "java/util/List", name := "size", desc := "()I" } : Jvm.MethodName)) ∈ lw_all := lw_g (lw_at lw_m12 191 rfl) rfl
theorem q2969 : (Jvm.Cond.interfaceEntry "FreightRoads" (621 : Nat)) ∈ lw_tbl := lw_at lw_m12 203 rfl
theorem q2970 : (Jvm.Cond.methodLink "FreightRoads" (621 : Nat) ({ cls := "java/util/List", name := "get", desc := "(I)Ljava/lang/Object;" } : Jvm.MethodName)) ∈ lw_all := lw_g (lw_at lw_m12 204 rfl) rfl
theorem q2971 : (Jvm.Cond.interfaceEntry "FreightRoads" (626 : Nat)) ∈ lw_tbl := lw_at lw_m12 205 rfl
theorem q2972 : (Jvm.Cond.methodLink "FreightRoads" (626 : Nat) ({ cls := "FreightRoads$Tells", name := "it", desc := "()I" } : Jvm.MethodName)) ∈ lw_all := lw_g (lw_at lw_m12 206 rfl) rfl
theorem q2976 : (Jvm.Cond.instanceMethod ({ cls := "FreightRoads", name := "list", desc := "(II)I" } : Jvm.MethodName)) ∈ lw_all := lw_g (lw_at lw_m12 210 rfl) rfl
theorem q2977 : (Jvm.Cond.selects "FreightRoads" ({ cls := "FreightRoads", name := "list", desc := "(II)I" } : Jvm.MethodName) ({ cls := "FreightRoads", name := "list", desc := "(II)I" } : Jvm.MethodName)) ∈ lw_all := lw_g (lw_at lw_m12 211 rfl) rfl
theorem q2978 : (Jvm.Cond.codeWith ({ cls := "FreightRoads", name := "list", desc := "(II)I" } : Jvm.MethodName) prog_1_method_78_code (4 : Nat) (Option.some Jvm.ClassFile.FieldType.int) [((18 : Nat), (27 : Nat), (30 : Nat), (630 : Nat))]) ∈ lw_all := lw_g (lw_at lw_m12 212 rfl) rfl
theorem q2979 : (Jvm.Cond.classLink "FreightRoads" (630 : Nat) "java/lang/NegativeArraySizeException") ∈ lw_all := lw_g (lw_at lw_m12 213 rfl) rfl
theorem q2981 : (Jvm.Cond.instanceMethod ({ cls := "FreightRoads", name := "set", desc := "(IIJ)I" } : Jvm.MethodName)) ∈ lw_all := lw_g (lw_at lw_m12 215 rfl) rfl
theorem q2982 : (Jvm.Cond.selects "FreightRoads" ({ cls := "FreightRoads", name := "set", desc := "(IIJ)I" } : Jvm.MethodName) ({ cls := "FreightRoads", name := "set", desc := "(IIJ)I" } : Jvm.MethodName)) ∈ lw_all := lw_g (lw_at lw_m12 216 rfl) rfl
theorem q2983 : (Jvm.Cond.codeWith ({ cls := "FreightRoads", name := "set", desc := "(IIJ)I" } : Jvm.MethodName) prog_1_method_79_code (6 : Nat) (Option.some Jvm.ClassFile.FieldType.int) [((9 : Nat), (18 : Nat), (21 : Nat), (632 : Nat)), ((9 : Nat), (18 : Nat), (26 : Nat), (634 : Nat))]) ∈ lw_all := lw_g (lw_at lw_m12 217 rfl) rfl
theorem q2984 : (Jvm.Cond.classLink "FreightRoads" (632 : Nat) "java/lang/NullPointerException") ∈ lw_all := lw_g (lw_at lw_m12 218 rfl) rfl
theorem q2986 : (Jvm.Cond.classLink "FreightRoads" (634 : Nat) "java/lang/ArrayIndexOutOfBoundsException") ∈ lw_all := lw_g (lw_at lw_m12 220 rfl) rfl
theorem q3006 : (Jvm.Cond.instanceMethod ({ cls := "FreightRoads", name := "get", desc := "(II)J" } : Jvm.MethodName)) ∈ lw_all := lw_g (lw_at lw_m13 0 rfl) rfl
theorem q3007 : (Jvm.Cond.selects "FreightRoads" ({ cls := "FreightRoads", name := "get", desc := "(II)J" } : Jvm.MethodName) ({ cls := "FreightRoads", name := "get", desc := "(II)J" } : Jvm.MethodName)) ∈ lw_all := lw_g (lw_at lw_m13 1 rfl) rfl
theorem q3008 : (Jvm.Cond.codeWith ({ cls := "FreightRoads", name := "get", desc := "(II)J" } : Jvm.MethodName) prog_1_method_80_code (4 : Nat) (Option.some Jvm.ClassFile.FieldType.long) [((11 : Nat), (19 : Nat), (20 : Nat), (632 : Nat)), ((11 : Nat), (19 : Nat), (20 : Nat), (634 : Nat))]) ∈ lw_all := lw_g (lw_at lw_m13 2 rfl) rfl
theorem q3010 : (Jvm.Cond.instanceMethod ({ cls := "FreightRoads", name := "lay", desc := "(II)I" } : Jvm.MethodName)) ∈ lw_all := lw_g (lw_at lw_m13 4 rfl) rfl
theorem q3011 : (Jvm.Cond.selects "FreightRoads" ({ cls := "FreightRoads", name := "lay", desc := "(II)I" } : Jvm.MethodName) ({ cls := "FreightRoads", name := "lay", desc := "(II)I" } : Jvm.MethodName)) ∈ lw_all := lw_g (lw_at lw_m13 5 rfl) rfl
theorem q3012 : (Jvm.Cond.codeWith ({ cls := "FreightRoads", name := "lay", desc := "(II)I" } : Jvm.MethodName) prog_1_method_81_code (4 : Nat) (Option.some Jvm.ClassFile.FieldType.int) [((31 : Nat), (70 : Nat), (73 : Nat), (634 : Nat))]) ∈ lw_all := lw_g (lw_at lw_m13 6 rfl) rfl
theorem q3014 : (Jvm.Cond.instanceMethod ({ cls := "FreightRoads", name := "image", desc := "()I" } : Jvm.MethodName)) ∈ lw_all := lw_g (lw_at lw_m13 8 rfl) rfl
theorem q3015 : (Jvm.Cond.selects "FreightRoads" ({ cls := "FreightRoads", name := "image", desc := "()I" } : Jvm.MethodName) ({ cls := "FreightRoads", name := "image", desc := "()I" } : Jvm.MethodName)) ∈ lw_all := lw_g (lw_at lw_m13 9 rfl) rfl
theorem q3016 : (Jvm.Cond.code ({ cls := "FreightRoads", name := "image", desc := "()I" } : Jvm.MethodName) prog_1_method_82_code (1 : Nat) (Option.some Jvm.ClassFile.FieldType.int)) ∈ lw_all := lw_g (lw_at lw_m13 10 rfl) rfl
theorem q3018 : (Jvm.Cond.instanceMethod ({ cls := "FreightRoads", name := "undo", desc := "()I" } : Jvm.MethodName)) ∈ lw_all := lw_g (lw_at lw_m13 12 rfl) rfl
theorem q3019 : (Jvm.Cond.selects "FreightRoads" ({ cls := "FreightRoads", name := "undo", desc := "()I" } : Jvm.MethodName) ({ cls := "FreightRoads", name := "undo", desc := "()I" } : Jvm.MethodName)) ∈ lw_all := lw_g (lw_at lw_m13 13 rfl) rfl
theorem q3020 : (Jvm.Cond.code ({ cls := "FreightRoads", name := "undo", desc := "()I" } : Jvm.MethodName) prog_1_method_83_code (1 : Nat) (Option.some Jvm.ClassFile.FieldType.int)) ∈ lw_all := lw_g (lw_at lw_m13 14 rfl) rfl
theorem q3021 : (Jvm.Cond.methodLink "FreightRoads" (640 : Nat) ({ cls := "java/util/ArrayDeque", name := "clear", desc := "()V" } : Jvm.MethodName)) ∈ lw_all := lw_g (lw_at lw_m13 15 rfl) rfl
theorem q3604 : (Jvm.Cond.castable "FreightRoads" "java/lang/Object") ∈ lw_tbl := lw_at lw_m15 118 rfl
