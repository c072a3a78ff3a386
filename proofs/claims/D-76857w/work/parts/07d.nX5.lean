set_option maxRecDepth 100000
abbrev cX5_init : ByteArray := prog_17_method_1_code
def yX5_init : MethodName := ⟨RX5, "<init>", "()V"⟩
def dkwX5_init_10 : List UInt8 := [188, 10, 181, 0, 92, 42, 180, 0, 9, 3, 5, 79, 177]
abbrev dktX5_init_10 : List UInt8 := dkwX5_init_10 ++ []
def dkwX5_init_9 : List UInt8 := [181, 0, 83, 42, 16, 64, 188, 10, 181, 0, 86, 42, 16, 25, 188, 10, 181, 0, 89, 42, 17, 1, 224]
abbrev dktX5_init_9 : List UInt8 := dkwX5_init_9 ++ dktX5_init_10
def dkwX5_init_8 : List UInt8 := [181, 0, 74, 42, 16, 99, 188, 10, 181, 0, 77, 42, 16, 8, 188, 10, 181, 0, 80, 42, 16, 64, 188, 11]
abbrev dktX5_init_8 : List UInt8 := dkwX5_init_8 ++ dktX5_init_9
def dkwX5_init_7 : List UInt8 := [181, 0, 65, 42, 16, 110, 188, 10, 181, 0, 68, 42, 16, 25, 188, 11, 181, 0, 71, 42, 16, 99, 188, 11]
abbrev dktX5_init_7 : List UInt8 := dkwX5_init_7 ++ dktX5_init_8
def dkwX5_init_6 : List UInt8 := [181, 0, 55, 42, 16, 100, 188, 10, 181, 0, 59, 42, 16, 25, 188, 11, 181, 0, 62, 42, 16, 8, 188, 11]
abbrev dktX5_init_6 : List UInt8 := dkwX5_init_6 ++ dktX5_init_7
def dkwX5_init_5 : List UInt8 := [181, 0, 46, 42, 16, 8, 188, 11, 181, 0, 49, 42, 16, 8, 188, 10, 181, 0, 52, 42, 16, 8, 188, 4]
abbrev dktX5_init_5 : List UInt8 := dkwX5_init_5 ++ dktX5_init_6
def dkwX5_init_4 : List UInt8 := [181, 0, 37, 42, 16, 120, 188, 11, 181, 0, 40, 42, 16, 25, 188, 10, 181, 0, 43, 42, 16, 8, 188, 10]
abbrev dktX5_init_4 : List UInt8 := dkwX5_init_4 ++ dktX5_init_5
def dkwX5_init_3 : List UInt8 := [181, 0, 34, 42, 7, 188, 10, 89, 3, 2, 79, 89, 4, 2, 79, 89, 5, 2, 79, 89, 6, 2, 79]
abbrev dktX5_init_3 : List UInt8 := dkwX5_init_3 ++ dktX5_init_4
def dkwX5_init_2 : List UInt8 := [17, 1, 44, 188, 11, 181, 0, 28, 42, 16, 120, 188, 10, 181, 0, 31, 42, 17, 0, 240, 188, 10]
abbrev dktX5_init_2 : List UInt8 := dkwX5_init_2 ++ dktX5_init_3
def dkwX5_init_1 : List UInt8 := [188, 10, 181, 0, 19, 42, 16, 25, 188, 11, 181, 0, 22, 42, 17, 5, 40, 188, 10, 181, 0, 25, 42]
abbrev dktX5_init_1 : List UInt8 := dkwX5_init_1 ++ dktX5_init_2
def dkwX5_init_0 : List UInt8 := [42, 183, 0, 3, 42, 16, 110, 188, 10, 181, 0, 9, 42, 16, 25, 188, 11, 181, 0, 15, 42, 16, 110]
abbrev dktX5_init_0 : List UInt8 := dkwX5_init_0 ++ dktX5_init_1
theorem dksX5_init_0 : cX5_init.data.toList.drop 0 = dktX5_init_0 := by decide +kernel
theorem dksX5_init_1 : cX5_init.data.toList.drop 23 = dktX5_init_1 := dk_seg dksX5_init_0 23 rfl rfl
theorem dksX5_init_2 : cX5_init.data.toList.drop 46 = dktX5_init_2 := dk_seg dksX5_init_1 23 rfl rfl
theorem dksX5_init_3 : cX5_init.data.toList.drop 68 = dktX5_init_3 := dk_seg dksX5_init_2 22 rfl rfl
theorem dksX5_init_4 : cX5_init.data.toList.drop 91 = dktX5_init_4 := dk_seg dksX5_init_3 23 rfl rfl
theorem dksX5_init_5 : cX5_init.data.toList.drop 115 = dktX5_init_5 := dk_seg dksX5_init_4 24 rfl rfl
theorem dksX5_init_6 : cX5_init.data.toList.drop 139 = dktX5_init_6 := dk_seg dksX5_init_5 24 rfl rfl
theorem dksX5_init_7 : cX5_init.data.toList.drop 163 = dktX5_init_7 := dk_seg dksX5_init_6 24 rfl rfl
theorem dksX5_init_8 : cX5_init.data.toList.drop 187 = dktX5_init_8 := dk_seg dksX5_init_7 24 rfl rfl
theorem dksX5_init_9 : cX5_init.data.toList.drop 211 = dktX5_init_9 := dk_seg dksX5_init_8 24 rfl rfl
theorem dksX5_init_10 : cX5_init.data.toList.drop 234 = dktX5_init_10 := dk_seg dksX5_init_9 23 rfl rfl
theorem dX5_init_0 : decode cX5_init 0 = .ok (.aload_n 0, 1) := dk_42 (dk_at dksX5_init_0 0 rfl rfl)
theorem dX5_init_1 : decode cX5_init 1 = .ok (.invokespecial 3, 3) := dk_183 0 3 (dk_at dksX5_init_0 1 rfl rfl)
theorem dX5_init_4 : decode cX5_init 4 = .ok (.aload_n 0, 1) := dk_42 (dk_at dksX5_init_0 4 rfl rfl)
theorem dX5_init_5 : decode cX5_init 5 = .ok (.bipush 110, 2) := dk_16 110 (dk_at dksX5_init_0 5 rfl rfl)
theorem dX5_init_7 : decode cX5_init 7 = .ok (.newarray .int, 2) := dk_188_10 (dk_at dksX5_init_0 7 rfl rfl)
theorem dX5_init_9 : decode cX5_init 9 = .ok (.putfield 9, 3) := dk_181 0 9 (dk_at dksX5_init_0 9 rfl rfl)
theorem dX5_init_12 : decode cX5_init 12 = .ok (.aload_n 0, 1) := dk_42 (dk_at dksX5_init_0 12 rfl rfl)
theorem dX5_init_13 : decode cX5_init 13 = .ok (.bipush 25, 2) := dk_16 25 (dk_at dksX5_init_0 13 rfl rfl)
theorem dX5_init_15 : decode cX5_init 15 = .ok (.newarray .long, 2) := dk_188_11 (dk_at dksX5_init_0 15 rfl rfl)
theorem dX5_init_17 : decode cX5_init 17 = .ok (.putfield 15, 3) := dk_181 0 15 (dk_at dksX5_init_0 17 rfl rfl)
theorem dX5_init_20 : decode cX5_init 20 = .ok (.aload_n 0, 1) := dk_42 (dk_at dksX5_init_0 20 rfl rfl)
theorem dX5_init_21 : decode cX5_init 21 = .ok (.bipush 110, 2) := dk_16 110 (dk_at dksX5_init_0 21 rfl rfl)
theorem dX5_init_23 : decode cX5_init 23 = .ok (.newarray .int, 2) := dk_188_10 (dk_at dksX5_init_1 0 rfl rfl)
theorem dX5_init_25 : decode cX5_init 25 = .ok (.putfield 19, 3) := dk_181 0 19 (dk_at dksX5_init_1 2 rfl rfl)
theorem dX5_init_28 : decode cX5_init 28 = .ok (.aload_n 0, 1) := dk_42 (dk_at dksX5_init_1 5 rfl rfl)
theorem dX5_init_29 : decode cX5_init 29 = .ok (.bipush 25, 2) := dk_16 25 (dk_at dksX5_init_1 6 rfl rfl)
theorem dX5_init_31 : decode cX5_init 31 = .ok (.newarray .long, 2) := dk_188_11 (dk_at dksX5_init_1 8 rfl rfl)
theorem dX5_init_33 : decode cX5_init 33 = .ok (.putfield 22, 3) := dk_181 0 22 (dk_at dksX5_init_1 10 rfl rfl)
theorem dX5_init_36 : decode cX5_init 36 = .ok (.aload_n 0, 1) := dk_42 (dk_at dksX5_init_1 13 rfl rfl)
theorem dX5_init_37 : decode cX5_init 37 = .ok (.sipush 1320, 3) := dk_17 5 40 (dk_at dksX5_init_1 14 rfl rfl)
theorem dX5_init_40 : decode cX5_init 40 = .ok (.newarray .int, 2) := dk_188_10 (dk_at dksX5_init_1 17 rfl rfl)
theorem dX5_init_42 : decode cX5_init 42 = .ok (.putfield 25, 3) := dk_181 0 25 (dk_at dksX5_init_1 19 rfl rfl)
theorem dX5_init_45 : decode cX5_init 45 = .ok (.aload_n 0, 1) := dk_42 (dk_at dksX5_init_1 22 rfl rfl)
theorem dX5_init_46 : decode cX5_init 46 = .ok (.sipush 300, 3) := dk_17 1 44 (dk_at dksX5_init_2 0 rfl rfl)
theorem dX5_init_49 : decode cX5_init 49 = .ok (.newarray .long, 2) := dk_188_11 (dk_at dksX5_init_2 3 rfl rfl)
theorem dX5_init_51 : decode cX5_init 51 = .ok (.putfield 28, 3) := dk_181 0 28 (dk_at dksX5_init_2 5 rfl rfl)
theorem dX5_init_54 : decode cX5_init 54 = .ok (.aload_n 0, 1) := dk_42 (dk_at dksX5_init_2 8 rfl rfl)
theorem dX5_init_55 : decode cX5_init 55 = .ok (.bipush 120, 2) := dk_16 120 (dk_at dksX5_init_2 9 rfl rfl)
theorem dX5_init_57 : decode cX5_init 57 = .ok (.newarray .int, 2) := dk_188_10 (dk_at dksX5_init_2 11 rfl rfl)
theorem dX5_init_59 : decode cX5_init 59 = .ok (.putfield 31, 3) := dk_181 0 31 (dk_at dksX5_init_2 13 rfl rfl)
theorem dX5_init_62 : decode cX5_init 62 = .ok (.aload_n 0, 1) := dk_42 (dk_at dksX5_init_2 16 rfl rfl)
theorem dX5_init_63 : decode cX5_init 63 = .ok (.sipush 240, 3) := dk_17 0 240 (dk_at dksX5_init_2 17 rfl rfl)
theorem dX5_init_66 : decode cX5_init 66 = .ok (.newarray .int, 2) := dk_188_10 (dk_at dksX5_init_2 20 rfl rfl)
theorem dX5_init_68 : decode cX5_init 68 = .ok (.putfield 34, 3) := dk_181 0 34 (dk_at dksX5_init_3 0 rfl rfl)
theorem dX5_init_71 : decode cX5_init 71 = .ok (.aload_n 0, 1) := dk_42 (dk_at dksX5_init_3 3 rfl rfl)
theorem dX5_init_72 : decode cX5_init 72 = .ok (.iconst 4, 1) := dk_7 (dk_at dksX5_init_3 4 rfl rfl)
theorem dX5_init_73 : decode cX5_init 73 = .ok (.newarray .int, 2) := dk_188_10 (dk_at dksX5_init_3 5 rfl rfl)
theorem dX5_init_75 : decode cX5_init 75 = .ok (.dup, 1) := dk_89 (dk_at dksX5_init_3 7 rfl rfl)
theorem dX5_init_76 : decode cX5_init 76 = .ok (.iconst 0, 1) := dk_3 (dk_at dksX5_init_3 8 rfl rfl)
theorem dX5_init_77 : decode cX5_init 77 = .ok (.iconst (-1), 1) := dk_2 (dk_at dksX5_init_3 9 rfl rfl)
theorem dX5_init_78 : decode cX5_init 78 = .ok (.iastore, 1) := dk_79 (dk_at dksX5_init_3 10 rfl rfl)
theorem dX5_init_79 : decode cX5_init 79 = .ok (.dup, 1) := dk_89 (dk_at dksX5_init_3 11 rfl rfl)
theorem dX5_init_80 : decode cX5_init 80 = .ok (.iconst 1, 1) := dk_4 (dk_at dksX5_init_3 12 rfl rfl)
theorem dX5_init_81 : decode cX5_init 81 = .ok (.iconst (-1), 1) := dk_2 (dk_at dksX5_init_3 13 rfl rfl)
theorem dX5_init_82 : decode cX5_init 82 = .ok (.iastore, 1) := dk_79 (dk_at dksX5_init_3 14 rfl rfl)
theorem dX5_init_83 : decode cX5_init 83 = .ok (.dup, 1) := dk_89 (dk_at dksX5_init_3 15 rfl rfl)
theorem dX5_init_84 : decode cX5_init 84 = .ok (.iconst 2, 1) := dk_5 (dk_at dksX5_init_3 16 rfl rfl)
theorem dX5_init_85 : decode cX5_init 85 = .ok (.iconst (-1), 1) := dk_2 (dk_at dksX5_init_3 17 rfl rfl)
theorem dX5_init_86 : decode cX5_init 86 = .ok (.iastore, 1) := dk_79 (dk_at dksX5_init_3 18 rfl rfl)
theorem dX5_init_87 : decode cX5_init 87 = .ok (.dup, 1) := dk_89 (dk_at dksX5_init_3 19 rfl rfl)
theorem dX5_init_88 : decode cX5_init 88 = .ok (.iconst 3, 1) := dk_6 (dk_at dksX5_init_3 20 rfl rfl)
theorem dX5_init_89 : decode cX5_init 89 = .ok (.iconst (-1), 1) := dk_2 (dk_at dksX5_init_3 21 rfl rfl)
theorem dX5_init_90 : decode cX5_init 90 = .ok (.iastore, 1) := dk_79 (dk_at dksX5_init_3 22 rfl rfl)
theorem dX5_init_91 : decode cX5_init 91 = .ok (.putfield 37, 3) := dk_181 0 37 (dk_at dksX5_init_4 0 rfl rfl)
theorem dX5_init_94 : decode cX5_init 94 = .ok (.aload_n 0, 1) := dk_42 (dk_at dksX5_init_4 3 rfl rfl)
theorem dX5_init_95 : decode cX5_init 95 = .ok (.bipush 120, 2) := dk_16 120 (dk_at dksX5_init_4 4 rfl rfl)
theorem dX5_init_97 : decode cX5_init 97 = .ok (.newarray .long, 2) := dk_188_11 (dk_at dksX5_init_4 6 rfl rfl)
theorem dX5_init_99 : decode cX5_init 99 = .ok (.putfield 40, 3) := dk_181 0 40 (dk_at dksX5_init_4 8 rfl rfl)
theorem dX5_init_102 : decode cX5_init 102 = .ok (.aload_n 0, 1) := dk_42 (dk_at dksX5_init_4 11 rfl rfl)
theorem dX5_init_103 : decode cX5_init 103 = .ok (.bipush 25, 2) := dk_16 25 (dk_at dksX5_init_4 12 rfl rfl)
theorem dX5_init_105 : decode cX5_init 105 = .ok (.newarray .int, 2) := dk_188_10 (dk_at dksX5_init_4 14 rfl rfl)
theorem dX5_init_107 : decode cX5_init 107 = .ok (.putfield 43, 3) := dk_181 0 43 (dk_at dksX5_init_4 16 rfl rfl)
theorem dX5_init_110 : decode cX5_init 110 = .ok (.aload_n 0, 1) := dk_42 (dk_at dksX5_init_4 19 rfl rfl)
theorem dX5_init_111 : decode cX5_init 111 = .ok (.bipush 8, 2) := dk_16 8 (dk_at dksX5_init_4 20 rfl rfl)
theorem dX5_init_113 : decode cX5_init 113 = .ok (.newarray .int, 2) := dk_188_10 (dk_at dksX5_init_4 22 rfl rfl)
theorem dX5_init_115 : decode cX5_init 115 = .ok (.putfield 46, 3) := dk_181 0 46 (dk_at dksX5_init_5 0 rfl rfl)
theorem dX5_init_118 : decode cX5_init 118 = .ok (.aload_n 0, 1) := dk_42 (dk_at dksX5_init_5 3 rfl rfl)
theorem dX5_init_119 : decode cX5_init 119 = .ok (.bipush 8, 2) := dk_16 8 (dk_at dksX5_init_5 4 rfl rfl)
theorem dX5_init_121 : decode cX5_init 121 = .ok (.newarray .long, 2) := dk_188_11 (dk_at dksX5_init_5 6 rfl rfl)
theorem dX5_init_123 : decode cX5_init 123 = .ok (.putfield 49, 3) := dk_181 0 49 (dk_at dksX5_init_5 8 rfl rfl)
theorem dX5_init_126 : decode cX5_init 126 = .ok (.aload_n 0, 1) := dk_42 (dk_at dksX5_init_5 11 rfl rfl)
theorem dX5_init_127 : decode cX5_init 127 = .ok (.bipush 8, 2) := dk_16 8 (dk_at dksX5_init_5 12 rfl rfl)
theorem dX5_init_129 : decode cX5_init 129 = .ok (.newarray .int, 2) := dk_188_10 (dk_at dksX5_init_5 14 rfl rfl)
theorem dX5_init_131 : decode cX5_init 131 = .ok (.putfield 52, 3) := dk_181 0 52 (dk_at dksX5_init_5 16 rfl rfl)
theorem dX5_init_134 : decode cX5_init 134 = .ok (.aload_n 0, 1) := dk_42 (dk_at dksX5_init_5 19 rfl rfl)
theorem dX5_init_135 : decode cX5_init 135 = .ok (.bipush 8, 2) := dk_16 8 (dk_at dksX5_init_5 20 rfl rfl)
theorem dX5_init_137 : decode cX5_init 137 = .ok (.newarray .boolean, 2) := dk_188_4 (dk_at dksX5_init_5 22 rfl rfl)
theorem dX5_init_139 : decode cX5_init 139 = .ok (.putfield 55, 3) := dk_181 0 55 (dk_at dksX5_init_6 0 rfl rfl)
theorem dX5_init_142 : decode cX5_init 142 = .ok (.aload_n 0, 1) := dk_42 (dk_at dksX5_init_6 3 rfl rfl)
theorem dX5_init_143 : decode cX5_init 143 = .ok (.bipush 100, 2) := dk_16 100 (dk_at dksX5_init_6 4 rfl rfl)
theorem dX5_init_145 : decode cX5_init 145 = .ok (.newarray .int, 2) := dk_188_10 (dk_at dksX5_init_6 6 rfl rfl)
theorem dX5_init_147 : decode cX5_init 147 = .ok (.putfield 59, 3) := dk_181 0 59 (dk_at dksX5_init_6 8 rfl rfl)
theorem dX5_init_150 : decode cX5_init 150 = .ok (.aload_n 0, 1) := dk_42 (dk_at dksX5_init_6 11 rfl rfl)
theorem dX5_init_151 : decode cX5_init 151 = .ok (.bipush 25, 2) := dk_16 25 (dk_at dksX5_init_6 12 rfl rfl)
theorem dX5_init_153 : decode cX5_init 153 = .ok (.newarray .long, 2) := dk_188_11 (dk_at dksX5_init_6 14 rfl rfl)
theorem dX5_init_155 : decode cX5_init 155 = .ok (.putfield 62, 3) := dk_181 0 62 (dk_at dksX5_init_6 16 rfl rfl)
theorem dX5_init_158 : decode cX5_init 158 = .ok (.aload_n 0, 1) := dk_42 (dk_at dksX5_init_6 19 rfl rfl)
theorem dX5_init_159 : decode cX5_init 159 = .ok (.bipush 8, 2) := dk_16 8 (dk_at dksX5_init_6 20 rfl rfl)
theorem dX5_init_161 : decode cX5_init 161 = .ok (.newarray .long, 2) := dk_188_11 (dk_at dksX5_init_6 22 rfl rfl)
theorem dX5_init_163 : decode cX5_init 163 = .ok (.putfield 65, 3) := dk_181 0 65 (dk_at dksX5_init_7 0 rfl rfl)
theorem dX5_init_166 : decode cX5_init 166 = .ok (.aload_n 0, 1) := dk_42 (dk_at dksX5_init_7 3 rfl rfl)
theorem dX5_init_167 : decode cX5_init 167 = .ok (.bipush 110, 2) := dk_16 110 (dk_at dksX5_init_7 4 rfl rfl)
theorem dX5_init_169 : decode cX5_init 169 = .ok (.newarray .int, 2) := dk_188_10 (dk_at dksX5_init_7 6 rfl rfl)
theorem dX5_init_171 : decode cX5_init 171 = .ok (.putfield 68, 3) := dk_181 0 68 (dk_at dksX5_init_7 8 rfl rfl)
theorem dX5_init_174 : decode cX5_init 174 = .ok (.aload_n 0, 1) := dk_42 (dk_at dksX5_init_7 11 rfl rfl)
theorem dX5_init_175 : decode cX5_init 175 = .ok (.bipush 25, 2) := dk_16 25 (dk_at dksX5_init_7 12 rfl rfl)
theorem dX5_init_177 : decode cX5_init 177 = .ok (.newarray .long, 2) := dk_188_11 (dk_at dksX5_init_7 14 rfl rfl)
theorem dX5_init_179 : decode cX5_init 179 = .ok (.putfield 71, 3) := dk_181 0 71 (dk_at dksX5_init_7 16 rfl rfl)
theorem dX5_init_182 : decode cX5_init 182 = .ok (.aload_n 0, 1) := dk_42 (dk_at dksX5_init_7 19 rfl rfl)
theorem dX5_init_183 : decode cX5_init 183 = .ok (.bipush 99, 2) := dk_16 99 (dk_at dksX5_init_7 20 rfl rfl)
theorem dX5_init_185 : decode cX5_init 185 = .ok (.newarray .long, 2) := dk_188_11 (dk_at dksX5_init_7 22 rfl rfl)
theorem dX5_init_187 : decode cX5_init 187 = .ok (.putfield 74, 3) := dk_181 0 74 (dk_at dksX5_init_8 0 rfl rfl)
theorem dX5_init_190 : decode cX5_init 190 = .ok (.aload_n 0, 1) := dk_42 (dk_at dksX5_init_8 3 rfl rfl)
theorem dX5_init_191 : decode cX5_init 191 = .ok (.bipush 99, 2) := dk_16 99 (dk_at dksX5_init_8 4 rfl rfl)
theorem dX5_init_193 : decode cX5_init 193 = .ok (.newarray .int, 2) := dk_188_10 (dk_at dksX5_init_8 6 rfl rfl)
theorem dX5_init_195 : decode cX5_init 195 = .ok (.putfield 77, 3) := dk_181 0 77 (dk_at dksX5_init_8 8 rfl rfl)
theorem dX5_init_198 : decode cX5_init 198 = .ok (.aload_n 0, 1) := dk_42 (dk_at dksX5_init_8 11 rfl rfl)
theorem dX5_init_199 : decode cX5_init 199 = .ok (.bipush 8, 2) := dk_16 8 (dk_at dksX5_init_8 12 rfl rfl)
theorem dX5_init_201 : decode cX5_init 201 = .ok (.newarray .int, 2) := dk_188_10 (dk_at dksX5_init_8 14 rfl rfl)
theorem dX5_init_203 : decode cX5_init 203 = .ok (.putfield 80, 3) := dk_181 0 80 (dk_at dksX5_init_8 16 rfl rfl)
theorem dX5_init_206 : decode cX5_init 206 = .ok (.aload_n 0, 1) := dk_42 (dk_at dksX5_init_8 19 rfl rfl)
theorem dX5_init_207 : decode cX5_init 207 = .ok (.bipush 64, 2) := dk_16 64 (dk_at dksX5_init_8 20 rfl rfl)
theorem dX5_init_209 : decode cX5_init 209 = .ok (.newarray .long, 2) := dk_188_11 (dk_at dksX5_init_8 22 rfl rfl)
theorem dX5_init_211 : decode cX5_init 211 = .ok (.putfield 83, 3) := dk_181 0 83 (dk_at dksX5_init_9 0 rfl rfl)
theorem dX5_init_214 : decode cX5_init 214 = .ok (.aload_n 0, 1) := dk_42 (dk_at dksX5_init_9 3 rfl rfl)
theorem dX5_init_215 : decode cX5_init 215 = .ok (.bipush 64, 2) := dk_16 64 (dk_at dksX5_init_9 4 rfl rfl)
theorem dX5_init_217 : decode cX5_init 217 = .ok (.newarray .int, 2) := dk_188_10 (dk_at dksX5_init_9 6 rfl rfl)
theorem dX5_init_219 : decode cX5_init 219 = .ok (.putfield 86, 3) := dk_181 0 86 (dk_at dksX5_init_9 8 rfl rfl)
theorem dX5_init_222 : decode cX5_init 222 = .ok (.aload_n 0, 1) := dk_42 (dk_at dksX5_init_9 11 rfl rfl)
theorem dX5_init_223 : decode cX5_init 223 = .ok (.bipush 25, 2) := dk_16 25 (dk_at dksX5_init_9 12 rfl rfl)
theorem dX5_init_225 : decode cX5_init 225 = .ok (.newarray .int, 2) := dk_188_10 (dk_at dksX5_init_9 14 rfl rfl)
theorem dX5_init_227 : decode cX5_init 227 = .ok (.putfield 89, 3) := dk_181 0 89 (dk_at dksX5_init_9 16 rfl rfl)
theorem dX5_init_230 : decode cX5_init 230 = .ok (.aload_n 0, 1) := dk_42 (dk_at dksX5_init_9 19 rfl rfl)
theorem dX5_init_231 : decode cX5_init 231 = .ok (.sipush 480, 3) := dk_17 1 224 (dk_at dksX5_init_9 20 rfl rfl)
theorem dX5_init_234 : decode cX5_init 234 = .ok (.newarray .int, 2) := dk_188_10 (dk_at dksX5_init_10 0 rfl rfl)
theorem dX5_init_236 : decode cX5_init 236 = .ok (.putfield 92, 3) := dk_181 0 92 (dk_at dksX5_init_10 2 rfl rfl)
theorem dX5_init_239 : decode cX5_init 239 = .ok (.aload_n 0, 1) := dk_42 (dk_at dksX5_init_10 5 rfl rfl)
theorem dX5_init_240 : decode cX5_init 240 = .ok (.getfield 9, 3) := dk_180 0 9 (dk_at dksX5_init_10 6 rfl rfl)
theorem dX5_init_243 : decode cX5_init 243 = .ok (.iconst 0, 1) := dk_3 (dk_at dksX5_init_10 9 rfl rfl)
theorem dX5_init_244 : decode cX5_init 244 = .ok (.iconst 2, 1) := dk_5 (dk_at dksX5_init_10 10 rfl rfl)
theorem dX5_init_245 : decode cX5_init 245 = .ok (.iastore, 1) := dk_79 (dk_at dksX5_init_10 11 rfl rfl)
theorem dX5_init_246 : decode cX5_init 246 = .ok (.return_, 1) := dk_177 (dk_at dksX5_init_10 12 rfl rfl)
abbrev cX5_back : ByteArray := prog_17_method_15_code
def yX5_back : MethodName := ⟨RX5, "back", "()I"⟩
def dkwX5_back_2 : List UInt8 := [180, 0, 110, 104, 42, 180, 0, 15, 3, 184, 0, 118, 42, 180, 0, 110, 172]
abbrev dktX5_back_2 : List UInt8 := dkwX5_back_2 ++ []
def dkwX5_back_1 : List UInt8 := [16, 110, 42, 180, 0, 110, 104, 42, 180, 0, 9, 3, 184, 0, 114, 42, 180, 0, 28, 16, 25, 42]
abbrev dktX5_back_1 : List UInt8 := dkwX5_back_1 ++ dktX5_back_2
def dkwX5_back_0 : List UInt8 := [42, 180, 0, 110, 154, 0, 6, 16, 253, 172, 42, 89, 180, 0, 110, 4, 100, 181, 0, 110, 42, 180, 0, 25]
abbrev dktX5_back_0 : List UInt8 := dkwX5_back_0 ++ dktX5_back_1
theorem dksX5_back_0 : cX5_back.data.toList.drop 0 = dktX5_back_0 := by decide +kernel
theorem dksX5_back_1 : cX5_back.data.toList.drop 24 = dktX5_back_1 := dk_seg dksX5_back_0 24 rfl rfl
theorem dksX5_back_2 : cX5_back.data.toList.drop 46 = dktX5_back_2 := dk_seg dksX5_back_1 22 rfl rfl
theorem dX5_back_0 : decode cX5_back 0 = .ok (.aload_n 0, 1) := dk_42 (dk_at dksX5_back_0 0 rfl rfl)
theorem dX5_back_1 : decode cX5_back 1 = .ok (.getfield 110, 3) := dk_180 0 110 (dk_at dksX5_back_0 1 rfl rfl)
theorem dX5_back_4 : decode cX5_back 4 = .ok (.ifCond .ne 6, 3) := dk_154 0 6 (dk_at dksX5_back_0 4 rfl rfl)
theorem dX5_back_7 : decode cX5_back 7 = .ok (.bipush (-3), 2) := dk_16 253 (dk_at dksX5_back_0 7 rfl rfl)
theorem dX5_back_9 : decode cX5_back 9 = .ok (.ireturn, 1) := dk_172 (dk_at dksX5_back_0 9 rfl rfl)
theorem dX5_back_10 : decode cX5_back 10 = .ok (.aload_n 0, 1) := dk_42 (dk_at dksX5_back_0 10 rfl rfl)
theorem dX5_back_11 : decode cX5_back 11 = .ok (.dup, 1) := dk_89 (dk_at dksX5_back_0 11 rfl rfl)
theorem dX5_back_12 : decode cX5_back 12 = .ok (.getfield 110, 3) := dk_180 0 110 (dk_at dksX5_back_0 12 rfl rfl)
theorem dX5_back_15 : decode cX5_back 15 = .ok (.iconst 1, 1) := dk_4 (dk_at dksX5_back_0 15 rfl rfl)
theorem dX5_back_16 : decode cX5_back 16 = .ok (.isub, 1) := dk_100 (dk_at dksX5_back_0 16 rfl rfl)
theorem dX5_back_17 : decode cX5_back 17 = .ok (.putfield 110, 3) := dk_181 0 110 (dk_at dksX5_back_0 17 rfl rfl)
theorem dX5_back_20 : decode cX5_back 20 = .ok (.aload_n 0, 1) := dk_42 (dk_at dksX5_back_0 20 rfl rfl)
theorem dX5_back_21 : decode cX5_back 21 = .ok (.getfield 25, 3) := dk_180 0 25 (dk_at dksX5_back_0 21 rfl rfl)
theorem dX5_back_24 : decode cX5_back 24 = .ok (.bipush 110, 2) := dk_16 110 (dk_at dksX5_back_1 0 rfl rfl)
theorem dX5_back_26 : decode cX5_back 26 = .ok (.aload_n 0, 1) := dk_42 (dk_at dksX5_back_1 2 rfl rfl)
theorem dX5_back_27 : decode cX5_back 27 = .ok (.getfield 110, 3) := dk_180 0 110 (dk_at dksX5_back_1 3 rfl rfl)
theorem dX5_back_30 : decode cX5_back 30 = .ok (.imul, 1) := dk_104 (dk_at dksX5_back_1 6 rfl rfl)
theorem dX5_back_31 : decode cX5_back 31 = .ok (.aload_n 0, 1) := dk_42 (dk_at dksX5_back_1 7 rfl rfl)
theorem dX5_back_32 : decode cX5_back 32 = .ok (.getfield 9, 3) := dk_180 0 9 (dk_at dksX5_back_1 8 rfl rfl)
theorem dX5_back_35 : decode cX5_back 35 = .ok (.iconst 0, 1) := dk_3 (dk_at dksX5_back_1 11 rfl rfl)
theorem dX5_back_36 : decode cX5_back 36 = .ok (.invokestatic 114, 3) := dk_184 0 114 (dk_at dksX5_back_1 12 rfl rfl)
theorem dX5_back_39 : decode cX5_back 39 = .ok (.aload_n 0, 1) := dk_42 (dk_at dksX5_back_1 15 rfl rfl)
theorem dX5_back_40 : decode cX5_back 40 = .ok (.getfield 28, 3) := dk_180 0 28 (dk_at dksX5_back_1 16 rfl rfl)
theorem dX5_back_43 : decode cX5_back 43 = .ok (.bipush 25, 2) := dk_16 25 (dk_at dksX5_back_1 19 rfl rfl)
theorem dX5_back_45 : decode cX5_back 45 = .ok (.aload_n 0, 1) := dk_42 (dk_at dksX5_back_1 21 rfl rfl)
theorem dX5_back_46 : decode cX5_back 46 = .ok (.getfield 110, 3) := dk_180 0 110 (dk_at dksX5_back_2 0 rfl rfl)
theorem dX5_back_49 : decode cX5_back 49 = .ok (.imul, 1) := dk_104 (dk_at dksX5_back_2 3 rfl rfl)
theorem dX5_back_50 : decode cX5_back 50 = .ok (.aload_n 0, 1) := dk_42 (dk_at dksX5_back_2 4 rfl rfl)
theorem dX5_back_51 : decode cX5_back 51 = .ok (.getfield 15, 3) := dk_180 0 15 (dk_at dksX5_back_2 5 rfl rfl)
theorem dX5_back_54 : decode cX5_back 54 = .ok (.iconst 0, 1) := dk_3 (dk_at dksX5_back_2 8 rfl rfl)
theorem dX5_back_55 : decode cX5_back 55 = .ok (.invokestatic 118, 3) := dk_184 0 118 (dk_at dksX5_back_2 9 rfl rfl)
theorem dX5_back_58 : decode cX5_back 58 = .ok (.aload_n 0, 1) := dk_42 (dk_at dksX5_back_2 12 rfl rfl)
theorem dX5_back_59 : decode cX5_back 59 = .ok (.getfield 110, 3) := dk_180 0 110 (dk_at dksX5_back_2 13 rfl rfl)
theorem dX5_back_62 : decode cX5_back 62 = .ok (.ireturn, 1) := dk_172 (dk_at dksX5_back_2 16 rfl rfl)
abbrev cX5_pours : ByteArray := prog_17_method_12_code
def yX5_pours : MethodName := ⟨RX5, "pours", "([II[II)V"⟩
def dkwX5_pours_1 : List UInt8 := [132, 4, 1, 167, 255, 234, 177]
abbrev dktX5_pours_1 : List UInt8 := dkwX5_pours_1 ++ []
def dkwX5_pours_0 : List UInt8 := [3, 54, 4, 21, 4, 16, 110, 162, 0, 21, 44, 29, 21, 4, 96, 42, 27, 21, 4, 96, 46, 79]
abbrev dktX5_pours_0 : List UInt8 := dkwX5_pours_0 ++ dktX5_pours_1
theorem dksX5_pours_0 : cX5_pours.data.toList.drop 0 = dktX5_pours_0 := by decide +kernel
theorem dksX5_pours_1 : cX5_pours.data.toList.drop 22 = dktX5_pours_1 := dk_seg dksX5_pours_0 22 rfl rfl
theorem dX5_pours_0 : decode cX5_pours 0 = .ok (.iconst 0, 1) := dk_3 (dk_at dksX5_pours_0 0 rfl rfl)
theorem dX5_pours_1 : decode cX5_pours 1 = .ok (.istore 4, 2) := dk_54 4 (dk_at dksX5_pours_0 1 rfl rfl)
theorem dX5_pours_3 : decode cX5_pours 3 = .ok (.iload 4, 2) := dk_21 4 (dk_at dksX5_pours_0 3 rfl rfl)
theorem dX5_pours_5 : decode cX5_pours 5 = .ok (.bipush 110, 2) := dk_16 110 (dk_at dksX5_pours_0 5 rfl rfl)
theorem dX5_pours_7 : decode cX5_pours 7 = .ok (.if_icmp .ge 21, 3) := dk_162 0 21 (dk_at dksX5_pours_0 7 rfl rfl)
theorem dX5_pours_10 : decode cX5_pours 10 = .ok (.aload_n 2, 1) := dk_44 (dk_at dksX5_pours_0 10 rfl rfl)
theorem dX5_pours_11 : decode cX5_pours 11 = .ok (.iload_n 3, 1) := dk_29 (dk_at dksX5_pours_0 11 rfl rfl)
theorem dX5_pours_12 : decode cX5_pours 12 = .ok (.iload 4, 2) := dk_21 4 (dk_at dksX5_pours_0 12 rfl rfl)
theorem dX5_pours_14 : decode cX5_pours 14 = .ok (.iadd, 1) := dk_96 (dk_at dksX5_pours_0 14 rfl rfl)
theorem dX5_pours_15 : decode cX5_pours 15 = .ok (.aload_n 0, 1) := dk_42 (dk_at dksX5_pours_0 15 rfl rfl)
theorem dX5_pours_16 : decode cX5_pours 16 = .ok (.iload_n 1, 1) := dk_27 (dk_at dksX5_pours_0 16 rfl rfl)
theorem dX5_pours_17 : decode cX5_pours 17 = .ok (.iload 4, 2) := dk_21 4 (dk_at dksX5_pours_0 17 rfl rfl)
theorem dX5_pours_19 : decode cX5_pours 19 = .ok (.iadd, 1) := dk_96 (dk_at dksX5_pours_0 19 rfl rfl)
theorem dX5_pours_20 : decode cX5_pours 20 = .ok (.iaload, 1) := dk_46 (dk_at dksX5_pours_0 20 rfl rfl)
theorem dX5_pours_21 : decode cX5_pours 21 = .ok (.iastore, 1) := dk_79 (dk_at dksX5_pours_0 21 rfl rfl)
theorem dX5_pours_22 : decode cX5_pours 22 = .ok (.iinc 4 1, 3) := dk_132 4 1 (dk_at dksX5_pours_1 0 rfl rfl)
theorem dX5_pours_25 : decode cX5_pours 25 = .ok (.goto (-22), 3) := dk_167 255 234 (dk_at dksX5_pours_1 3 rfl rfl)
theorem dX5_pours_28 : decode cX5_pours 28 = .ok (.return_, 1) := dk_177 (dk_at dksX5_pours_1 6 rfl rfl)
abbrev cX5_poursCosts : ByteArray := prog_17_method_13_code
def yX5_poursCosts : MethodName := ⟨RX5, "poursCosts", "([JI[JI)V"⟩
def dkwX5_poursCosts_1 : List UInt8 := [132, 4, 1, 167, 255, 234, 177]
abbrev dktX5_poursCosts_1 : List UInt8 := dkwX5_poursCosts_1 ++ []
def dkwX5_poursCosts_0 : List UInt8 := [3, 54, 4, 21, 4, 16, 25, 162, 0, 21, 44, 29, 21, 4, 96, 42, 27, 21, 4, 96, 47, 80]
abbrev dktX5_poursCosts_0 : List UInt8 := dkwX5_poursCosts_0 ++ dktX5_poursCosts_1
theorem dksX5_poursCosts_0 : cX5_poursCosts.data.toList.drop 0 = dktX5_poursCosts_0 := by decide +kernel
theorem dksX5_poursCosts_1 : cX5_poursCosts.data.toList.drop 22 = dktX5_poursCosts_1 := dk_seg dksX5_poursCosts_0 22 rfl rfl
theorem dX5_poursCosts_0 : decode cX5_poursCosts 0 = .ok (.iconst 0, 1) := dk_3 (dk_at dksX5_poursCosts_0 0 rfl rfl)
theorem dX5_poursCosts_1 : decode cX5_poursCosts 1 = .ok (.istore 4, 2) := dk_54 4 (dk_at dksX5_poursCosts_0 1 rfl rfl)
theorem dX5_poursCosts_3 : decode cX5_poursCosts 3 = .ok (.iload 4, 2) := dk_21 4 (dk_at dksX5_poursCosts_0 3 rfl rfl)
theorem dX5_poursCosts_5 : decode cX5_poursCosts 5 = .ok (.bipush 25, 2) := dk_16 25 (dk_at dksX5_poursCosts_0 5 rfl rfl)
theorem dX5_poursCosts_7 : decode cX5_poursCosts 7 = .ok (.if_icmp .ge 21, 3) := dk_162 0 21 (dk_at dksX5_poursCosts_0 7 rfl rfl)
theorem dX5_poursCosts_10 : decode cX5_poursCosts 10 = .ok (.aload_n 2, 1) := dk_44 (dk_at dksX5_poursCosts_0 10 rfl rfl)
theorem dX5_poursCosts_11 : decode cX5_poursCosts 11 = .ok (.iload_n 3, 1) := dk_29 (dk_at dksX5_poursCosts_0 11 rfl rfl)
theorem dX5_poursCosts_12 : decode cX5_poursCosts 12 = .ok (.iload 4, 2) := dk_21 4 (dk_at dksX5_poursCosts_0 12 rfl rfl)
theorem dX5_poursCosts_14 : decode cX5_poursCosts 14 = .ok (.iadd, 1) := dk_96 (dk_at dksX5_poursCosts_0 14 rfl rfl)
theorem dX5_poursCosts_15 : decode cX5_poursCosts 15 = .ok (.aload_n 0, 1) := dk_42 (dk_at dksX5_poursCosts_0 15 rfl rfl)
theorem dX5_poursCosts_16 : decode cX5_poursCosts 16 = .ok (.iload_n 1, 1) := dk_27 (dk_at dksX5_poursCosts_0 16 rfl rfl)
theorem dX5_poursCosts_17 : decode cX5_poursCosts 17 = .ok (.iload 4, 2) := dk_21 4 (dk_at dksX5_poursCosts_0 17 rfl rfl)
theorem dX5_poursCosts_19 : decode cX5_poursCosts 19 = .ok (.iadd, 1) := dk_96 (dk_at dksX5_poursCosts_0 19 rfl rfl)
theorem dX5_poursCosts_20 : decode cX5_poursCosts 20 = .ok (.laload, 1) := dk_47 (dk_at dksX5_poursCosts_0 20 rfl rfl)
theorem dX5_poursCosts_21 : decode cX5_poursCosts 21 = .ok (.lastore, 1) := dk_80 (dk_at dksX5_poursCosts_0 21 rfl rfl)
theorem dX5_poursCosts_22 : decode cX5_poursCosts 22 = .ok (.iinc 4 1, 3) := dk_132 4 1 (dk_at dksX5_poursCosts_1 0 rfl rfl)
theorem dX5_poursCosts_25 : decode cX5_poursCosts 25 = .ok (.goto (-22), 3) := dk_167 255 234 (dk_at dksX5_poursCosts_1 3 rfl rfl)
theorem dX5_poursCosts_28 : decode cX5_poursCosts 28 = .ok (.return_, 1) := dk_177 (dk_at dksX5_poursCosts_1 6 rfl rfl)
abbrev cX5_towns : ByteArray := prog_17_method_16_code
def yX5_towns : MethodName := ⟨RX5, "towns", "(I)I"⟩
def dkwX5_towns_2 : List UInt8 := [167, 255, 240, 42, 180, 0, 9, 3, 27, 79, 28, 172]
abbrev dktX5_towns_2 : List UInt8 := dkwX5_towns_2 ++ []
def dkwX5_towns_1 : List UInt8 := [180, 0, 9, 3, 46, 61, 3, 62, 29, 16, 10, 162, 0, 16, 42, 180, 0, 9, 29, 3, 79, 132, 3, 1]
abbrev dktX5_towns_1 : List UInt8 := dkwX5_towns_1 ++ dktX5_towns_2
def dkwX5_towns_0 : List UInt8 := [27, 133, 20, 0, 122, 20, 0, 124, 184, 0, 99, 154, 0, 6, 16, 254, 172, 42, 182, 0, 126, 42]
abbrev dktX5_towns_0 : List UInt8 := dkwX5_towns_0 ++ dktX5_towns_1
theorem dksX5_towns_0 : cX5_towns.data.toList.drop 0 = dktX5_towns_0 := by decide +kernel
theorem dksX5_towns_1 : cX5_towns.data.toList.drop 22 = dktX5_towns_1 := dk_seg dksX5_towns_0 22 rfl rfl
theorem dksX5_towns_2 : cX5_towns.data.toList.drop 46 = dktX5_towns_2 := dk_seg dksX5_towns_1 24 rfl rfl
theorem dX5_towns_0 : decode cX5_towns 0 = .ok (.iload_n 1, 1) := dk_27 (dk_at dksX5_towns_0 0 rfl rfl)
theorem dX5_towns_1 : decode cX5_towns 1 = .ok (.i2l, 1) := dk_133 (dk_at dksX5_towns_0 1 rfl rfl)
theorem dX5_towns_2 : decode cX5_towns 2 = .ok (.ldc2_w 122, 3) := dk_20 0 122 (dk_at dksX5_towns_0 2 rfl rfl)
theorem dX5_towns_5 : decode cX5_towns 5 = .ok (.ldc2_w 124, 3) := dk_20 0 124 (dk_at dksX5_towns_0 5 rfl rfl)
theorem dX5_towns_8 : decode cX5_towns 8 = .ok (.invokestatic 99, 3) := dk_184 0 99 (dk_at dksX5_towns_0 8 rfl rfl)
theorem dX5_towns_11 : decode cX5_towns 11 = .ok (.ifCond .ne 6, 3) := dk_154 0 6 (dk_at dksX5_towns_0 11 rfl rfl)
theorem dX5_towns_14 : decode cX5_towns 14 = .ok (.bipush (-2), 2) := dk_16 254 (dk_at dksX5_towns_0 14 rfl rfl)
theorem dX5_towns_16 : decode cX5_towns 16 = .ok (.ireturn, 1) := dk_172 (dk_at dksX5_towns_0 16 rfl rfl)
theorem dX5_towns_17 : decode cX5_towns 17 = .ok (.aload_n 0, 1) := dk_42 (dk_at dksX5_towns_0 17 rfl rfl)
theorem dX5_towns_18 : decode cX5_towns 18 = .ok (.invokevirtual 126, 3) := dk_182 0 126 (dk_at dksX5_towns_0 18 rfl rfl)
theorem dX5_towns_21 : decode cX5_towns 21 = .ok (.aload_n 0, 1) := dk_42 (dk_at dksX5_towns_0 21 rfl rfl)
theorem dX5_towns_22 : decode cX5_towns 22 = .ok (.getfield 9, 3) := dk_180 0 9 (dk_at dksX5_towns_1 0 rfl rfl)
theorem dX5_towns_25 : decode cX5_towns 25 = .ok (.iconst 0, 1) := dk_3 (dk_at dksX5_towns_1 3 rfl rfl)
theorem dX5_towns_26 : decode cX5_towns 26 = .ok (.iaload, 1) := dk_46 (dk_at dksX5_towns_1 4 rfl rfl)
theorem dX5_towns_27 : decode cX5_towns 27 = .ok (.istore_n 2, 1) := dk_61 (dk_at dksX5_towns_1 5 rfl rfl)
theorem dX5_towns_28 : decode cX5_towns 28 = .ok (.iconst 0, 1) := dk_3 (dk_at dksX5_towns_1 6 rfl rfl)
theorem dX5_towns_29 : decode cX5_towns 29 = .ok (.istore_n 3, 1) := dk_62 (dk_at dksX5_towns_1 7 rfl rfl)
theorem dX5_towns_30 : decode cX5_towns 30 = .ok (.iload_n 3, 1) := dk_29 (dk_at dksX5_towns_1 8 rfl rfl)
theorem dX5_towns_31 : decode cX5_towns 31 = .ok (.bipush 10, 2) := dk_16 10 (dk_at dksX5_towns_1 9 rfl rfl)
theorem dX5_towns_33 : decode cX5_towns 33 = .ok (.if_icmp .ge 16, 3) := dk_162 0 16 (dk_at dksX5_towns_1 11 rfl rfl)
theorem dX5_towns_36 : decode cX5_towns 36 = .ok (.aload_n 0, 1) := dk_42 (dk_at dksX5_towns_1 14 rfl rfl)
theorem dX5_towns_37 : decode cX5_towns 37 = .ok (.getfield 9, 3) := dk_180 0 9 (dk_at dksX5_towns_1 15 rfl rfl)
theorem dX5_towns_40 : decode cX5_towns 40 = .ok (.iload_n 3, 1) := dk_29 (dk_at dksX5_towns_1 18 rfl rfl)
theorem dX5_towns_41 : decode cX5_towns 41 = .ok (.iconst 0, 1) := dk_3 (dk_at dksX5_towns_1 19 rfl rfl)
theorem dX5_towns_42 : decode cX5_towns 42 = .ok (.iastore, 1) := dk_79 (dk_at dksX5_towns_1 20 rfl rfl)
theorem dX5_towns_43 : decode cX5_towns 43 = .ok (.iinc 3 1, 3) := dk_132 3 1 (dk_at dksX5_towns_1 21 rfl rfl)
theorem dX5_towns_46 : decode cX5_towns 46 = .ok (.goto (-16), 3) := dk_167 255 240 (dk_at dksX5_towns_2 0 rfl rfl)
theorem dX5_towns_49 : decode cX5_towns 49 = .ok (.aload_n 0, 1) := dk_42 (dk_at dksX5_towns_2 3 rfl rfl)
theorem dX5_towns_50 : decode cX5_towns 50 = .ok (.getfield 9, 3) := dk_180 0 9 (dk_at dksX5_towns_2 4 rfl rfl)
theorem dX5_towns_53 : decode cX5_towns 53 = .ok (.iconst 0, 1) := dk_3 (dk_at dksX5_towns_2 7 rfl rfl)
theorem dX5_towns_54 : decode cX5_towns 54 = .ok (.iload_n 1, 1) := dk_27 (dk_at dksX5_towns_2 8 rfl rfl)
theorem dX5_towns_55 : decode cX5_towns 55 = .ok (.iastore, 1) := dk_79 (dk_at dksX5_towns_2 9 rfl rfl)
theorem dX5_towns_56 : decode cX5_towns 56 = .ok (.iload_n 2, 1) := dk_28 (dk_at dksX5_towns_2 10 rfl rfl)
theorem dX5_towns_57 : decode cX5_towns 57 = .ok (.ireturn, 1) := dk_172 (dk_at dksX5_towns_2 11 rfl rfl)
abbrev cX5_in : ByteArray := prog_17_method_2_code
def yX5_in : MethodName := ⟨RX5, "in", "(JJJ)Z"⟩
def dkwX5_in_0 : List UInt8 := [30, 32, 148, 155, 0, 14, 30, 22, 4, 148, 157, 0, 7, 4, 167, 0, 4, 3, 172]
abbrev dktX5_in_0 : List UInt8 := dkwX5_in_0 ++ []
theorem dksX5_in_0 : cX5_in.data.toList.drop 0 = dktX5_in_0 := by decide +kernel
theorem dX5_in_0 : decode cX5_in 0 = .ok (.lload_n 0, 1) := dk_30 (dk_at dksX5_in_0 0 rfl rfl)
theorem dX5_in_1 : decode cX5_in 1 = .ok (.lload_n 2, 1) := dk_32 (dk_at dksX5_in_0 1 rfl rfl)
theorem dX5_in_2 : decode cX5_in 2 = .ok (.lcmp, 1) := dk_148 (dk_at dksX5_in_0 2 rfl rfl)
theorem dX5_in_3 : decode cX5_in 3 = .ok (.ifCond .lt 14, 3) := dk_155 0 14 (dk_at dksX5_in_0 3 rfl rfl)
theorem dX5_in_6 : decode cX5_in 6 = .ok (.lload_n 0, 1) := dk_30 (dk_at dksX5_in_0 6 rfl rfl)
theorem dX5_in_7 : decode cX5_in 7 = .ok (.lload 4, 2) := dk_22 4 (dk_at dksX5_in_0 7 rfl rfl)
theorem dX5_in_9 : decode cX5_in 9 = .ok (.lcmp, 1) := dk_148 (dk_at dksX5_in_0 9 rfl rfl)
theorem dX5_in_10 : decode cX5_in 10 = .ok (.ifCond .gt 7, 3) := dk_157 0 7 (dk_at dksX5_in_0 10 rfl rfl)
theorem dX5_in_13 : decode cX5_in 13 = .ok (.iconst 1, 1) := dk_4 (dk_at dksX5_in_0 13 rfl rfl)
theorem dX5_in_14 : decode cX5_in 14 = .ok (.goto 4, 3) := dk_167 0 4 (dk_at dksX5_in_0 14 rfl rfl)
theorem dX5_in_17 : decode cX5_in 17 = .ok (.iconst 0, 1) := dk_3 (dk_at dksX5_in_0 17 rfl rfl)
theorem dX5_in_18 : decode cX5_in 18 = .ok (.ireturn, 1) := dk_172 (dk_at dksX5_in_0 18 rfl rfl)
abbrev cX5_keeps : ByteArray := prog_17_method_14_code
def yX5_keeps : MethodName := ⟨RX5, "keeps", "()V"⟩
def dkwX5_keeps_5 : List UInt8 := [180, 0, 110, 4, 96, 181, 0, 110, 177]
abbrev dktX5_keeps_5 : List UInt8 := dkwX5_keeps_5 ++ []
def dkwX5_keeps_4 : List UInt8 := [184, 0, 114, 42, 180, 0, 15, 3, 42, 180, 0, 28, 16, 25, 42, 180, 0, 110, 104, 184, 0, 118, 42, 89]
abbrev dktX5_keeps_4 : List UInt8 := dkwX5_keeps_4 ++ dktX5_keeps_5
def dkwX5_keeps_3 : List UInt8 := [180, 0, 110, 4, 100, 181, 0, 110, 42, 180, 0, 9, 3, 42, 180, 0, 25, 16, 110, 42, 180, 0, 110, 104]
abbrev dktX5_keeps_3 : List UInt8 := dkwX5_keeps_3 ++ dktX5_keeps_4
def dkwX5_keeps_2 : List UInt8 := [42, 180, 0, 28, 27, 42, 180, 0, 28, 27, 16, 25, 96, 47, 80, 132, 1, 1, 167, 255, 231, 42, 89]
abbrev dktX5_keeps_2 : List UInt8 := dkwX5_keeps_2 ++ dktX5_keeps_3
def dkwX5_keeps_1 : List UInt8 := [180, 0, 25, 27, 16, 110, 96, 46, 79, 132, 1, 1, 167, 255, 231, 3, 60, 27, 17, 1, 19, 162, 0, 24]
abbrev dktX5_keeps_1 : List UInt8 := dkwX5_keeps_1 ++ dktX5_keeps_2
def dkwX5_keeps_0 : List UInt8 := [42, 180, 0, 110, 16, 12, 160, 0, 73, 3, 60, 27, 17, 4, 186, 162, 0, 24, 42, 180, 0, 25, 27, 42]
abbrev dktX5_keeps_0 : List UInt8 := dkwX5_keeps_0 ++ dktX5_keeps_1
theorem dksX5_keeps_0 : cX5_keeps.data.toList.drop 0 = dktX5_keeps_0 := by decide +kernel
theorem dksX5_keeps_1 : cX5_keeps.data.toList.drop 24 = dktX5_keeps_1 := dk_seg dksX5_keeps_0 24 rfl rfl
theorem dksX5_keeps_2 : cX5_keeps.data.toList.drop 48 = dktX5_keeps_2 := dk_seg dksX5_keeps_1 24 rfl rfl
theorem dksX5_keeps_3 : cX5_keeps.data.toList.drop 71 = dktX5_keeps_3 := dk_seg dksX5_keeps_2 23 rfl rfl
theorem dksX5_keeps_4 : cX5_keeps.data.toList.drop 95 = dktX5_keeps_4 := dk_seg dksX5_keeps_3 24 rfl rfl
theorem dksX5_keeps_5 : cX5_keeps.data.toList.drop 119 = dktX5_keeps_5 := dk_seg dksX5_keeps_4 24 rfl rfl
theorem dX5_keeps_0 : decode cX5_keeps 0 = .ok (.aload_n 0, 1) := dk_42 (dk_at dksX5_keeps_0 0 rfl rfl)
theorem dX5_keeps_1 : decode cX5_keeps 1 = .ok (.getfield 110, 3) := dk_180 0 110 (dk_at dksX5_keeps_0 1 rfl rfl)
theorem dX5_keeps_4 : decode cX5_keeps 4 = .ok (.bipush 12, 2) := dk_16 12 (dk_at dksX5_keeps_0 4 rfl rfl)
theorem dX5_keeps_6 : decode cX5_keeps 6 = .ok (.if_icmp .ne 73, 3) := dk_160 0 73 (dk_at dksX5_keeps_0 6 rfl rfl)
theorem dX5_keeps_9 : decode cX5_keeps 9 = .ok (.iconst 0, 1) := dk_3 (dk_at dksX5_keeps_0 9 rfl rfl)
theorem dX5_keeps_10 : decode cX5_keeps 10 = .ok (.istore_n 1, 1) := dk_60 (dk_at dksX5_keeps_0 10 rfl rfl)
theorem dX5_keeps_11 : decode cX5_keeps 11 = .ok (.iload_n 1, 1) := dk_27 (dk_at dksX5_keeps_0 11 rfl rfl)
theorem dX5_keeps_12 : decode cX5_keeps 12 = .ok (.sipush 1210, 3) := dk_17 4 186 (dk_at dksX5_keeps_0 12 rfl rfl)
theorem dX5_keeps_15 : decode cX5_keeps 15 = .ok (.if_icmp .ge 24, 3) := dk_162 0 24 (dk_at dksX5_keeps_0 15 rfl rfl)
theorem dX5_keeps_18 : decode cX5_keeps 18 = .ok (.aload_n 0, 1) := dk_42 (dk_at dksX5_keeps_0 18 rfl rfl)
theorem dX5_keeps_19 : decode cX5_keeps 19 = .ok (.getfield 25, 3) := dk_180 0 25 (dk_at dksX5_keeps_0 19 rfl rfl)
theorem dX5_keeps_22 : decode cX5_keeps 22 = .ok (.iload_n 1, 1) := dk_27 (dk_at dksX5_keeps_0 22 rfl rfl)
theorem dX5_keeps_23 : decode cX5_keeps 23 = .ok (.aload_n 0, 1) := dk_42 (dk_at dksX5_keeps_0 23 rfl rfl)
theorem dX5_keeps_24 : decode cX5_keeps 24 = .ok (.getfield 25, 3) := dk_180 0 25 (dk_at dksX5_keeps_1 0 rfl rfl)
theorem dX5_keeps_27 : decode cX5_keeps 27 = .ok (.iload_n 1, 1) := dk_27 (dk_at dksX5_keeps_1 3 rfl rfl)
theorem dX5_keeps_28 : decode cX5_keeps 28 = .ok (.bipush 110, 2) := dk_16 110 (dk_at dksX5_keeps_1 4 rfl rfl)
theorem dX5_keeps_30 : decode cX5_keeps 30 = .ok (.iadd, 1) := dk_96 (dk_at dksX5_keeps_1 6 rfl rfl)
theorem dX5_keeps_31 : decode cX5_keeps 31 = .ok (.iaload, 1) := dk_46 (dk_at dksX5_keeps_1 7 rfl rfl)
theorem dX5_keeps_32 : decode cX5_keeps 32 = .ok (.iastore, 1) := dk_79 (dk_at dksX5_keeps_1 8 rfl rfl)
theorem dX5_keeps_33 : decode cX5_keeps 33 = .ok (.iinc 1 1, 3) := dk_132 1 1 (dk_at dksX5_keeps_1 9 rfl rfl)
theorem dX5_keeps_36 : decode cX5_keeps 36 = .ok (.goto (-25), 3) := dk_167 255 231 (dk_at dksX5_keeps_1 12 rfl rfl)
theorem dX5_keeps_39 : decode cX5_keeps 39 = .ok (.iconst 0, 1) := dk_3 (dk_at dksX5_keeps_1 15 rfl rfl)
theorem dX5_keeps_40 : decode cX5_keeps 40 = .ok (.istore_n 1, 1) := dk_60 (dk_at dksX5_keeps_1 16 rfl rfl)
theorem dX5_keeps_41 : decode cX5_keeps 41 = .ok (.iload_n 1, 1) := dk_27 (dk_at dksX5_keeps_1 17 rfl rfl)
theorem dX5_keeps_42 : decode cX5_keeps 42 = .ok (.sipush 275, 3) := dk_17 1 19 (dk_at dksX5_keeps_1 18 rfl rfl)
theorem dX5_keeps_45 : decode cX5_keeps 45 = .ok (.if_icmp .ge 24, 3) := dk_162 0 24 (dk_at dksX5_keeps_1 21 rfl rfl)
theorem dX5_keeps_48 : decode cX5_keeps 48 = .ok (.aload_n 0, 1) := dk_42 (dk_at dksX5_keeps_2 0 rfl rfl)
theorem dX5_keeps_49 : decode cX5_keeps 49 = .ok (.getfield 28, 3) := dk_180 0 28 (dk_at dksX5_keeps_2 1 rfl rfl)
theorem dX5_keeps_52 : decode cX5_keeps 52 = .ok (.iload_n 1, 1) := dk_27 (dk_at dksX5_keeps_2 4 rfl rfl)
theorem dX5_keeps_53 : decode cX5_keeps 53 = .ok (.aload_n 0, 1) := dk_42 (dk_at dksX5_keeps_2 5 rfl rfl)
theorem dX5_keeps_54 : decode cX5_keeps 54 = .ok (.getfield 28, 3) := dk_180 0 28 (dk_at dksX5_keeps_2 6 rfl rfl)
theorem dX5_keeps_57 : decode cX5_keeps 57 = .ok (.iload_n 1, 1) := dk_27 (dk_at dksX5_keeps_2 9 rfl rfl)
theorem dX5_keeps_58 : decode cX5_keeps 58 = .ok (.bipush 25, 2) := dk_16 25 (dk_at dksX5_keeps_2 10 rfl rfl)
theorem dX5_keeps_60 : decode cX5_keeps 60 = .ok (.iadd, 1) := dk_96 (dk_at dksX5_keeps_2 12 rfl rfl)
theorem dX5_keeps_61 : decode cX5_keeps 61 = .ok (.laload, 1) := dk_47 (dk_at dksX5_keeps_2 13 rfl rfl)
theorem dX5_keeps_62 : decode cX5_keeps 62 = .ok (.lastore, 1) := dk_80 (dk_at dksX5_keeps_2 14 rfl rfl)
theorem dX5_keeps_63 : decode cX5_keeps 63 = .ok (.iinc 1 1, 3) := dk_132 1 1 (dk_at dksX5_keeps_2 15 rfl rfl)
theorem dX5_keeps_66 : decode cX5_keeps 66 = .ok (.goto (-25), 3) := dk_167 255 231 (dk_at dksX5_keeps_2 18 rfl rfl)
theorem dX5_keeps_69 : decode cX5_keeps 69 = .ok (.aload_n 0, 1) := dk_42 (dk_at dksX5_keeps_2 21 rfl rfl)
theorem dX5_keeps_70 : decode cX5_keeps 70 = .ok (.dup, 1) := dk_89 (dk_at dksX5_keeps_2 22 rfl rfl)
theorem dX5_keeps_71 : decode cX5_keeps 71 = .ok (.getfield 110, 3) := dk_180 0 110 (dk_at dksX5_keeps_3 0 rfl rfl)
theorem dX5_keeps_74 : decode cX5_keeps 74 = .ok (.iconst 1, 1) := dk_4 (dk_at dksX5_keeps_3 3 rfl rfl)
theorem dX5_keeps_75 : decode cX5_keeps 75 = .ok (.isub, 1) := dk_100 (dk_at dksX5_keeps_3 4 rfl rfl)
theorem dX5_keeps_76 : decode cX5_keeps 76 = .ok (.putfield 110, 3) := dk_181 0 110 (dk_at dksX5_keeps_3 5 rfl rfl)
theorem dX5_keeps_79 : decode cX5_keeps 79 = .ok (.aload_n 0, 1) := dk_42 (dk_at dksX5_keeps_3 8 rfl rfl)
theorem dX5_keeps_80 : decode cX5_keeps 80 = .ok (.getfield 9, 3) := dk_180 0 9 (dk_at dksX5_keeps_3 9 rfl rfl)
theorem dX5_keeps_83 : decode cX5_keeps 83 = .ok (.iconst 0, 1) := dk_3 (dk_at dksX5_keeps_3 12 rfl rfl)
theorem dX5_keeps_84 : decode cX5_keeps 84 = .ok (.aload_n 0, 1) := dk_42 (dk_at dksX5_keeps_3 13 rfl rfl)
theorem dX5_keeps_85 : decode cX5_keeps 85 = .ok (.getfield 25, 3) := dk_180 0 25 (dk_at dksX5_keeps_3 14 rfl rfl)
theorem dX5_keeps_88 : decode cX5_keeps 88 = .ok (.bipush 110, 2) := dk_16 110 (dk_at dksX5_keeps_3 17 rfl rfl)
theorem dX5_keeps_90 : decode cX5_keeps 90 = .ok (.aload_n 0, 1) := dk_42 (dk_at dksX5_keeps_3 19 rfl rfl)
theorem dX5_keeps_91 : decode cX5_keeps 91 = .ok (.getfield 110, 3) := dk_180 0 110 (dk_at dksX5_keeps_3 20 rfl rfl)
theorem dX5_keeps_94 : decode cX5_keeps 94 = .ok (.imul, 1) := dk_104 (dk_at dksX5_keeps_3 23 rfl rfl)
theorem dX5_keeps_95 : decode cX5_keeps 95 = .ok (.invokestatic 114, 3) := dk_184 0 114 (dk_at dksX5_keeps_4 0 rfl rfl)
theorem dX5_keeps_98 : decode cX5_keeps 98 = .ok (.aload_n 0, 1) := dk_42 (dk_at dksX5_keeps_4 3 rfl rfl)
theorem dX5_keeps_99 : decode cX5_keeps 99 = .ok (.getfield 15, 3) := dk_180 0 15 (dk_at dksX5_keeps_4 4 rfl rfl)
theorem dX5_keeps_102 : decode cX5_keeps 102 = .ok (.iconst 0, 1) := dk_3 (dk_at dksX5_keeps_4 7 rfl rfl)
theorem dX5_keeps_103 : decode cX5_keeps 103 = .ok (.aload_n 0, 1) := dk_42 (dk_at dksX5_keeps_4 8 rfl rfl)
theorem dX5_keeps_104 : decode cX5_keeps 104 = .ok (.getfield 28, 3) := dk_180 0 28 (dk_at dksX5_keeps_4 9 rfl rfl)
theorem dX5_keeps_107 : decode cX5_keeps 107 = .ok (.bipush 25, 2) := dk_16 25 (dk_at dksX5_keeps_4 12 rfl rfl)
theorem dX5_keeps_109 : decode cX5_keeps 109 = .ok (.aload_n 0, 1) := dk_42 (dk_at dksX5_keeps_4 14 rfl rfl)
theorem dX5_keeps_110 : decode cX5_keeps 110 = .ok (.getfield 110, 3) := dk_180 0 110 (dk_at dksX5_keeps_4 15 rfl rfl)
theorem dX5_keeps_113 : decode cX5_keeps 113 = .ok (.imul, 1) := dk_104 (dk_at dksX5_keeps_4 18 rfl rfl)
theorem dX5_keeps_114 : decode cX5_keeps 114 = .ok (.invokestatic 118, 3) := dk_184 0 118 (dk_at dksX5_keeps_4 19 rfl rfl)
theorem dX5_keeps_117 : decode cX5_keeps 117 = .ok (.aload_n 0, 1) := dk_42 (dk_at dksX5_keeps_4 22 rfl rfl)
theorem dX5_keeps_118 : decode cX5_keeps 118 = .ok (.dup, 1) := dk_89 (dk_at dksX5_keeps_4 23 rfl rfl)
theorem dX5_keeps_119 : decode cX5_keeps 119 = .ok (.getfield 110, 3) := dk_180 0 110 (dk_at dksX5_keeps_5 0 rfl rfl)
theorem dX5_keeps_122 : decode cX5_keeps 122 = .ok (.iconst 1, 1) := dk_4 (dk_at dksX5_keeps_5 3 rfl rfl)
theorem dX5_keeps_123 : decode cX5_keeps 123 = .ok (.iadd, 1) := dk_96 (dk_at dksX5_keeps_5 4 rfl rfl)
theorem dX5_keeps_124 : decode cX5_keeps 124 = .ok (.putfield 110, 3) := dk_181 0 110 (dk_at dksX5_keeps_5 5 rfl rfl)
theorem dX5_keeps_127 : decode cX5_keeps 127 = .ok (.return_, 1) := dk_177 (dk_at dksX5_keeps_5 8 rfl rfl)
abbrev cX5_supply : ByteArray := prog_17_method_17_code
def yX5_supply : MethodName := ⟨RX5, "supply", "(II)I"⟩
def dkwX5_supply_1 : List UInt8 := [16, 254, 172, 42, 182, 0, 126, 42, 180, 0, 9, 5, 27, 96, 28, 79, 4, 172]
abbrev dktX5_supply_1 : List UInt8 := dkwX5_supply_1 ++ []
def dkwX5_supply_0 : List UInt8 := [42, 27, 182, 0, 103, 154, 0, 5, 2, 172, 28, 133, 20, 0, 129, 20, 0, 131, 184, 0, 99, 154, 0, 6]
abbrev dktX5_supply_0 : List UInt8 := dkwX5_supply_0 ++ dktX5_supply_1
theorem dksX5_supply_0 : cX5_supply.data.toList.drop 0 = dktX5_supply_0 := by decide +kernel
theorem dksX5_supply_1 : cX5_supply.data.toList.drop 24 = dktX5_supply_1 := dk_seg dksX5_supply_0 24 rfl rfl
theorem dX5_supply_0 : decode cX5_supply 0 = .ok (.aload_n 0, 1) := dk_42 (dk_at dksX5_supply_0 0 rfl rfl)
theorem dX5_supply_1 : decode cX5_supply 1 = .ok (.iload_n 1, 1) := dk_27 (dk_at dksX5_supply_0 1 rfl rfl)
theorem dX5_supply_2 : decode cX5_supply 2 = .ok (.invokevirtual 103, 3) := dk_182 0 103 (dk_at dksX5_supply_0 2 rfl rfl)
theorem dX5_supply_5 : decode cX5_supply 5 = .ok (.ifCond .ne 5, 3) := dk_154 0 5 (dk_at dksX5_supply_0 5 rfl rfl)
theorem dX5_supply_8 : decode cX5_supply 8 = .ok (.iconst (-1), 1) := dk_2 (dk_at dksX5_supply_0 8 rfl rfl)
theorem dX5_supply_9 : decode cX5_supply 9 = .ok (.ireturn, 1) := dk_172 (dk_at dksX5_supply_0 9 rfl rfl)
theorem dX5_supply_10 : decode cX5_supply 10 = .ok (.iload_n 2, 1) := dk_28 (dk_at dksX5_supply_0 10 rfl rfl)
theorem dX5_supply_11 : decode cX5_supply 11 = .ok (.i2l, 1) := dk_133 (dk_at dksX5_supply_0 11 rfl rfl)
theorem dX5_supply_12 : decode cX5_supply 12 = .ok (.ldc2_w 129, 3) := dk_20 0 129 (dk_at dksX5_supply_0 12 rfl rfl)
theorem dX5_supply_15 : decode cX5_supply 15 = .ok (.ldc2_w 131, 3) := dk_20 0 131 (dk_at dksX5_supply_0 15 rfl rfl)
theorem dX5_supply_18 : decode cX5_supply 18 = .ok (.invokestatic 99, 3) := dk_184 0 99 (dk_at dksX5_supply_0 18 rfl rfl)
theorem dX5_supply_21 : decode cX5_supply 21 = .ok (.ifCond .ne 6, 3) := dk_154 0 6 (dk_at dksX5_supply_0 21 rfl rfl)
theorem dX5_supply_24 : decode cX5_supply 24 = .ok (.bipush (-2), 2) := dk_16 254 (dk_at dksX5_supply_1 0 rfl rfl)
theorem dX5_supply_26 : decode cX5_supply 26 = .ok (.ireturn, 1) := dk_172 (dk_at dksX5_supply_1 2 rfl rfl)
theorem dX5_supply_27 : decode cX5_supply 27 = .ok (.aload_n 0, 1) := dk_42 (dk_at dksX5_supply_1 3 rfl rfl)
theorem dX5_supply_28 : decode cX5_supply 28 = .ok (.invokevirtual 126, 3) := dk_182 0 126 (dk_at dksX5_supply_1 4 rfl rfl)
theorem dX5_supply_31 : decode cX5_supply 31 = .ok (.aload_n 0, 1) := dk_42 (dk_at dksX5_supply_1 7 rfl rfl)
theorem dX5_supply_32 : decode cX5_supply 32 = .ok (.getfield 9, 3) := dk_180 0 9 (dk_at dksX5_supply_1 8 rfl rfl)
theorem dX5_supply_35 : decode cX5_supply 35 = .ok (.iconst 2, 1) := dk_5 (dk_at dksX5_supply_1 11 rfl rfl)
theorem dX5_supply_36 : decode cX5_supply 36 = .ok (.iload_n 1, 1) := dk_27 (dk_at dksX5_supply_1 12 rfl rfl)
theorem dX5_supply_37 : decode cX5_supply 37 = .ok (.iadd, 1) := dk_96 (dk_at dksX5_supply_1 13 rfl rfl)
theorem dX5_supply_38 : decode cX5_supply 38 = .ok (.iload_n 2, 1) := dk_28 (dk_at dksX5_supply_1 14 rfl rfl)
theorem dX5_supply_39 : decode cX5_supply 39 = .ok (.iastore, 1) := dk_79 (dk_at dksX5_supply_1 15 rfl rfl)
theorem dX5_supply_40 : decode cX5_supply 40 = .ok (.iconst 1, 1) := dk_4 (dk_at dksX5_supply_1 16 rfl rfl)
theorem dX5_supply_41 : decode cX5_supply 41 = .ok (.ireturn, 1) := dk_172 (dk_at dksX5_supply_1 17 rfl rfl)
abbrev cX5_isTown : ByteArray := prog_17_method_5_code
def yX5_isTown : MethodName := ⟨RX5, "isTown", "(I)Z"⟩
def dkwX5_isTown_0 : List UInt8 := [27, 133, 9, 42, 182, 0, 95, 4, 100, 133, 184, 0, 99, 172]
abbrev dktX5_isTown_0 : List UInt8 := dkwX5_isTown_0 ++ []
theorem dksX5_isTown_0 : cX5_isTown.data.toList.drop 0 = dktX5_isTown_0 := by decide +kernel
theorem dX5_isTown_0 : decode cX5_isTown 0 = .ok (.iload_n 1, 1) := dk_27 (dk_at dksX5_isTown_0 0 rfl rfl)
theorem dX5_isTown_1 : decode cX5_isTown 1 = .ok (.i2l, 1) := dk_133 (dk_at dksX5_isTown_0 1 rfl rfl)
theorem dX5_isTown_2 : decode cX5_isTown 2 = .ok (.lconst 0, 1) := dk_9 (dk_at dksX5_isTown_0 2 rfl rfl)
theorem dX5_isTown_3 : decode cX5_isTown 3 = .ok (.aload_n 0, 1) := dk_42 (dk_at dksX5_isTown_0 3 rfl rfl)
theorem dX5_isTown_4 : decode cX5_isTown 4 = .ok (.invokevirtual 95, 3) := dk_182 0 95 (dk_at dksX5_isTown_0 4 rfl rfl)
theorem dX5_isTown_7 : decode cX5_isTown 7 = .ok (.iconst 1, 1) := dk_4 (dk_at dksX5_isTown_0 7 rfl rfl)
theorem dX5_isTown_8 : decode cX5_isTown 8 = .ok (.isub, 1) := dk_100 (dk_at dksX5_isTown_0 8 rfl rfl)
theorem dX5_isTown_9 : decode cX5_isTown 9 = .ok (.i2l, 1) := dk_133 (dk_at dksX5_isTown_0 9 rfl rfl)
theorem dX5_isTown_10 : decode cX5_isTown 10 = .ok (.invokestatic 99, 3) := dk_184 0 99 (dk_at dksX5_isTown_0 10 rfl rfl)
theorem dX5_isTown_13 : decode cX5_isTown 13 = .ok (.ireturn, 1) := dk_172 (dk_at dksX5_isTown_0 13 rfl rfl)
abbrev cX5_towns_2 : ByteArray := prog_17_method_3_code
def yX5_towns_2 : MethodName := ⟨RX5, "towns", "()I"⟩
def dkwX5_towns_2_0 : List UInt8 := [42, 180, 0, 9, 3, 46, 172]
abbrev dktX5_towns_2_0 : List UInt8 := dkwX5_towns_2_0 ++ []
theorem dksX5_towns_2_0 : cX5_towns_2.data.toList.drop 0 = dktX5_towns_2_0 := by decide +kernel
theorem dX5_towns_2_0 : decode cX5_towns_2 0 = .ok (.aload_n 0, 1) := dk_42 (dk_at dksX5_towns_2_0 0 rfl rfl)
theorem dX5_towns_2_1 : decode cX5_towns_2 1 = .ok (.getfield 9, 3) := dk_180 0 9 (dk_at dksX5_towns_2_0 1 rfl rfl)
theorem dX5_towns_2_4 : decode cX5_towns_2 4 = .ok (.iconst 0, 1) := dk_3 (dk_at dksX5_towns_2_0 4 rfl rfl)
theorem dX5_towns_2_5 : decode cX5_towns_2 5 = .ok (.iaload, 1) := dk_46 (dk_at dksX5_towns_2_0 5 rfl rfl)
theorem dX5_towns_2_6 : decode cX5_towns_2 6 = .ok (.ireturn, 1) := dk_172 (dk_at dksX5_towns_2_0 6 rfl rfl)
abbrev cX5_road : ByteArray := prog_17_method_20_code
def yX5_road : MethodName := ⟨RX5, "road", "(IIIIJ)I"⟩
def dkwX5_road_2 : List UInt8 := [46, 91, 4, 96, 79, 27, 28, 29, 21, 4, 22, 5, 182, 0, 145, 42, 180, 0, 9, 4, 46, 4, 100, 172]
abbrev dktX5_road_2 : List UInt8 := dkwX5_road_2 ++ []
def dkwX5_road_1 : List UInt8 := [172, 42, 182, 0, 107, 16, 24, 160, 0, 6, 16, 252, 172, 42, 182, 0, 126, 42, 42, 180, 0, 9, 4, 92]
abbrev dktX5_road_1 : List UInt8 := dkwX5_road_1 ++ dktX5_road_2
def dkwX5_road_0 : List UInt8 := [42, 27, 28, 182, 0, 137, 154, 0, 5, 2, 172, 29, 21, 4, 22, 5, 184, 0, 141, 154, 0, 6, 16, 254]
abbrev dktX5_road_0 : List UInt8 := dkwX5_road_0 ++ dktX5_road_1
theorem dksX5_road_0 : cX5_road.data.toList.drop 0 = dktX5_road_0 := by decide +kernel
theorem dksX5_road_1 : cX5_road.data.toList.drop 24 = dktX5_road_1 := dk_seg dksX5_road_0 24 rfl rfl
theorem dksX5_road_2 : cX5_road.data.toList.drop 48 = dktX5_road_2 := dk_seg dksX5_road_1 24 rfl rfl
theorem dX5_road_0 : decode cX5_road 0 = .ok (.aload_n 0, 1) := dk_42 (dk_at dksX5_road_0 0 rfl rfl)
theorem dX5_road_1 : decode cX5_road 1 = .ok (.iload_n 1, 1) := dk_27 (dk_at dksX5_road_0 1 rfl rfl)
theorem dX5_road_2 : decode cX5_road 2 = .ok (.iload_n 2, 1) := dk_28 (dk_at dksX5_road_0 2 rfl rfl)
theorem dX5_road_3 : decode cX5_road 3 = .ok (.invokevirtual 137, 3) := dk_182 0 137 (dk_at dksX5_road_0 3 rfl rfl)
theorem dX5_road_6 : decode cX5_road 6 = .ok (.ifCond .ne 5, 3) := dk_154 0 5 (dk_at dksX5_road_0 6 rfl rfl)
theorem dX5_road_9 : decode cX5_road 9 = .ok (.iconst (-1), 1) := dk_2 (dk_at dksX5_road_0 9 rfl rfl)
theorem dX5_road_10 : decode cX5_road 10 = .ok (.ireturn, 1) := dk_172 (dk_at dksX5_road_0 10 rfl rfl)
theorem dX5_road_11 : decode cX5_road 11 = .ok (.iload_n 3, 1) := dk_29 (dk_at dksX5_road_0 11 rfl rfl)
theorem dX5_road_12 : decode cX5_road 12 = .ok (.iload 4, 2) := dk_21 4 (dk_at dksX5_road_0 12 rfl rfl)
theorem dX5_road_14 : decode cX5_road 14 = .ok (.lload 5, 2) := dk_22 5 (dk_at dksX5_road_0 14 rfl rfl)
theorem dX5_road_16 : decode cX5_road 16 = .ok (.invokestatic 141, 3) := dk_184 0 141 (dk_at dksX5_road_0 16 rfl rfl)
theorem dX5_road_19 : decode cX5_road 19 = .ok (.ifCond .ne 6, 3) := dk_154 0 6 (dk_at dksX5_road_0 19 rfl rfl)
theorem dX5_road_22 : decode cX5_road 22 = .ok (.bipush (-2), 2) := dk_16 254 (dk_at dksX5_road_0 22 rfl rfl)
theorem dX5_road_24 : decode cX5_road 24 = .ok (.ireturn, 1) := dk_172 (dk_at dksX5_road_1 0 rfl rfl)
theorem dX5_road_25 : decode cX5_road 25 = .ok (.aload_n 0, 1) := dk_42 (dk_at dksX5_road_1 1 rfl rfl)
theorem dX5_road_26 : decode cX5_road 26 = .ok (.invokevirtual 107, 3) := dk_182 0 107 (dk_at dksX5_road_1 2 rfl rfl)
theorem dX5_road_29 : decode cX5_road 29 = .ok (.bipush 24, 2) := dk_16 24 (dk_at dksX5_road_1 5 rfl rfl)
theorem dX5_road_31 : decode cX5_road 31 = .ok (.if_icmp .ne 6, 3) := dk_160 0 6 (dk_at dksX5_road_1 7 rfl rfl)
theorem dX5_road_34 : decode cX5_road 34 = .ok (.bipush (-4), 2) := dk_16 252 (dk_at dksX5_road_1 10 rfl rfl)
theorem dX5_road_36 : decode cX5_road 36 = .ok (.ireturn, 1) := dk_172 (dk_at dksX5_road_1 12 rfl rfl)
theorem dX5_road_37 : decode cX5_road 37 = .ok (.aload_n 0, 1) := dk_42 (dk_at dksX5_road_1 13 rfl rfl)
theorem dX5_road_38 : decode cX5_road 38 = .ok (.invokevirtual 126, 3) := dk_182 0 126 (dk_at dksX5_road_1 14 rfl rfl)
theorem dX5_road_41 : decode cX5_road 41 = .ok (.aload_n 0, 1) := dk_42 (dk_at dksX5_road_1 17 rfl rfl)
theorem dX5_road_42 : decode cX5_road 42 = .ok (.aload_n 0, 1) := dk_42 (dk_at dksX5_road_1 18 rfl rfl)
theorem dX5_road_43 : decode cX5_road 43 = .ok (.getfield 9, 3) := dk_180 0 9 (dk_at dksX5_road_1 19 rfl rfl)
theorem dX5_road_46 : decode cX5_road 46 = .ok (.iconst 1, 1) := dk_4 (dk_at dksX5_road_1 22 rfl rfl)
theorem dX5_road_47 : decode cX5_road 47 = .ok (.dup2, 1) := dk_92 (dk_at dksX5_road_1 23 rfl rfl)
theorem dX5_road_48 : decode cX5_road 48 = .ok (.iaload, 1) := dk_46 (dk_at dksX5_road_2 0 rfl rfl)
theorem dX5_road_49 : decode cX5_road 49 = .ok (.dup_x2, 1) := dk_91 (dk_at dksX5_road_2 1 rfl rfl)
theorem dX5_road_50 : decode cX5_road 50 = .ok (.iconst 1, 1) := dk_4 (dk_at dksX5_road_2 2 rfl rfl)
theorem dX5_road_51 : decode cX5_road 51 = .ok (.iadd, 1) := dk_96 (dk_at dksX5_road_2 3 rfl rfl)
theorem dX5_road_52 : decode cX5_road 52 = .ok (.iastore, 1) := dk_79 (dk_at dksX5_road_2 4 rfl rfl)
theorem dX5_road_53 : decode cX5_road 53 = .ok (.iload_n 1, 1) := dk_27 (dk_at dksX5_road_2 5 rfl rfl)
theorem dX5_road_54 : decode cX5_road 54 = .ok (.iload_n 2, 1) := dk_28 (dk_at dksX5_road_2 6 rfl rfl)
theorem dX5_road_55 : decode cX5_road 55 = .ok (.iload_n 3, 1) := dk_29 (dk_at dksX5_road_2 7 rfl rfl)
theorem dX5_road_56 : decode cX5_road 56 = .ok (.iload 4, 2) := dk_21 4 (dk_at dksX5_road_2 8 rfl rfl)
theorem dX5_road_58 : decode cX5_road 58 = .ok (.lload 5, 2) := dk_22 5 (dk_at dksX5_road_2 10 rfl rfl)
theorem dX5_road_60 : decode cX5_road 60 = .ok (.invokevirtual 145, 3) := dk_182 0 145 (dk_at dksX5_road_2 12 rfl rfl)
theorem dX5_road_63 : decode cX5_road 63 = .ok (.aload_n 0, 1) := dk_42 (dk_at dksX5_road_2 15 rfl rfl)
theorem dX5_road_64 : decode cX5_road 64 = .ok (.getfield 9, 3) := dk_180 0 9 (dk_at dksX5_road_2 16 rfl rfl)
theorem dX5_road_67 : decode cX5_road 67 = .ok (.iconst 1, 1) := dk_4 (dk_at dksX5_road_2 19 rfl rfl)
theorem dX5_road_68 : decode cX5_road 68 = .ok (.iaload, 1) := dk_46 (dk_at dksX5_road_2 20 rfl rfl)
theorem dX5_road_69 : decode cX5_road 69 = .ok (.iconst 1, 1) := dk_4 (dk_at dksX5_road_2 21 rfl rfl)
theorem dX5_road_70 : decode cX5_road 70 = .ok (.isub, 1) := dk_100 (dk_at dksX5_road_2 22 rfl rfl)
theorem dX5_road_71 : decode cX5_road 71 = .ok (.ireturn, 1) := dk_172 (dk_at dksX5_road_2 23 rfl rfl)
abbrev cX5_areTwo : ByteArray := prog_17_method_6_code
def yX5_areTwo : MethodName := ⟨RX5, "areTwo", "(II)Z"⟩
def dkwX5_areTwo_1 : List UInt8 := [167, 0, 4, 3, 172]
abbrev dktX5_areTwo_1 : List UInt8 := dkwX5_areTwo_1 ++ []
def dkwX5_areTwo_0 : List UInt8 := [42, 27, 182, 0, 103, 153, 0, 20, 42, 28, 182, 0, 103, 153, 0, 12, 27, 28, 159, 0, 7, 4]
abbrev dktX5_areTwo_0 : List UInt8 := dkwX5_areTwo_0 ++ dktX5_areTwo_1
theorem dksX5_areTwo_0 : cX5_areTwo.data.toList.drop 0 = dktX5_areTwo_0 := by decide +kernel
theorem dksX5_areTwo_1 : cX5_areTwo.data.toList.drop 22 = dktX5_areTwo_1 := dk_seg dksX5_areTwo_0 22 rfl rfl
theorem dX5_areTwo_0 : decode cX5_areTwo 0 = .ok (.aload_n 0, 1) := dk_42 (dk_at dksX5_areTwo_0 0 rfl rfl)
theorem dX5_areTwo_1 : decode cX5_areTwo 1 = .ok (.iload_n 1, 1) := dk_27 (dk_at dksX5_areTwo_0 1 rfl rfl)
theorem dX5_areTwo_2 : decode cX5_areTwo 2 = .ok (.invokevirtual 103, 3) := dk_182 0 103 (dk_at dksX5_areTwo_0 2 rfl rfl)
theorem dX5_areTwo_5 : decode cX5_areTwo 5 = .ok (.ifCond .eq 20, 3) := dk_153 0 20 (dk_at dksX5_areTwo_0 5 rfl rfl)
theorem dX5_areTwo_8 : decode cX5_areTwo 8 = .ok (.aload_n 0, 1) := dk_42 (dk_at dksX5_areTwo_0 8 rfl rfl)
theorem dX5_areTwo_9 : decode cX5_areTwo 9 = .ok (.iload_n 2, 1) := dk_28 (dk_at dksX5_areTwo_0 9 rfl rfl)
theorem dX5_areTwo_10 : decode cX5_areTwo 10 = .ok (.invokevirtual 103, 3) := dk_182 0 103 (dk_at dksX5_areTwo_0 10 rfl rfl)
theorem dX5_areTwo_13 : decode cX5_areTwo 13 = .ok (.ifCond .eq 12, 3) := dk_153 0 12 (dk_at dksX5_areTwo_0 13 rfl rfl)
theorem dX5_areTwo_16 : decode cX5_areTwo 16 = .ok (.iload_n 1, 1) := dk_27 (dk_at dksX5_areTwo_0 16 rfl rfl)
theorem dX5_areTwo_17 : decode cX5_areTwo 17 = .ok (.iload_n 2, 1) := dk_28 (dk_at dksX5_areTwo_0 17 rfl rfl)
theorem dX5_areTwo_18 : decode cX5_areTwo 18 = .ok (.if_icmp .eq 7, 3) := dk_159 0 7 (dk_at dksX5_areTwo_0 18 rfl rfl)
theorem dX5_areTwo_21 : decode cX5_areTwo 21 = .ok (.iconst 1, 1) := dk_4 (dk_at dksX5_areTwo_0 21 rfl rfl)
theorem dX5_areTwo_22 : decode cX5_areTwo 22 = .ok (.goto 4, 3) := dk_167 0 4 (dk_at dksX5_areTwo_1 0 rfl rfl)
theorem dX5_areTwo_25 : decode cX5_areTwo 25 = .ok (.iconst 0, 1) := dk_3 (dk_at dksX5_areTwo_1 3 rfl rfl)
theorem dX5_areTwo_26 : decode cX5_areTwo 26 = .ok (.ireturn, 1) := dk_172 (dk_at dksX5_areTwo_1 4 rfl rfl)
abbrev cX5_areBounds : ByteArray := prog_17_method_18_code
def yX5_areBounds : MethodName := ⟨RX5, "areBounds", "(IIJ)Z"⟩
def dkwX5_areBounds_1 : List UInt8 := [153, 0, 20, 32, 20, 0, 133, 20, 0, 135, 184, 0, 99, 153, 0, 7, 4, 167, 0, 4, 3, 172]
abbrev dktX5_areBounds_1 : List UInt8 := dkwX5_areBounds_1 ++ []
def dkwX5_areBounds_0 : List UInt8 := [26, 133, 9, 20, 0, 131, 184, 0, 99, 153, 0, 33, 27, 133, 26, 133, 20, 0, 131, 184, 0, 99]
abbrev dktX5_areBounds_0 : List UInt8 := dkwX5_areBounds_0 ++ dktX5_areBounds_1
theorem dksX5_areBounds_0 : cX5_areBounds.data.toList.drop 0 = dktX5_areBounds_0 := by decide +kernel
theorem dksX5_areBounds_1 : cX5_areBounds.data.toList.drop 22 = dktX5_areBounds_1 := dk_seg dksX5_areBounds_0 22 rfl rfl
theorem dX5_areBounds_0 : decode cX5_areBounds 0 = .ok (.iload_n 0, 1) := dk_26 (dk_at dksX5_areBounds_0 0 rfl rfl)
theorem dX5_areBounds_1 : decode cX5_areBounds 1 = .ok (.i2l, 1) := dk_133 (dk_at dksX5_areBounds_0 1 rfl rfl)
theorem dX5_areBounds_2 : decode cX5_areBounds 2 = .ok (.lconst 0, 1) := dk_9 (dk_at dksX5_areBounds_0 2 rfl rfl)
theorem dX5_areBounds_3 : decode cX5_areBounds 3 = .ok (.ldc2_w 131, 3) := dk_20 0 131 (dk_at dksX5_areBounds_0 3 rfl rfl)
theorem dX5_areBounds_6 : decode cX5_areBounds 6 = .ok (.invokestatic 99, 3) := dk_184 0 99 (dk_at dksX5_areBounds_0 6 rfl rfl)
theorem dX5_areBounds_9 : decode cX5_areBounds 9 = .ok (.ifCond .eq 33, 3) := dk_153 0 33 (dk_at dksX5_areBounds_0 9 rfl rfl)
theorem dX5_areBounds_12 : decode cX5_areBounds 12 = .ok (.iload_n 1, 1) := dk_27 (dk_at dksX5_areBounds_0 12 rfl rfl)
theorem dX5_areBounds_13 : decode cX5_areBounds 13 = .ok (.i2l, 1) := dk_133 (dk_at dksX5_areBounds_0 13 rfl rfl)
theorem dX5_areBounds_14 : decode cX5_areBounds 14 = .ok (.iload_n 0, 1) := dk_26 (dk_at dksX5_areBounds_0 14 rfl rfl)
theorem dX5_areBounds_15 : decode cX5_areBounds 15 = .ok (.i2l, 1) := dk_133 (dk_at dksX5_areBounds_0 15 rfl rfl)
theorem dX5_areBounds_16 : decode cX5_areBounds 16 = .ok (.ldc2_w 131, 3) := dk_20 0 131 (dk_at dksX5_areBounds_0 16 rfl rfl)
theorem dX5_areBounds_19 : decode cX5_areBounds 19 = .ok (.invokestatic 99, 3) := dk_184 0 99 (dk_at dksX5_areBounds_0 19 rfl rfl)
theorem dX5_areBounds_22 : decode cX5_areBounds 22 = .ok (.ifCond .eq 20, 3) := dk_153 0 20 (dk_at dksX5_areBounds_1 0 rfl rfl)
theorem dX5_areBounds_25 : decode cX5_areBounds 25 = .ok (.lload_n 2, 1) := dk_32 (dk_at dksX5_areBounds_1 3 rfl rfl)
theorem dX5_areBounds_26 : decode cX5_areBounds 26 = .ok (.ldc2_w 133, 3) := dk_20 0 133 (dk_at dksX5_areBounds_1 4 rfl rfl)
theorem dX5_areBounds_29 : decode cX5_areBounds 29 = .ok (.ldc2_w 135, 3) := dk_20 0 135 (dk_at dksX5_areBounds_1 7 rfl rfl)
theorem dX5_areBounds_32 : decode cX5_areBounds 32 = .ok (.invokestatic 99, 3) := dk_184 0 99 (dk_at dksX5_areBounds_1 10 rfl rfl)
theorem dX5_areBounds_35 : decode cX5_areBounds 35 = .ok (.ifCond .eq 7, 3) := dk_153 0 7 (dk_at dksX5_areBounds_1 13 rfl rfl)
theorem dX5_areBounds_38 : decode cX5_areBounds 38 = .ok (.iconst 1, 1) := dk_4 (dk_at dksX5_areBounds_1 16 rfl rfl)
theorem dX5_areBounds_39 : decode cX5_areBounds 39 = .ok (.goto 4, 3) := dk_167 0 4 (dk_at dksX5_areBounds_1 17 rfl rfl)
theorem dX5_areBounds_42 : decode cX5_areBounds 42 = .ok (.iconst 0, 1) := dk_3 (dk_at dksX5_areBounds_1 20 rfl rfl)
theorem dX5_areBounds_43 : decode cX5_areBounds 43 = .ok (.ireturn, 1) := dk_172 (dk_at dksX5_areBounds_1 21 rfl rfl)
abbrev cX5_many : ByteArray := prog_17_method_4_code
def yX5_many : MethodName := ⟨RX5, "many", "()I"⟩
def dkwX5_many_0 : List UInt8 := [42, 180, 0, 9, 4, 46, 172]
abbrev dktX5_many_0 : List UInt8 := dkwX5_many_0 ++ []
theorem dksX5_many_0 : cX5_many.data.toList.drop 0 = dktX5_many_0 := by decide +kernel
theorem dX5_many_0 : decode cX5_many 0 = .ok (.aload_n 0, 1) := dk_42 (dk_at dksX5_many_0 0 rfl rfl)
theorem dX5_many_1 : decode cX5_many 1 = .ok (.getfield 9, 3) := dk_180 0 9 (dk_at dksX5_many_0 1 rfl rfl)
theorem dX5_many_4 : decode cX5_many 4 = .ok (.iconst 1, 1) := dk_4 (dk_at dksX5_many_0 4 rfl rfl)
theorem dX5_many_5 : decode cX5_many 5 = .ok (.iaload, 1) := dk_46 (dk_at dksX5_many_0 5 rfl rfl)
theorem dX5_many_6 : decode cX5_many 6 = .ok (.ireturn, 1) := dk_172 (dk_at dksX5_many_0 6 rfl rfl)
abbrev cX5_lies : ByteArray := prog_17_method_19_code
def yX5_lies : MethodName := ⟨RX5, "lies", "(IIIIIJ)V"⟩
def dkwX5_lies_2 : List UInt8 := [42, 180, 0, 15, 27, 22, 6, 80, 177]
abbrev dktX5_lies_2 : List UInt8 := dkwX5_lies_2 ++ []
def dkwX5_lies_1 : List UInt8 := [29, 79, 42, 180, 0, 9, 21, 8, 5, 96, 21, 4, 79, 42, 180, 0, 9, 21, 8, 6, 96, 21, 5, 79]
abbrev dktX5_lies_1 : List UInt8 := dkwX5_lies_1 ++ dktX5_lies_2
def dkwX5_lies_0 : List UInt8 := [16, 10, 7, 27, 104, 96, 54, 8, 42, 180, 0, 9, 21, 8, 28, 79, 42, 180, 0, 9, 21, 8, 4, 96]
abbrev dktX5_lies_0 : List UInt8 := dkwX5_lies_0 ++ dktX5_lies_1
theorem dksX5_lies_0 : cX5_lies.data.toList.drop 0 = dktX5_lies_0 := by decide +kernel
theorem dksX5_lies_1 : cX5_lies.data.toList.drop 24 = dktX5_lies_1 := dk_seg dksX5_lies_0 24 rfl rfl
theorem dksX5_lies_2 : cX5_lies.data.toList.drop 48 = dktX5_lies_2 := dk_seg dksX5_lies_1 24 rfl rfl
theorem dX5_lies_0 : decode cX5_lies 0 = .ok (.bipush 10, 2) := dk_16 10 (dk_at dksX5_lies_0 0 rfl rfl)
theorem dX5_lies_2 : decode cX5_lies 2 = .ok (.iconst 4, 1) := dk_7 (dk_at dksX5_lies_0 2 rfl rfl)
theorem dX5_lies_3 : decode cX5_lies 3 = .ok (.iload_n 1, 1) := dk_27 (dk_at dksX5_lies_0 3 rfl rfl)
theorem dX5_lies_4 : decode cX5_lies 4 = .ok (.imul, 1) := dk_104 (dk_at dksX5_lies_0 4 rfl rfl)
theorem dX5_lies_5 : decode cX5_lies 5 = .ok (.iadd, 1) := dk_96 (dk_at dksX5_lies_0 5 rfl rfl)
theorem dX5_lies_6 : decode cX5_lies 6 = .ok (.istore 8, 2) := dk_54 8 (dk_at dksX5_lies_0 6 rfl rfl)
theorem dX5_lies_8 : decode cX5_lies 8 = .ok (.aload_n 0, 1) := dk_42 (dk_at dksX5_lies_0 8 rfl rfl)
theorem dX5_lies_9 : decode cX5_lies 9 = .ok (.getfield 9, 3) := dk_180 0 9 (dk_at dksX5_lies_0 9 rfl rfl)
theorem dX5_lies_12 : decode cX5_lies 12 = .ok (.iload 8, 2) := dk_21 8 (dk_at dksX5_lies_0 12 rfl rfl)
theorem dX5_lies_14 : decode cX5_lies 14 = .ok (.iload_n 2, 1) := dk_28 (dk_at dksX5_lies_0 14 rfl rfl)
theorem dX5_lies_15 : decode cX5_lies 15 = .ok (.iastore, 1) := dk_79 (dk_at dksX5_lies_0 15 rfl rfl)
theorem dX5_lies_16 : decode cX5_lies 16 = .ok (.aload_n 0, 1) := dk_42 (dk_at dksX5_lies_0 16 rfl rfl)
theorem dX5_lies_17 : decode cX5_lies 17 = .ok (.getfield 9, 3) := dk_180 0 9 (dk_at dksX5_lies_0 17 rfl rfl)
theorem dX5_lies_20 : decode cX5_lies 20 = .ok (.iload 8, 2) := dk_21 8 (dk_at dksX5_lies_0 20 rfl rfl)
theorem dX5_lies_22 : decode cX5_lies 22 = .ok (.iconst 1, 1) := dk_4 (dk_at dksX5_lies_0 22 rfl rfl)
theorem dX5_lies_23 : decode cX5_lies 23 = .ok (.iadd, 1) := dk_96 (dk_at dksX5_lies_0 23 rfl rfl)
theorem dX5_lies_24 : decode cX5_lies 24 = .ok (.iload_n 3, 1) := dk_29 (dk_at dksX5_lies_1 0 rfl rfl)
theorem dX5_lies_25 : decode cX5_lies 25 = .ok (.iastore, 1) := dk_79 (dk_at dksX5_lies_1 1 rfl rfl)
theorem dX5_lies_26 : decode cX5_lies 26 = .ok (.aload_n 0, 1) := dk_42 (dk_at dksX5_lies_1 2 rfl rfl)
theorem dX5_lies_27 : decode cX5_lies 27 = .ok (.getfield 9, 3) := dk_180 0 9 (dk_at dksX5_lies_1 3 rfl rfl)
theorem dX5_lies_30 : decode cX5_lies 30 = .ok (.iload 8, 2) := dk_21 8 (dk_at dksX5_lies_1 6 rfl rfl)
theorem dX5_lies_32 : decode cX5_lies 32 = .ok (.iconst 2, 1) := dk_5 (dk_at dksX5_lies_1 8 rfl rfl)
theorem dX5_lies_33 : decode cX5_lies 33 = .ok (.iadd, 1) := dk_96 (dk_at dksX5_lies_1 9 rfl rfl)
theorem dX5_lies_34 : decode cX5_lies 34 = .ok (.iload 4, 2) := dk_21 4 (dk_at dksX5_lies_1 10 rfl rfl)
theorem dX5_lies_36 : decode cX5_lies 36 = .ok (.iastore, 1) := dk_79 (dk_at dksX5_lies_1 12 rfl rfl)
theorem dX5_lies_37 : decode cX5_lies 37 = .ok (.aload_n 0, 1) := dk_42 (dk_at dksX5_lies_1 13 rfl rfl)
theorem dX5_lies_38 : decode cX5_lies 38 = .ok (.getfield 9, 3) := dk_180 0 9 (dk_at dksX5_lies_1 14 rfl rfl)
theorem dX5_lies_41 : decode cX5_lies 41 = .ok (.iload 8, 2) := dk_21 8 (dk_at dksX5_lies_1 17 rfl rfl)
theorem dX5_lies_43 : decode cX5_lies 43 = .ok (.iconst 3, 1) := dk_6 (dk_at dksX5_lies_1 19 rfl rfl)
theorem dX5_lies_44 : decode cX5_lies 44 = .ok (.iadd, 1) := dk_96 (dk_at dksX5_lies_1 20 rfl rfl)
theorem dX5_lies_45 : decode cX5_lies 45 = .ok (.iload 5, 2) := dk_21 5 (dk_at dksX5_lies_1 21 rfl rfl)
theorem dX5_lies_47 : decode cX5_lies 47 = .ok (.iastore, 1) := dk_79 (dk_at dksX5_lies_1 23 rfl rfl)
theorem dX5_lies_48 : decode cX5_lies 48 = .ok (.aload_n 0, 1) := dk_42 (dk_at dksX5_lies_2 0 rfl rfl)
theorem dX5_lies_49 : decode cX5_lies 49 = .ok (.getfield 15, 3) := dk_180 0 15 (dk_at dksX5_lies_2 1 rfl rfl)
theorem dX5_lies_52 : decode cX5_lies 52 = .ok (.iload_n 1, 1) := dk_27 (dk_at dksX5_lies_2 4 rfl rfl)
theorem dX5_lies_53 : decode cX5_lies 53 = .ok (.lload 6, 2) := dk_22 6 (dk_at dksX5_lies_2 5 rfl rfl)
theorem dX5_lies_55 : decode cX5_lies 55 = .ok (.lastore, 1) := dk_80 (dk_at dksX5_lies_2 7 rfl rfl)
theorem dX5_lies_56 : decode cX5_lies 56 = .ok (.return_, 1) := dk_177 (dk_at dksX5_lies_2 8 rfl rfl)
abbrev cX5_alter : ByteArray := prog_17_method_21_code
def yX5_alter : MethodName := ⟨RX5, "alter", "(IIIJ)I"⟩
def dkwX5_alter_1 : List UInt8 := [182, 0, 126, 42, 27, 42, 27, 182, 0, 152, 42, 27, 182, 0, 156, 28, 29, 22, 4, 182, 0, 145, 4, 172]
abbrev dktX5_alter_1 : List UInt8 := dkwX5_alter_1 ++ []
def dkwX5_alter_0 : List UInt8 := [42, 27, 182, 0, 149, 154, 0, 5, 2, 172, 28, 29, 22, 4, 184, 0, 141, 154, 0, 6, 16, 254, 172, 42]
abbrev dktX5_alter_0 : List UInt8 := dkwX5_alter_0 ++ dktX5_alter_1
theorem dksX5_alter_0 : cX5_alter.data.toList.drop 0 = dktX5_alter_0 := by decide +kernel
theorem dksX5_alter_1 : cX5_alter.data.toList.drop 24 = dktX5_alter_1 := dk_seg dksX5_alter_0 24 rfl rfl
theorem dX5_alter_0 : decode cX5_alter 0 = .ok (.aload_n 0, 1) := dk_42 (dk_at dksX5_alter_0 0 rfl rfl)
theorem dX5_alter_1 : decode cX5_alter 1 = .ok (.iload_n 1, 1) := dk_27 (dk_at dksX5_alter_0 1 rfl rfl)
theorem dX5_alter_2 : decode cX5_alter 2 = .ok (.invokevirtual 149, 3) := dk_182 0 149 (dk_at dksX5_alter_0 2 rfl rfl)
theorem dX5_alter_5 : decode cX5_alter 5 = .ok (.ifCond .ne 5, 3) := dk_154 0 5 (dk_at dksX5_alter_0 5 rfl rfl)
theorem dX5_alter_8 : decode cX5_alter 8 = .ok (.iconst (-1), 1) := dk_2 (dk_at dksX5_alter_0 8 rfl rfl)
theorem dX5_alter_9 : decode cX5_alter 9 = .ok (.ireturn, 1) := dk_172 (dk_at dksX5_alter_0 9 rfl rfl)
theorem dX5_alter_10 : decode cX5_alter 10 = .ok (.iload_n 2, 1) := dk_28 (dk_at dksX5_alter_0 10 rfl rfl)
theorem dX5_alter_11 : decode cX5_alter 11 = .ok (.iload_n 3, 1) := dk_29 (dk_at dksX5_alter_0 11 rfl rfl)
theorem dX5_alter_12 : decode cX5_alter 12 = .ok (.lload 4, 2) := dk_22 4 (dk_at dksX5_alter_0 12 rfl rfl)
theorem dX5_alter_14 : decode cX5_alter 14 = .ok (.invokestatic 141, 3) := dk_184 0 141 (dk_at dksX5_alter_0 14 rfl rfl)
theorem dX5_alter_17 : decode cX5_alter 17 = .ok (.ifCond .ne 6, 3) := dk_154 0 6 (dk_at dksX5_alter_0 17 rfl rfl)
theorem dX5_alter_20 : decode cX5_alter 20 = .ok (.bipush (-2), 2) := dk_16 254 (dk_at dksX5_alter_0 20 rfl rfl)
theorem dX5_alter_22 : decode cX5_alter 22 = .ok (.ireturn, 1) := dk_172 (dk_at dksX5_alter_0 22 rfl rfl)
theorem dX5_alter_23 : decode cX5_alter 23 = .ok (.aload_n 0, 1) := dk_42 (dk_at dksX5_alter_0 23 rfl rfl)
theorem dX5_alter_24 : decode cX5_alter 24 = .ok (.invokevirtual 126, 3) := dk_182 0 126 (dk_at dksX5_alter_1 0 rfl rfl)
theorem dX5_alter_27 : decode cX5_alter 27 = .ok (.aload_n 0, 1) := dk_42 (dk_at dksX5_alter_1 3 rfl rfl)
theorem dX5_alter_28 : decode cX5_alter 28 = .ok (.iload_n 1, 1) := dk_27 (dk_at dksX5_alter_1 4 rfl rfl)
theorem dX5_alter_29 : decode cX5_alter 29 = .ok (.aload_n 0, 1) := dk_42 (dk_at dksX5_alter_1 5 rfl rfl)
theorem dX5_alter_30 : decode cX5_alter 30 = .ok (.iload_n 1, 1) := dk_27 (dk_at dksX5_alter_1 6 rfl rfl)
theorem dX5_alter_31 : decode cX5_alter 31 = .ok (.invokevirtual 152, 3) := dk_182 0 152 (dk_at dksX5_alter_1 7 rfl rfl)
theorem dX5_alter_34 : decode cX5_alter 34 = .ok (.aload_n 0, 1) := dk_42 (dk_at dksX5_alter_1 10 rfl rfl)
theorem dX5_alter_35 : decode cX5_alter 35 = .ok (.iload_n 1, 1) := dk_27 (dk_at dksX5_alter_1 11 rfl rfl)
theorem dX5_alter_36 : decode cX5_alter 36 = .ok (.invokevirtual 156, 3) := dk_182 0 156 (dk_at dksX5_alter_1 12 rfl rfl)
theorem dX5_alter_39 : decode cX5_alter 39 = .ok (.iload_n 2, 1) := dk_28 (dk_at dksX5_alter_1 15 rfl rfl)
theorem dX5_alter_40 : decode cX5_alter 40 = .ok (.iload_n 3, 1) := dk_29 (dk_at dksX5_alter_1 16 rfl rfl)
theorem dX5_alter_41 : decode cX5_alter 41 = .ok (.lload 4, 2) := dk_22 4 (dk_at dksX5_alter_1 17 rfl rfl)
theorem dX5_alter_43 : decode cX5_alter 43 = .ok (.invokevirtual 145, 3) := dk_182 0 145 (dk_at dksX5_alter_1 19 rfl rfl)
theorem dX5_alter_46 : decode cX5_alter 46 = .ok (.iconst 1, 1) := dk_4 (dk_at dksX5_alter_1 22 rfl rfl)
theorem dX5_alter_47 : decode cX5_alter 47 = .ok (.ireturn, 1) := dk_172 (dk_at dksX5_alter_1 23 rfl rfl)
abbrev cX5_isRoad : ByteArray := prog_17_method_7_code
def yX5_isRoad : MethodName := ⟨RX5, "isRoad", "(I)Z"⟩
def dkwX5_isRoad_0 : List UInt8 := [27, 133, 9, 42, 182, 0, 107, 4, 100, 133, 184, 0, 99, 172]
abbrev dktX5_isRoad_0 : List UInt8 := dkwX5_isRoad_0 ++ []
theorem dksX5_isRoad_0 : cX5_isRoad.data.toList.drop 0 = dktX5_isRoad_0 := by decide +kernel
theorem dX5_isRoad_0 : decode cX5_isRoad 0 = .ok (.iload_n 1, 1) := dk_27 (dk_at dksX5_isRoad_0 0 rfl rfl)
theorem dX5_isRoad_1 : decode cX5_isRoad 1 = .ok (.i2l, 1) := dk_133 (dk_at dksX5_isRoad_0 1 rfl rfl)
theorem dX5_isRoad_2 : decode cX5_isRoad 2 = .ok (.lconst 0, 1) := dk_9 (dk_at dksX5_isRoad_0 2 rfl rfl)
theorem dX5_isRoad_3 : decode cX5_isRoad 3 = .ok (.aload_n 0, 1) := dk_42 (dk_at dksX5_isRoad_0 3 rfl rfl)
theorem dX5_isRoad_4 : decode cX5_isRoad 4 = .ok (.invokevirtual 107, 3) := dk_182 0 107 (dk_at dksX5_isRoad_0 4 rfl rfl)
theorem dX5_isRoad_7 : decode cX5_isRoad 7 = .ok (.iconst 1, 1) := dk_4 (dk_at dksX5_isRoad_0 7 rfl rfl)
theorem dX5_isRoad_8 : decode cX5_isRoad 8 = .ok (.isub, 1) := dk_100 (dk_at dksX5_isRoad_0 8 rfl rfl)
theorem dX5_isRoad_9 : decode cX5_isRoad 9 = .ok (.i2l, 1) := dk_133 (dk_at dksX5_isRoad_0 9 rfl rfl)
theorem dX5_isRoad_10 : decode cX5_isRoad 10 = .ok (.invokestatic 99, 3) := dk_184 0 99 (dk_at dksX5_isRoad_0 10 rfl rfl)
theorem dX5_isRoad_13 : decode cX5_isRoad 13 = .ok (.ireturn, 1) := dk_172 (dk_at dksX5_isRoad_0 13 rfl rfl)
abbrev cX5_from : ByteArray := prog_17_method_8_code
def yX5_from : MethodName := ⟨RX5, "from", "(I)I"⟩
def dkwX5_from_0 : List UInt8 := [42, 180, 0, 9, 16, 10, 7, 27, 104, 96, 46, 172]
abbrev dktX5_from_0 : List UInt8 := dkwX5_from_0 ++ []
theorem dksX5_from_0 : cX5_from.data.toList.drop 0 = dktX5_from_0 := by decide +kernel
theorem dX5_from_0 : decode cX5_from 0 = .ok (.aload_n 0, 1) := dk_42 (dk_at dksX5_from_0 0 rfl rfl)
theorem dX5_from_1 : decode cX5_from 1 = .ok (.getfield 9, 3) := dk_180 0 9 (dk_at dksX5_from_0 1 rfl rfl)
theorem dX5_from_4 : decode cX5_from 4 = .ok (.bipush 10, 2) := dk_16 10 (dk_at dksX5_from_0 4 rfl rfl)
theorem dX5_from_6 : decode cX5_from 6 = .ok (.iconst 4, 1) := dk_7 (dk_at dksX5_from_0 6 rfl rfl)
theorem dX5_from_7 : decode cX5_from 7 = .ok (.iload_n 1, 1) := dk_27 (dk_at dksX5_from_0 7 rfl rfl)
theorem dX5_from_8 : decode cX5_from 8 = .ok (.imul, 1) := dk_104 (dk_at dksX5_from_0 8 rfl rfl)
theorem dX5_from_9 : decode cX5_from 9 = .ok (.iadd, 1) := dk_96 (dk_at dksX5_from_0 9 rfl rfl)
theorem dX5_from_10 : decode cX5_from 10 = .ok (.iaload, 1) := dk_46 (dk_at dksX5_from_0 10 rfl rfl)
theorem dX5_from_11 : decode cX5_from 11 = .ok (.ireturn, 1) := dk_172 (dk_at dksX5_from_0 11 rfl rfl)
abbrev cX5_to : ByteArray := prog_17_method_9_code
def yX5_to : MethodName := ⟨RX5, "to", "(I)I"⟩
def dkwX5_to_0 : List UInt8 := [42, 180, 0, 9, 16, 10, 7, 27, 104, 96, 4, 96, 46, 172]
abbrev dktX5_to_0 : List UInt8 := dkwX5_to_0 ++ []
theorem dksX5_to_0 : cX5_to.data.toList.drop 0 = dktX5_to_0 := by decide +kernel
theorem dX5_to_0 : decode cX5_to 0 = .ok (.aload_n 0, 1) := dk_42 (dk_at dksX5_to_0 0 rfl rfl)
theorem dX5_to_1 : decode cX5_to 1 = .ok (.getfield 9, 3) := dk_180 0 9 (dk_at dksX5_to_0 1 rfl rfl)
theorem dX5_to_4 : decode cX5_to 4 = .ok (.bipush 10, 2) := dk_16 10 (dk_at dksX5_to_0 4 rfl rfl)
theorem dX5_to_6 : decode cX5_to 6 = .ok (.iconst 4, 1) := dk_7 (dk_at dksX5_to_0 6 rfl rfl)
theorem dX5_to_7 : decode cX5_to 7 = .ok (.iload_n 1, 1) := dk_27 (dk_at dksX5_to_0 7 rfl rfl)
theorem dX5_to_8 : decode cX5_to 8 = .ok (.imul, 1) := dk_104 (dk_at dksX5_to_0 8 rfl rfl)
theorem dX5_to_9 : decode cX5_to 9 = .ok (.iadd, 1) := dk_96 (dk_at dksX5_to_0 9 rfl rfl)
theorem dX5_to_10 : decode cX5_to 10 = .ok (.iconst 1, 1) := dk_4 (dk_at dksX5_to_0 10 rfl rfl)
theorem dX5_to_11 : decode cX5_to 11 = .ok (.iadd, 1) := dk_96 (dk_at dksX5_to_0 11 rfl rfl)
theorem dX5_to_12 : decode cX5_to 12 = .ok (.iaload, 1) := dk_46 (dk_at dksX5_to_0 12 rfl rfl)
theorem dX5_to_13 : decode cX5_to 13 = .ok (.ireturn, 1) := dk_172 (dk_at dksX5_to_0 13 rfl rfl)
abbrev cX5_close : ByteArray := prog_17_method_23_code
def yX5_close : MethodName := ⟨RX5, "close", "(I)I"⟩
def dkwX5_close_1 : List UInt8 := [46, 172]
abbrev dktX5_close_1 : List UInt8 := dkwX5_close_1 ++ []
def dkwX5_close_0 : List UInt8 := [42, 27, 182, 0, 149, 154, 0, 5, 2, 172, 42, 182, 0, 126, 42, 27, 182, 0, 165, 42, 180, 0, 9, 4]
abbrev dktX5_close_0 : List UInt8 := dkwX5_close_0 ++ dktX5_close_1
theorem dksX5_close_0 : cX5_close.data.toList.drop 0 = dktX5_close_0 := by decide +kernel
theorem dksX5_close_1 : cX5_close.data.toList.drop 24 = dktX5_close_1 := dk_seg dksX5_close_0 24 rfl rfl
theorem dX5_close_0 : decode cX5_close 0 = .ok (.aload_n 0, 1) := dk_42 (dk_at dksX5_close_0 0 rfl rfl)
theorem dX5_close_1 : decode cX5_close 1 = .ok (.iload_n 1, 1) := dk_27 (dk_at dksX5_close_0 1 rfl rfl)
theorem dX5_close_2 : decode cX5_close 2 = .ok (.invokevirtual 149, 3) := dk_182 0 149 (dk_at dksX5_close_0 2 rfl rfl)
theorem dX5_close_5 : decode cX5_close 5 = .ok (.ifCond .ne 5, 3) := dk_154 0 5 (dk_at dksX5_close_0 5 rfl rfl)
theorem dX5_close_8 : decode cX5_close 8 = .ok (.iconst (-1), 1) := dk_2 (dk_at dksX5_close_0 8 rfl rfl)
theorem dX5_close_9 : decode cX5_close 9 = .ok (.ireturn, 1) := dk_172 (dk_at dksX5_close_0 9 rfl rfl)
theorem dX5_close_10 : decode cX5_close 10 = .ok (.aload_n 0, 1) := dk_42 (dk_at dksX5_close_0 10 rfl rfl)
theorem dX5_close_11 : decode cX5_close 11 = .ok (.invokevirtual 126, 3) := dk_182 0 126 (dk_at dksX5_close_0 11 rfl rfl)
theorem dX5_close_14 : decode cX5_close 14 = .ok (.aload_n 0, 1) := dk_42 (dk_at dksX5_close_0 14 rfl rfl)
theorem dX5_close_15 : decode cX5_close 15 = .ok (.iload_n 1, 1) := dk_27 (dk_at dksX5_close_0 15 rfl rfl)
theorem dX5_close_16 : decode cX5_close 16 = .ok (.invokevirtual 165, 3) := dk_182 0 165 (dk_at dksX5_close_0 16 rfl rfl)
theorem dX5_close_19 : decode cX5_close 19 = .ok (.aload_n 0, 1) := dk_42 (dk_at dksX5_close_0 19 rfl rfl)
theorem dX5_close_20 : decode cX5_close 20 = .ok (.getfield 9, 3) := dk_180 0 9 (dk_at dksX5_close_0 20 rfl rfl)
theorem dX5_close_23 : decode cX5_close 23 = .ok (.iconst 1, 1) := dk_4 (dk_at dksX5_close_0 23 rfl rfl)
theorem dX5_close_24 : decode cX5_close 24 = .ok (.iaload, 1) := dk_46 (dk_at dksX5_close_1 0 rfl rfl)
theorem dX5_close_25 : decode cX5_close 25 = .ok (.ireturn, 1) := dk_172 (dk_at dksX5_close_1 1 rfl rfl)
abbrev cX5_closes : ByteArray := prog_17_method_22_code
def yX5_closes : MethodName := ⟨RX5, "closes", "(I)V"⟩
def dkwX5_closes_2 : List UInt8 := [96, 182, 0, 162, 42, 180, 0, 15, 28, 4, 96, 47, 182, 0, 145, 132, 2, 1, 167, 255, 202, 177]
abbrev dktX5_closes_2 : List UInt8 := dkwX5_closes_2 ++ []
def dkwX5_closes_1 : List UInt8 := [42, 28, 4, 96, 182, 0, 152, 42, 28, 4, 96, 182, 0, 156, 42, 28, 4, 96, 182, 0, 159, 42, 28, 4]
abbrev dktX5_closes_1 : List UInt8 := dkwX5_closes_1 ++ dktX5_closes_2
def dkwX5_closes_0 : List UInt8 := [42, 180, 0, 9, 4, 92, 46, 4, 100, 79, 27, 61, 28, 42, 180, 0, 9, 4, 46, 162, 0, 50, 42, 28]
abbrev dktX5_closes_0 : List UInt8 := dkwX5_closes_0 ++ dktX5_closes_1
theorem dksX5_closes_0 : cX5_closes.data.toList.drop 0 = dktX5_closes_0 := by decide +kernel
theorem dksX5_closes_1 : cX5_closes.data.toList.drop 24 = dktX5_closes_1 := dk_seg dksX5_closes_0 24 rfl rfl
theorem dksX5_closes_2 : cX5_closes.data.toList.drop 48 = dktX5_closes_2 := dk_seg dksX5_closes_1 24 rfl rfl
theorem dX5_closes_0 : decode cX5_closes 0 = .ok (.aload_n 0, 1) := dk_42 (dk_at dksX5_closes_0 0 rfl rfl)
theorem dX5_closes_1 : decode cX5_closes 1 = .ok (.getfield 9, 3) := dk_180 0 9 (dk_at dksX5_closes_0 1 rfl rfl)
theorem dX5_closes_4 : decode cX5_closes 4 = .ok (.iconst 1, 1) := dk_4 (dk_at dksX5_closes_0 4 rfl rfl)
theorem dX5_closes_5 : decode cX5_closes 5 = .ok (.dup2, 1) := dk_92 (dk_at dksX5_closes_0 5 rfl rfl)
theorem dX5_closes_6 : decode cX5_closes 6 = .ok (.iaload, 1) := dk_46 (dk_at dksX5_closes_0 6 rfl rfl)
theorem dX5_closes_7 : decode cX5_closes 7 = .ok (.iconst 1, 1) := dk_4 (dk_at dksX5_closes_0 7 rfl rfl)
theorem dX5_closes_8 : decode cX5_closes 8 = .ok (.isub, 1) := dk_100 (dk_at dksX5_closes_0 8 rfl rfl)
theorem dX5_closes_9 : decode cX5_closes 9 = .ok (.iastore, 1) := dk_79 (dk_at dksX5_closes_0 9 rfl rfl)
theorem dX5_closes_10 : decode cX5_closes 10 = .ok (.iload_n 1, 1) := dk_27 (dk_at dksX5_closes_0 10 rfl rfl)
theorem dX5_closes_11 : decode cX5_closes 11 = .ok (.istore_n 2, 1) := dk_61 (dk_at dksX5_closes_0 11 rfl rfl)
theorem dX5_closes_12 : decode cX5_closes 12 = .ok (.iload_n 2, 1) := dk_28 (dk_at dksX5_closes_0 12 rfl rfl)
theorem dX5_closes_13 : decode cX5_closes 13 = .ok (.aload_n 0, 1) := dk_42 (dk_at dksX5_closes_0 13 rfl rfl)
theorem dX5_closes_14 : decode cX5_closes 14 = .ok (.getfield 9, 3) := dk_180 0 9 (dk_at dksX5_closes_0 14 rfl rfl)
theorem dX5_closes_17 : decode cX5_closes 17 = .ok (.iconst 1, 1) := dk_4 (dk_at dksX5_closes_0 17 rfl rfl)
theorem dX5_closes_18 : decode cX5_closes 18 = .ok (.iaload, 1) := dk_46 (dk_at dksX5_closes_0 18 rfl rfl)
theorem dX5_closes_19 : decode cX5_closes 19 = .ok (.if_icmp .ge 50, 3) := dk_162 0 50 (dk_at dksX5_closes_0 19 rfl rfl)
theorem dX5_closes_22 : decode cX5_closes 22 = .ok (.aload_n 0, 1) := dk_42 (dk_at dksX5_closes_0 22 rfl rfl)
theorem dX5_closes_23 : decode cX5_closes 23 = .ok (.iload_n 2, 1) := dk_28 (dk_at dksX5_closes_0 23 rfl rfl)
theorem dX5_closes_24 : decode cX5_closes 24 = .ok (.aload_n 0, 1) := dk_42 (dk_at dksX5_closes_1 0 rfl rfl)
theorem dX5_closes_25 : decode cX5_closes 25 = .ok (.iload_n 2, 1) := dk_28 (dk_at dksX5_closes_1 1 rfl rfl)
theorem dX5_closes_26 : decode cX5_closes 26 = .ok (.iconst 1, 1) := dk_4 (dk_at dksX5_closes_1 2 rfl rfl)
theorem dX5_closes_27 : decode cX5_closes 27 = .ok (.iadd, 1) := dk_96 (dk_at dksX5_closes_1 3 rfl rfl)
theorem dX5_closes_28 : decode cX5_closes 28 = .ok (.invokevirtual 152, 3) := dk_182 0 152 (dk_at dksX5_closes_1 4 rfl rfl)
theorem dX5_closes_31 : decode cX5_closes 31 = .ok (.aload_n 0, 1) := dk_42 (dk_at dksX5_closes_1 7 rfl rfl)
theorem dX5_closes_32 : decode cX5_closes 32 = .ok (.iload_n 2, 1) := dk_28 (dk_at dksX5_closes_1 8 rfl rfl)
theorem dX5_closes_33 : decode cX5_closes 33 = .ok (.iconst 1, 1) := dk_4 (dk_at dksX5_closes_1 9 rfl rfl)
theorem dX5_closes_34 : decode cX5_closes 34 = .ok (.iadd, 1) := dk_96 (dk_at dksX5_closes_1 10 rfl rfl)
theorem dX5_closes_35 : decode cX5_closes 35 = .ok (.invokevirtual 156, 3) := dk_182 0 156 (dk_at dksX5_closes_1 11 rfl rfl)
theorem dX5_closes_38 : decode cX5_closes 38 = .ok (.aload_n 0, 1) := dk_42 (dk_at dksX5_closes_1 14 rfl rfl)
theorem dX5_closes_39 : decode cX5_closes 39 = .ok (.iload_n 2, 1) := dk_28 (dk_at dksX5_closes_1 15 rfl rfl)
theorem dX5_closes_40 : decode cX5_closes 40 = .ok (.iconst 1, 1) := dk_4 (dk_at dksX5_closes_1 16 rfl rfl)
theorem dX5_closes_41 : decode cX5_closes 41 = .ok (.iadd, 1) := dk_96 (dk_at dksX5_closes_1 17 rfl rfl)
theorem dX5_closes_42 : decode cX5_closes 42 = .ok (.invokevirtual 159, 3) := dk_182 0 159 (dk_at dksX5_closes_1 18 rfl rfl)
theorem dX5_closes_45 : decode cX5_closes 45 = .ok (.aload_n 0, 1) := dk_42 (dk_at dksX5_closes_1 21 rfl rfl)
theorem dX5_closes_46 : decode cX5_closes 46 = .ok (.iload_n 2, 1) := dk_28 (dk_at dksX5_closes_1 22 rfl rfl)
theorem dX5_closes_47 : decode cX5_closes 47 = .ok (.iconst 1, 1) := dk_4 (dk_at dksX5_closes_1 23 rfl rfl)
theorem dX5_closes_48 : decode cX5_closes 48 = .ok (.iadd, 1) := dk_96 (dk_at dksX5_closes_2 0 rfl rfl)
theorem dX5_closes_49 : decode cX5_closes 49 = .ok (.invokevirtual 162, 3) := dk_182 0 162 (dk_at dksX5_closes_2 1 rfl rfl)
theorem dX5_closes_52 : decode cX5_closes 52 = .ok (.aload_n 0, 1) := dk_42 (dk_at dksX5_closes_2 4 rfl rfl)
theorem dX5_closes_53 : decode cX5_closes 53 = .ok (.getfield 15, 3) := dk_180 0 15 (dk_at dksX5_closes_2 5 rfl rfl)
theorem dX5_closes_56 : decode cX5_closes 56 = .ok (.iload_n 2, 1) := dk_28 (dk_at dksX5_closes_2 8 rfl rfl)
theorem dX5_closes_57 : decode cX5_closes 57 = .ok (.iconst 1, 1) := dk_4 (dk_at dksX5_closes_2 9 rfl rfl)
theorem dX5_closes_58 : decode cX5_closes 58 = .ok (.iadd, 1) := dk_96 (dk_at dksX5_closes_2 10 rfl rfl)
theorem dX5_closes_59 : decode cX5_closes 59 = .ok (.laload, 1) := dk_47 (dk_at dksX5_closes_2 11 rfl rfl)
theorem dX5_closes_60 : decode cX5_closes 60 = .ok (.invokevirtual 145, 3) := dk_182 0 145 (dk_at dksX5_closes_2 12 rfl rfl)
theorem dX5_closes_63 : decode cX5_closes 63 = .ok (.iinc 2 1, 3) := dk_132 2 1 (dk_at dksX5_closes_2 15 rfl rfl)
theorem dX5_closes_66 : decode cX5_closes 66 = .ok (.goto (-54), 3) := dk_167 255 202 (dk_at dksX5_closes_2 18 rfl rfl)
theorem dX5_closes_69 : decode cX5_closes 69 = .ok (.return_, 1) := dk_177 (dk_at dksX5_closes_2 21 rfl rfl)
abbrev cX5_low : ByteArray := prog_17_method_10_code
def yX5_low : MethodName := ⟨RX5, "low", "(I)I"⟩
def dkwX5_low_0 : List UInt8 := [42, 180, 0, 9, 16, 10, 7, 27, 104, 96, 5, 96, 46, 172]
abbrev dktX5_low_0 : List UInt8 := dkwX5_low_0 ++ []
theorem dksX5_low_0 : cX5_low.data.toList.drop 0 = dktX5_low_0 := by decide +kernel
theorem dX5_low_0 : decode cX5_low 0 = .ok (.aload_n 0, 1) := dk_42 (dk_at dksX5_low_0 0 rfl rfl)
theorem dX5_low_1 : decode cX5_low 1 = .ok (.getfield 9, 3) := dk_180 0 9 (dk_at dksX5_low_0 1 rfl rfl)
theorem dX5_low_4 : decode cX5_low 4 = .ok (.bipush 10, 2) := dk_16 10 (dk_at dksX5_low_0 4 rfl rfl)
theorem dX5_low_6 : decode cX5_low 6 = .ok (.iconst 4, 1) := dk_7 (dk_at dksX5_low_0 6 rfl rfl)
theorem dX5_low_7 : decode cX5_low 7 = .ok (.iload_n 1, 1) := dk_27 (dk_at dksX5_low_0 7 rfl rfl)
theorem dX5_low_8 : decode cX5_low 8 = .ok (.imul, 1) := dk_104 (dk_at dksX5_low_0 8 rfl rfl)
theorem dX5_low_9 : decode cX5_low 9 = .ok (.iadd, 1) := dk_96 (dk_at dksX5_low_0 9 rfl rfl)
theorem dX5_low_10 : decode cX5_low 10 = .ok (.iconst 2, 1) := dk_5 (dk_at dksX5_low_0 10 rfl rfl)
theorem dX5_low_11 : decode cX5_low 11 = .ok (.iadd, 1) := dk_96 (dk_at dksX5_low_0 11 rfl rfl)
theorem dX5_low_12 : decode cX5_low 12 = .ok (.iaload, 1) := dk_46 (dk_at dksX5_low_0 12 rfl rfl)
theorem dX5_low_13 : decode cX5_low 13 = .ok (.ireturn, 1) := dk_172 (dk_at dksX5_low_0 13 rfl rfl)
abbrev cX5_most : ByteArray := prog_17_method_11_code
def yX5_most : MethodName := ⟨RX5, "most", "(I)I"⟩
def dkwX5_most_0 : List UInt8 := [42, 180, 0, 9, 16, 10, 7, 27, 104, 96, 6, 96, 46, 172]
abbrev dktX5_most_0 : List UInt8 := dkwX5_most_0 ++ []
theorem dksX5_most_0 : cX5_most.data.toList.drop 0 = dktX5_most_0 := by decide +kernel
theorem dX5_most_0 : decode cX5_most 0 = .ok (.aload_n 0, 1) := dk_42 (dk_at dksX5_most_0 0 rfl rfl)
theorem dX5_most_1 : decode cX5_most 1 = .ok (.getfield 9, 3) := dk_180 0 9 (dk_at dksX5_most_0 1 rfl rfl)
theorem dX5_most_4 : decode cX5_most 4 = .ok (.bipush 10, 2) := dk_16 10 (dk_at dksX5_most_0 4 rfl rfl)
theorem dX5_most_6 : decode cX5_most 6 = .ok (.iconst 4, 1) := dk_7 (dk_at dksX5_most_0 6 rfl rfl)
theorem dX5_most_7 : decode cX5_most 7 = .ok (.iload_n 1, 1) := dk_27 (dk_at dksX5_most_0 7 rfl rfl)
theorem dX5_most_8 : decode cX5_most 8 = .ok (.imul, 1) := dk_104 (dk_at dksX5_most_0 8 rfl rfl)
theorem dX5_most_9 : decode cX5_most 9 = .ok (.iadd, 1) := dk_96 (dk_at dksX5_most_0 9 rfl rfl)
theorem dX5_most_10 : decode cX5_most 10 = .ok (.iconst 3, 1) := dk_6 (dk_at dksX5_most_0 10 rfl rfl)
theorem dX5_most_11 : decode cX5_most 11 = .ok (.iadd, 1) := dk_96 (dk_at dksX5_most_0 11 rfl rfl)
theorem dX5_most_12 : decode cX5_most 12 = .ok (.iaload, 1) := dk_46 (dk_at dksX5_most_0 12 rfl rfl)
theorem dX5_most_13 : decode cX5_most 13 = .ok (.ireturn, 1) := dk_172 (dk_at dksX5_most_0 13 rfl rfl)
abbrev cX5_of : ByteArray := prog_17_method_24_code
def yX5_of : MethodName := ⟨RX5, "of", "(II)J"⟩
def dkwX5_of_3 : List UInt8 := [182, 0, 162, 133, 173, 42, 180, 0, 15, 27, 47, 173, 20, 0, 169, 173]
abbrev dktX5_of_3 : List UInt8 := dkwX5_of_3 ++ []
def dkwX5_of_2 : List UInt8 := [42, 27, 182, 0, 152, 133, 173, 42, 27, 182, 0, 156, 133, 173, 42, 27, 182, 0, 159, 133, 173, 42, 27]
abbrev dktX5_of_2 : List UInt8 := dkwX5_of_2 ++ dktX5_of_3
def dkwX5_of_1 : List UInt8 := [170, 0, 0, 0, 0, 0, 70, 0, 0, 0, 0, 0, 0, 0, 4, 0, 0, 0, 35, 0, 0, 0, 42, 0, 0, 0, 49, 0, 0, 0, 56, 0, 0, 0, 63]
abbrev dktX5_of_1 : List UInt8 := dkwX5_of_1 ++ dktX5_of_2
def dkwX5_of_0 : List UInt8 := [42, 27, 182, 0, 149, 154, 0, 7, 20, 0, 169, 173, 28]
abbrev dktX5_of_0 : List UInt8 := dkwX5_of_0 ++ dktX5_of_1
theorem dksX5_of_0 : cX5_of.data.toList.drop 0 = dktX5_of_0 := by decide +kernel
theorem dksX5_of_1 : cX5_of.data.toList.drop 13 = dktX5_of_1 := dk_seg dksX5_of_0 13 rfl rfl
theorem dksX5_of_2 : cX5_of.data.toList.drop 48 = dktX5_of_2 := dk_seg dksX5_of_1 35 rfl rfl
theorem dksX5_of_3 : cX5_of.data.toList.drop 71 = dktX5_of_3 := dk_seg dksX5_of_2 23 rfl rfl
theorem dX5_of_0 : decode cX5_of 0 = .ok (.aload_n 0, 1) := dk_42 (dk_at dksX5_of_0 0 rfl rfl)
theorem dX5_of_1 : decode cX5_of 1 = .ok (.iload_n 1, 1) := dk_27 (dk_at dksX5_of_0 1 rfl rfl)
theorem dX5_of_2 : decode cX5_of 2 = .ok (.invokevirtual 149, 3) := dk_182 0 149 (dk_at dksX5_of_0 2 rfl rfl)
theorem dX5_of_5 : decode cX5_of 5 = .ok (.ifCond .ne 7, 3) := dk_154 0 7 (dk_at dksX5_of_0 5 rfl rfl)
theorem dX5_of_8 : decode cX5_of 8 = .ok (.ldc2_w 169, 3) := dk_20 0 169 (dk_at dksX5_of_0 8 rfl rfl)
theorem dX5_of_11 : decode cX5_of 11 = .ok (.lreturn, 1) := dk_173 (dk_at dksX5_of_0 11 rfl rfl)
theorem dX5_of_12 : decode cX5_of 12 = .ok (.iload_n 2, 1) := dk_28 (dk_at dksX5_of_0 12 rfl rfl)
theorem dX5_of_13 : decode cX5_of 13 = .ok (.tableswitch 70 0 4 #[35, 42, 49, 56, 63], 35) := by decide +kernel
theorem dX5_of_48 : decode cX5_of 48 = .ok (.aload_n 0, 1) := dk_42 (dk_at dksX5_of_2 0 rfl rfl)
theorem dX5_of_49 : decode cX5_of 49 = .ok (.iload_n 1, 1) := dk_27 (dk_at dksX5_of_2 1 rfl rfl)
theorem dX5_of_50 : decode cX5_of 50 = .ok (.invokevirtual 152, 3) := dk_182 0 152 (dk_at dksX5_of_2 2 rfl rfl)
theorem dX5_of_53 : decode cX5_of 53 = .ok (.i2l, 1) := dk_133 (dk_at dksX5_of_2 5 rfl rfl)
theorem dX5_of_54 : decode cX5_of 54 = .ok (.lreturn, 1) := dk_173 (dk_at dksX5_of_2 6 rfl rfl)
theorem dX5_of_55 : decode cX5_of 55 = .ok (.aload_n 0, 1) := dk_42 (dk_at dksX5_of_2 7 rfl rfl)
theorem dX5_of_56 : decode cX5_of 56 = .ok (.iload_n 1, 1) := dk_27 (dk_at dksX5_of_2 8 rfl rfl)
theorem dX5_of_57 : decode cX5_of 57 = .ok (.invokevirtual 156, 3) := dk_182 0 156 (dk_at dksX5_of_2 9 rfl rfl)
theorem dX5_of_60 : decode cX5_of 60 = .ok (.i2l, 1) := dk_133 (dk_at dksX5_of_2 12 rfl rfl)
theorem dX5_of_61 : decode cX5_of 61 = .ok (.lreturn, 1) := dk_173 (dk_at dksX5_of_2 13 rfl rfl)
theorem dX5_of_62 : decode cX5_of 62 = .ok (.aload_n 0, 1) := dk_42 (dk_at dksX5_of_2 14 rfl rfl)
theorem dX5_of_63 : decode cX5_of 63 = .ok (.iload_n 1, 1) := dk_27 (dk_at dksX5_of_2 15 rfl rfl)
theorem dX5_of_64 : decode cX5_of 64 = .ok (.invokevirtual 159, 3) := dk_182 0 159 (dk_at dksX5_of_2 16 rfl rfl)
theorem dX5_of_67 : decode cX5_of 67 = .ok (.i2l, 1) := dk_133 (dk_at dksX5_of_2 19 rfl rfl)
theorem dX5_of_68 : decode cX5_of 68 = .ok (.lreturn, 1) := dk_173 (dk_at dksX5_of_2 20 rfl rfl)
theorem dX5_of_69 : decode cX5_of 69 = .ok (.aload_n 0, 1) := dk_42 (dk_at dksX5_of_2 21 rfl rfl)
theorem dX5_of_70 : decode cX5_of 70 = .ok (.iload_n 1, 1) := dk_27 (dk_at dksX5_of_2 22 rfl rfl)
theorem dX5_of_71 : decode cX5_of 71 = .ok (.invokevirtual 162, 3) := dk_182 0 162 (dk_at dksX5_of_3 0 rfl rfl)
theorem dX5_of_74 : decode cX5_of 74 = .ok (.i2l, 1) := dk_133 (dk_at dksX5_of_3 3 rfl rfl)
theorem dX5_of_75 : decode cX5_of 75 = .ok (.lreturn, 1) := dk_173 (dk_at dksX5_of_3 4 rfl rfl)
theorem dX5_of_76 : decode cX5_of 76 = .ok (.aload_n 0, 1) := dk_42 (dk_at dksX5_of_3 5 rfl rfl)
theorem dX5_of_77 : decode cX5_of 77 = .ok (.getfield 15, 3) := dk_180 0 15 (dk_at dksX5_of_3 6 rfl rfl)
theorem dX5_of_80 : decode cX5_of 80 = .ok (.iload_n 1, 1) := dk_27 (dk_at dksX5_of_3 9 rfl rfl)
theorem dX5_of_81 : decode cX5_of 81 = .ok (.laload, 1) := dk_47 (dk_at dksX5_of_3 10 rfl rfl)
theorem dX5_of_82 : decode cX5_of 82 = .ok (.lreturn, 1) := dk_173 (dk_at dksX5_of_3 11 rfl rfl)
theorem dX5_of_83 : decode cX5_of 83 = .ok (.ldc2_w 169, 3) := dk_20 0 169 (dk_at dksX5_of_3 12 rfl rfl)
theorem dX5_of_86 : decode cX5_of 86 = .ok (.lreturn, 1) := dk_173 (dk_at dksX5_of_3 15 rfl rfl)
abbrev cX5_feed : ByteArray := prog_17_method_25_code
def yX5_feed : MethodName := ⟨RX5, "feed", "(I)I"⟩
def dkwX5_feed_2 : List UInt8 := [172]
abbrev dktX5_feed_2 : List UInt8 := dkwX5_feed_2 ++ []
def dkwX5_feed_1 : List UInt8 := [16, 252, 172, 42, 180, 0, 31, 42, 89, 180, 0, 173, 90, 4, 96, 181, 0, 173, 27, 79, 42, 180, 0, 173]
abbrev dktX5_feed_1 : List UInt8 := dkwX5_feed_1 ++ dktX5_feed_2
def dkwX5_feed_0 : List UInt8 := [27, 133, 10, 20, 0, 171, 184, 0, 99, 154, 0, 6, 16, 254, 172, 42, 180, 0, 173, 16, 120, 160, 0, 6]
abbrev dktX5_feed_0 : List UInt8 := dkwX5_feed_0 ++ dktX5_feed_1
theorem dksX5_feed_0 : cX5_feed.data.toList.drop 0 = dktX5_feed_0 := by decide +kernel
theorem dksX5_feed_1 : cX5_feed.data.toList.drop 24 = dktX5_feed_1 := dk_seg dksX5_feed_0 24 rfl rfl
theorem dksX5_feed_2 : cX5_feed.data.toList.drop 48 = dktX5_feed_2 := dk_seg dksX5_feed_1 24 rfl rfl
theorem dX5_feed_0 : decode cX5_feed 0 = .ok (.iload_n 1, 1) := dk_27 (dk_at dksX5_feed_0 0 rfl rfl)
theorem dX5_feed_1 : decode cX5_feed 1 = .ok (.i2l, 1) := dk_133 (dk_at dksX5_feed_0 1 rfl rfl)
theorem dX5_feed_2 : decode cX5_feed 2 = .ok (.lconst 1, 1) := dk_10 (dk_at dksX5_feed_0 2 rfl rfl)
theorem dX5_feed_3 : decode cX5_feed 3 = .ok (.ldc2_w 171, 3) := dk_20 0 171 (dk_at dksX5_feed_0 3 rfl rfl)
theorem dX5_feed_6 : decode cX5_feed 6 = .ok (.invokestatic 99, 3) := dk_184 0 99 (dk_at dksX5_feed_0 6 rfl rfl)
theorem dX5_feed_9 : decode cX5_feed 9 = .ok (.ifCond .ne 6, 3) := dk_154 0 6 (dk_at dksX5_feed_0 9 rfl rfl)
theorem dX5_feed_12 : decode cX5_feed 12 = .ok (.bipush (-2), 2) := dk_16 254 (dk_at dksX5_feed_0 12 rfl rfl)
theorem dX5_feed_14 : decode cX5_feed 14 = .ok (.ireturn, 1) := dk_172 (dk_at dksX5_feed_0 14 rfl rfl)
theorem dX5_feed_15 : decode cX5_feed 15 = .ok (.aload_n 0, 1) := dk_42 (dk_at dksX5_feed_0 15 rfl rfl)
theorem dX5_feed_16 : decode cX5_feed 16 = .ok (.getfield 173, 3) := dk_180 0 173 (dk_at dksX5_feed_0 16 rfl rfl)
theorem dX5_feed_19 : decode cX5_feed 19 = .ok (.bipush 120, 2) := dk_16 120 (dk_at dksX5_feed_0 19 rfl rfl)
theorem dX5_feed_21 : decode cX5_feed 21 = .ok (.if_icmp .ne 6, 3) := dk_160 0 6 (dk_at dksX5_feed_0 21 rfl rfl)
theorem dX5_feed_24 : decode cX5_feed 24 = .ok (.bipush (-4), 2) := dk_16 252 (dk_at dksX5_feed_1 0 rfl rfl)
theorem dX5_feed_26 : decode cX5_feed 26 = .ok (.ireturn, 1) := dk_172 (dk_at dksX5_feed_1 2 rfl rfl)
theorem dX5_feed_27 : decode cX5_feed 27 = .ok (.aload_n 0, 1) := dk_42 (dk_at dksX5_feed_1 3 rfl rfl)
theorem dX5_feed_28 : decode cX5_feed 28 = .ok (.getfield 31, 3) := dk_180 0 31 (dk_at dksX5_feed_1 4 rfl rfl)
theorem dX5_feed_31 : decode cX5_feed 31 = .ok (.aload_n 0, 1) := dk_42 (dk_at dksX5_feed_1 7 rfl rfl)
theorem dX5_feed_32 : decode cX5_feed 32 = .ok (.dup, 1) := dk_89 (dk_at dksX5_feed_1 8 rfl rfl)
theorem dX5_feed_33 : decode cX5_feed 33 = .ok (.getfield 173, 3) := dk_180 0 173 (dk_at dksX5_feed_1 9 rfl rfl)
theorem dX5_feed_36 : decode cX5_feed 36 = .ok (.dup_x1, 1) := dk_90 (dk_at dksX5_feed_1 12 rfl rfl)
theorem dX5_feed_37 : decode cX5_feed 37 = .ok (.iconst 1, 1) := dk_4 (dk_at dksX5_feed_1 13 rfl rfl)
theorem dX5_feed_38 : decode cX5_feed 38 = .ok (.iadd, 1) := dk_96 (dk_at dksX5_feed_1 14 rfl rfl)
theorem dX5_feed_39 : decode cX5_feed 39 = .ok (.putfield 173, 3) := dk_181 0 173 (dk_at dksX5_feed_1 15 rfl rfl)
theorem dX5_feed_42 : decode cX5_feed 42 = .ok (.iload_n 1, 1) := dk_27 (dk_at dksX5_feed_1 18 rfl rfl)
theorem dX5_feed_43 : decode cX5_feed 43 = .ok (.iastore, 1) := dk_79 (dk_at dksX5_feed_1 19 rfl rfl)
theorem dX5_feed_44 : decode cX5_feed 44 = .ok (.aload_n 0, 1) := dk_42 (dk_at dksX5_feed_1 20 rfl rfl)
theorem dX5_feed_45 : decode cX5_feed 45 = .ok (.getfield 173, 3) := dk_180 0 173 (dk_at dksX5_feed_1 21 rfl rfl)
theorem dX5_feed_48 : decode cX5_feed 48 = .ok (.ireturn, 1) := dk_172 (dk_at dksX5_feed_2 0 rfl rfl)
abbrev cX5_clear : ByteArray := prog_17_method_26_code
def yX5_clear : MethodName := ⟨RX5, "clear", "()I"⟩
def dkwX5_clear_0 : List UInt8 := [42, 180, 0, 173, 60, 42, 3, 181, 0, 173, 27, 172]
abbrev dktX5_clear_0 : List UInt8 := dkwX5_clear_0 ++ []
theorem dksX5_clear_0 : cX5_clear.data.toList.drop 0 = dktX5_clear_0 := by decide +kernel
theorem dX5_clear_0 : decode cX5_clear 0 = .ok (.aload_n 0, 1) := dk_42 (dk_at dksX5_clear_0 0 rfl rfl)
theorem dX5_clear_1 : decode cX5_clear 1 = .ok (.getfield 173, 3) := dk_180 0 173 (dk_at dksX5_clear_0 1 rfl rfl)
theorem dX5_clear_4 : decode cX5_clear 4 = .ok (.istore_n 1, 1) := dk_60 (dk_at dksX5_clear_0 4 rfl rfl)
theorem dX5_clear_5 : decode cX5_clear 5 = .ok (.aload_n 0, 1) := dk_42 (dk_at dksX5_clear_0 5 rfl rfl)
theorem dX5_clear_6 : decode cX5_clear 6 = .ok (.iconst 0, 1) := dk_3 (dk_at dksX5_clear_0 6 rfl rfl)
theorem dX5_clear_7 : decode cX5_clear 7 = .ok (.putfield 173, 3) := dk_181 0 173 (dk_at dksX5_clear_0 7 rfl rfl)
theorem dX5_clear_10 : decode cX5_clear 10 = .ok (.iload_n 1, 1) := dk_27 (dk_at dksX5_clear_0 10 rfl rfl)
theorem dX5_clear_11 : decode cX5_clear 11 = .ok (.ireturn, 1) := dk_172 (dk_at dksX5_clear_0 11 rfl rfl)
abbrev cX5_roads : ByteArray := prog_17_method_36_code
def yX5_roads : MethodName := ⟨RX5, "roads", "()I"⟩
def dkwX5_roads_3 : List UInt8 := [46, 42, 180, 0, 62, 28, 47, 182, 0, 145, 132, 2, 1, 167, 255, 189, 27, 172]
abbrev dktX5_roads_3 : List UInt8 := dkwX5_roads_3 ++ []
def dkwX5_roads_2 : List UInt8 := [28, 104, 4, 96, 46, 42, 180, 0, 59, 7, 28, 104, 5, 96, 46, 42, 180, 0, 59, 7, 28, 104, 6, 96]
abbrev dktX5_roads_2 : List UInt8 := dkwX5_roads_2 ++ dktX5_roads_3
def dkwX5_roads_1 : List UInt8 := [42, 180, 0, 9, 4, 92, 46, 91, 4, 96, 79, 42, 180, 0, 59, 7, 28, 104, 46, 42, 180, 0, 59, 7]
abbrev dktX5_roads_1 : List UInt8 := dkwX5_roads_1 ++ dktX5_roads_2
def dkwX5_roads_0 : List UInt8 := [42, 4, 182, 0, 211, 60, 27, 156, 0, 5, 27, 172, 42, 182, 0, 126, 3, 61, 28, 27, 162, 0, 68, 42]
abbrev dktX5_roads_0 : List UInt8 := dkwX5_roads_0 ++ dktX5_roads_1
theorem dksX5_roads_0 : cX5_roads.data.toList.drop 0 = dktX5_roads_0 := by decide +kernel
theorem dksX5_roads_1 : cX5_roads.data.toList.drop 24 = dktX5_roads_1 := dk_seg dksX5_roads_0 24 rfl rfl
theorem dksX5_roads_2 : cX5_roads.data.toList.drop 48 = dktX5_roads_2 := dk_seg dksX5_roads_1 24 rfl rfl
theorem dksX5_roads_3 : cX5_roads.data.toList.drop 72 = dktX5_roads_3 := dk_seg dksX5_roads_2 24 rfl rfl
theorem dX5_roads_0 : decode cX5_roads 0 = .ok (.aload_n 0, 1) := dk_42 (dk_at dksX5_roads_0 0 rfl rfl)
theorem dX5_roads_1 : decode cX5_roads 1 = .ok (.iconst 1, 1) := dk_4 (dk_at dksX5_roads_0 1 rfl rfl)
theorem dX5_roads_2 : decode cX5_roads 2 = .ok (.invokevirtual 211, 3) := dk_182 0 211 (dk_at dksX5_roads_0 2 rfl rfl)
theorem dX5_roads_5 : decode cX5_roads 5 = .ok (.istore_n 1, 1) := dk_60 (dk_at dksX5_roads_0 5 rfl rfl)
theorem dX5_roads_6 : decode cX5_roads 6 = .ok (.iload_n 1, 1) := dk_27 (dk_at dksX5_roads_0 6 rfl rfl)
theorem dX5_roads_7 : decode cX5_roads 7 = .ok (.ifCond .ge 5, 3) := dk_156 0 5 (dk_at dksX5_roads_0 7 rfl rfl)
theorem dX5_roads_10 : decode cX5_roads 10 = .ok (.iload_n 1, 1) := dk_27 (dk_at dksX5_roads_0 10 rfl rfl)
theorem dX5_roads_11 : decode cX5_roads 11 = .ok (.ireturn, 1) := dk_172 (dk_at dksX5_roads_0 11 rfl rfl)
theorem dX5_roads_12 : decode cX5_roads 12 = .ok (.aload_n 0, 1) := dk_42 (dk_at dksX5_roads_0 12 rfl rfl)
theorem dX5_roads_13 : decode cX5_roads 13 = .ok (.invokevirtual 126, 3) := dk_182 0 126 (dk_at dksX5_roads_0 13 rfl rfl)
theorem dX5_roads_16 : decode cX5_roads 16 = .ok (.iconst 0, 1) := dk_3 (dk_at dksX5_roads_0 16 rfl rfl)
theorem dX5_roads_17 : decode cX5_roads 17 = .ok (.istore_n 2, 1) := dk_61 (dk_at dksX5_roads_0 17 rfl rfl)
theorem dX5_roads_18 : decode cX5_roads 18 = .ok (.iload_n 2, 1) := dk_28 (dk_at dksX5_roads_0 18 rfl rfl)
theorem dX5_roads_19 : decode cX5_roads 19 = .ok (.iload_n 1, 1) := dk_27 (dk_at dksX5_roads_0 19 rfl rfl)
theorem dX5_roads_20 : decode cX5_roads 20 = .ok (.if_icmp .ge 68, 3) := dk_162 0 68 (dk_at dksX5_roads_0 20 rfl rfl)
theorem dX5_roads_23 : decode cX5_roads 23 = .ok (.aload_n 0, 1) := dk_42 (dk_at dksX5_roads_0 23 rfl rfl)
theorem dX5_roads_24 : decode cX5_roads 24 = .ok (.aload_n 0, 1) := dk_42 (dk_at dksX5_roads_1 0 rfl rfl)
theorem dX5_roads_25 : decode cX5_roads 25 = .ok (.getfield 9, 3) := dk_180 0 9 (dk_at dksX5_roads_1 1 rfl rfl)
theorem dX5_roads_28 : decode cX5_roads 28 = .ok (.iconst 1, 1) := dk_4 (dk_at dksX5_roads_1 4 rfl rfl)
theorem dX5_roads_29 : decode cX5_roads 29 = .ok (.dup2, 1) := dk_92 (dk_at dksX5_roads_1 5 rfl rfl)
theorem dX5_roads_30 : decode cX5_roads 30 = .ok (.iaload, 1) := dk_46 (dk_at dksX5_roads_1 6 rfl rfl)
theorem dX5_roads_31 : decode cX5_roads 31 = .ok (.dup_x2, 1) := dk_91 (dk_at dksX5_roads_1 7 rfl rfl)
theorem dX5_roads_32 : decode cX5_roads 32 = .ok (.iconst 1, 1) := dk_4 (dk_at dksX5_roads_1 8 rfl rfl)
theorem dX5_roads_33 : decode cX5_roads 33 = .ok (.iadd, 1) := dk_96 (dk_at dksX5_roads_1 9 rfl rfl)
theorem dX5_roads_34 : decode cX5_roads 34 = .ok (.iastore, 1) := dk_79 (dk_at dksX5_roads_1 10 rfl rfl)
theorem dX5_roads_35 : decode cX5_roads 35 = .ok (.aload_n 0, 1) := dk_42 (dk_at dksX5_roads_1 11 rfl rfl)
theorem dX5_roads_36 : decode cX5_roads 36 = .ok (.getfield 59, 3) := dk_180 0 59 (dk_at dksX5_roads_1 12 rfl rfl)
theorem dX5_roads_39 : decode cX5_roads 39 = .ok (.iconst 4, 1) := dk_7 (dk_at dksX5_roads_1 15 rfl rfl)
theorem dX5_roads_40 : decode cX5_roads 40 = .ok (.iload_n 2, 1) := dk_28 (dk_at dksX5_roads_1 16 rfl rfl)
theorem dX5_roads_41 : decode cX5_roads 41 = .ok (.imul, 1) := dk_104 (dk_at dksX5_roads_1 17 rfl rfl)
theorem dX5_roads_42 : decode cX5_roads 42 = .ok (.iaload, 1) := dk_46 (dk_at dksX5_roads_1 18 rfl rfl)
theorem dX5_roads_43 : decode cX5_roads 43 = .ok (.aload_n 0, 1) := dk_42 (dk_at dksX5_roads_1 19 rfl rfl)
theorem dX5_roads_44 : decode cX5_roads 44 = .ok (.getfield 59, 3) := dk_180 0 59 (dk_at dksX5_roads_1 20 rfl rfl)
theorem dX5_roads_47 : decode cX5_roads 47 = .ok (.iconst 4, 1) := dk_7 (dk_at dksX5_roads_1 23 rfl rfl)
theorem dX5_roads_48 : decode cX5_roads 48 = .ok (.iload_n 2, 1) := dk_28 (dk_at dksX5_roads_2 0 rfl rfl)
theorem dX5_roads_49 : decode cX5_roads 49 = .ok (.imul, 1) := dk_104 (dk_at dksX5_roads_2 1 rfl rfl)
theorem dX5_roads_50 : decode cX5_roads 50 = .ok (.iconst 1, 1) := dk_4 (dk_at dksX5_roads_2 2 rfl rfl)
theorem dX5_roads_51 : decode cX5_roads 51 = .ok (.iadd, 1) := dk_96 (dk_at dksX5_roads_2 3 rfl rfl)
theorem dX5_roads_52 : decode cX5_roads 52 = .ok (.iaload, 1) := dk_46 (dk_at dksX5_roads_2 4 rfl rfl)
theorem dX5_roads_53 : decode cX5_roads 53 = .ok (.aload_n 0, 1) := dk_42 (dk_at dksX5_roads_2 5 rfl rfl)
theorem dX5_roads_54 : decode cX5_roads 54 = .ok (.getfield 59, 3) := dk_180 0 59 (dk_at dksX5_roads_2 6 rfl rfl)
theorem dX5_roads_57 : decode cX5_roads 57 = .ok (.iconst 4, 1) := dk_7 (dk_at dksX5_roads_2 9 rfl rfl)
theorem dX5_roads_58 : decode cX5_roads 58 = .ok (.iload_n 2, 1) := dk_28 (dk_at dksX5_roads_2 10 rfl rfl)
theorem dX5_roads_59 : decode cX5_roads 59 = .ok (.imul, 1) := dk_104 (dk_at dksX5_roads_2 11 rfl rfl)
theorem dX5_roads_60 : decode cX5_roads 60 = .ok (.iconst 2, 1) := dk_5 (dk_at dksX5_roads_2 12 rfl rfl)
theorem dX5_roads_61 : decode cX5_roads 61 = .ok (.iadd, 1) := dk_96 (dk_at dksX5_roads_2 13 rfl rfl)
theorem dX5_roads_62 : decode cX5_roads 62 = .ok (.iaload, 1) := dk_46 (dk_at dksX5_roads_2 14 rfl rfl)
theorem dX5_roads_63 : decode cX5_roads 63 = .ok (.aload_n 0, 1) := dk_42 (dk_at dksX5_roads_2 15 rfl rfl)
theorem dX5_roads_64 : decode cX5_roads 64 = .ok (.getfield 59, 3) := dk_180 0 59 (dk_at dksX5_roads_2 16 rfl rfl)
theorem dX5_roads_67 : decode cX5_roads 67 = .ok (.iconst 4, 1) := dk_7 (dk_at dksX5_roads_2 19 rfl rfl)
theorem dX5_roads_68 : decode cX5_roads 68 = .ok (.iload_n 2, 1) := dk_28 (dk_at dksX5_roads_2 20 rfl rfl)
theorem dX5_roads_69 : decode cX5_roads 69 = .ok (.imul, 1) := dk_104 (dk_at dksX5_roads_2 21 rfl rfl)
theorem dX5_roads_70 : decode cX5_roads 70 = .ok (.iconst 3, 1) := dk_6 (dk_at dksX5_roads_2 22 rfl rfl)
theorem dX5_roads_71 : decode cX5_roads 71 = .ok (.iadd, 1) := dk_96 (dk_at dksX5_roads_2 23 rfl rfl)
theorem dX5_roads_72 : decode cX5_roads 72 = .ok (.iaload, 1) := dk_46 (dk_at dksX5_roads_3 0 rfl rfl)
theorem dX5_roads_73 : decode cX5_roads 73 = .ok (.aload_n 0, 1) := dk_42 (dk_at dksX5_roads_3 1 rfl rfl)
theorem dX5_roads_74 : decode cX5_roads 74 = .ok (.getfield 62, 3) := dk_180 0 62 (dk_at dksX5_roads_3 2 rfl rfl)
theorem dX5_roads_77 : decode cX5_roads 77 = .ok (.iload_n 2, 1) := dk_28 (dk_at dksX5_roads_3 5 rfl rfl)
theorem dX5_roads_78 : decode cX5_roads 78 = .ok (.laload, 1) := dk_47 (dk_at dksX5_roads_3 6 rfl rfl)
theorem dX5_roads_79 : decode cX5_roads 79 = .ok (.invokevirtual 145, 3) := dk_182 0 145 (dk_at dksX5_roads_3 7 rfl rfl)
theorem dX5_roads_82 : decode cX5_roads 82 = .ok (.iinc 2 1, 3) := dk_132 2 1 (dk_at dksX5_roads_3 10 rfl rfl)
theorem dX5_roads_85 : decode cX5_roads 85 = .ok (.goto (-67), 3) := dk_167 255 189 (dk_at dksX5_roads_3 13 rfl rfl)
theorem dX5_roads_88 : decode cX5_roads 88 = .ok (.iload_n 1, 1) := dk_27 (dk_at dksX5_roads_3 16 rfl rfl)
theorem dX5_roads_89 : decode cX5_roads 89 = .ok (.ireturn, 1) := dk_172 (dk_at dksX5_roads_3 17 rfl rfl)
abbrev cX5_reads : ByteArray := prog_17_method_35_code
def yX5_reads : MethodName := ⟨RX5, "reads", "(Z)I"⟩
def dkwX5_reads_4 : List UInt8 := [16, 156, 42, 180, 0, 176, 100, 167, 0, 4, 28, 172]
abbrev dktX5_reads_4 : List UInt8 := dkwX5_reads_4 ++ []
def dkwX5_reads_3 : List UInt8 := [162, 0, 11, 42, 42, 180, 0, 179, 182, 0, 185, 42, 3, 181, 0, 173, 42, 180, 0, 176, 155, 0, 13]
abbrev dktX5_reads_3 : List UInt8 := dkwX5_reads_3 ++ dktX5_reads_4
def dkwX5_reads_2 : List UInt8 := [182, 0, 208, 132, 2, 1, 42, 16, 59, 182, 0, 182, 154, 255, 231, 42, 180, 0, 179, 42, 180, 0, 173]
abbrev dktX5_reads_2 : List UInt8 := dkwX5_reads_2 ++ dktX5_reads_3
def dkwX5_reads_1 : List UInt8 := [29, 3, 79, 132, 3, 1, 167, 255, 240, 27, 153, 0, 11, 42, 28, 182, 0, 205, 167, 0, 7, 42]
abbrev dktX5_reads_1 : List UInt8 := dkwX5_reads_1 ++ dktX5_reads_2
def dkwX5_reads_0 : List UInt8 := [42, 3, 181, 0, 179, 42, 2, 181, 0, 176, 3, 61, 3, 62, 29, 16, 16, 162, 0, 16, 42, 180, 0, 59]
abbrev dktX5_reads_0 : List UInt8 := dkwX5_reads_0 ++ dktX5_reads_1
theorem dksX5_reads_0 : cX5_reads.data.toList.drop 0 = dktX5_reads_0 := by decide +kernel
theorem dksX5_reads_1 : cX5_reads.data.toList.drop 24 = dktX5_reads_1 := dk_seg dksX5_reads_0 24 rfl rfl
theorem dksX5_reads_2 : cX5_reads.data.toList.drop 46 = dktX5_reads_2 := dk_seg dksX5_reads_1 22 rfl rfl
theorem dksX5_reads_3 : cX5_reads.data.toList.drop 69 = dktX5_reads_3 := dk_seg dksX5_reads_2 23 rfl rfl
theorem dksX5_reads_4 : cX5_reads.data.toList.drop 92 = dktX5_reads_4 := dk_seg dksX5_reads_3 23 rfl rfl
theorem dX5_reads_0 : decode cX5_reads 0 = .ok (.aload_n 0, 1) := dk_42 (dk_at dksX5_reads_0 0 rfl rfl)
theorem dX5_reads_1 : decode cX5_reads 1 = .ok (.iconst 0, 1) := dk_3 (dk_at dksX5_reads_0 1 rfl rfl)
theorem dX5_reads_2 : decode cX5_reads 2 = .ok (.putfield 179, 3) := dk_181 0 179 (dk_at dksX5_reads_0 2 rfl rfl)
theorem dX5_reads_5 : decode cX5_reads 5 = .ok (.aload_n 0, 1) := dk_42 (dk_at dksX5_reads_0 5 rfl rfl)
theorem dX5_reads_6 : decode cX5_reads 6 = .ok (.iconst (-1), 1) := dk_2 (dk_at dksX5_reads_0 6 rfl rfl)
theorem dX5_reads_7 : decode cX5_reads 7 = .ok (.putfield 176, 3) := dk_181 0 176 (dk_at dksX5_reads_0 7 rfl rfl)
theorem dX5_reads_10 : decode cX5_reads 10 = .ok (.iconst 0, 1) := dk_3 (dk_at dksX5_reads_0 10 rfl rfl)
theorem dX5_reads_11 : decode cX5_reads 11 = .ok (.istore_n 2, 1) := dk_61 (dk_at dksX5_reads_0 11 rfl rfl)
theorem dX5_reads_12 : decode cX5_reads 12 = .ok (.iconst 0, 1) := dk_3 (dk_at dksX5_reads_0 12 rfl rfl)
theorem dX5_reads_13 : decode cX5_reads 13 = .ok (.istore_n 3, 1) := dk_62 (dk_at dksX5_reads_0 13 rfl rfl)
theorem dX5_reads_14 : decode cX5_reads 14 = .ok (.iload_n 3, 1) := dk_29 (dk_at dksX5_reads_0 14 rfl rfl)
theorem dX5_reads_15 : decode cX5_reads 15 = .ok (.bipush 16, 2) := dk_16 16 (dk_at dksX5_reads_0 15 rfl rfl)
theorem dX5_reads_17 : decode cX5_reads 17 = .ok (.if_icmp .ge 16, 3) := dk_162 0 16 (dk_at dksX5_reads_0 17 rfl rfl)
theorem dX5_reads_20 : decode cX5_reads 20 = .ok (.aload_n 0, 1) := dk_42 (dk_at dksX5_reads_0 20 rfl rfl)
theorem dX5_reads_21 : decode cX5_reads 21 = .ok (.getfield 59, 3) := dk_180 0 59 (dk_at dksX5_reads_0 21 rfl rfl)
theorem dX5_reads_24 : decode cX5_reads 24 = .ok (.iload_n 3, 1) := dk_29 (dk_at dksX5_reads_1 0 rfl rfl)
theorem dX5_reads_25 : decode cX5_reads 25 = .ok (.iconst 0, 1) := dk_3 (dk_at dksX5_reads_1 1 rfl rfl)
theorem dX5_reads_26 : decode cX5_reads 26 = .ok (.iastore, 1) := dk_79 (dk_at dksX5_reads_1 2 rfl rfl)
theorem dX5_reads_27 : decode cX5_reads 27 = .ok (.iinc 3 1, 3) := dk_132 3 1 (dk_at dksX5_reads_1 3 rfl rfl)
theorem dX5_reads_30 : decode cX5_reads 30 = .ok (.goto (-16), 3) := dk_167 255 240 (dk_at dksX5_reads_1 6 rfl rfl)
theorem dX5_reads_33 : decode cX5_reads 33 = .ok (.iload_n 1, 1) := dk_27 (dk_at dksX5_reads_1 9 rfl rfl)
theorem dX5_reads_34 : decode cX5_reads 34 = .ok (.ifCond .eq 11, 3) := dk_153 0 11 (dk_at dksX5_reads_1 10 rfl rfl)
theorem dX5_reads_37 : decode cX5_reads 37 = .ok (.aload_n 0, 1) := dk_42 (dk_at dksX5_reads_1 13 rfl rfl)
theorem dX5_reads_38 : decode cX5_reads 38 = .ok (.iload_n 2, 1) := dk_28 (dk_at dksX5_reads_1 14 rfl rfl)
theorem dX5_reads_39 : decode cX5_reads 39 = .ok (.invokevirtual 205, 3) := dk_182 0 205 (dk_at dksX5_reads_1 15 rfl rfl)
theorem dX5_reads_42 : decode cX5_reads 42 = .ok (.goto 7, 3) := dk_167 0 7 (dk_at dksX5_reads_1 18 rfl rfl)
theorem dX5_reads_45 : decode cX5_reads 45 = .ok (.aload_n 0, 1) := dk_42 (dk_at dksX5_reads_1 21 rfl rfl)
theorem dX5_reads_46 : decode cX5_reads 46 = .ok (.invokevirtual 208, 3) := dk_182 0 208 (dk_at dksX5_reads_2 0 rfl rfl)
theorem dX5_reads_49 : decode cX5_reads 49 = .ok (.iinc 2 1, 3) := dk_132 2 1 (dk_at dksX5_reads_2 3 rfl rfl)
theorem dX5_reads_52 : decode cX5_reads 52 = .ok (.aload_n 0, 1) := dk_42 (dk_at dksX5_reads_2 6 rfl rfl)
theorem dX5_reads_53 : decode cX5_reads 53 = .ok (.bipush 59, 2) := dk_16 59 (dk_at dksX5_reads_2 7 rfl rfl)
theorem dX5_reads_55 : decode cX5_reads 55 = .ok (.invokevirtual 182, 3) := dk_182 0 182 (dk_at dksX5_reads_2 9 rfl rfl)
theorem dX5_reads_58 : decode cX5_reads 58 = .ok (.ifCond .ne (-25), 3) := dk_154 255 231 (dk_at dksX5_reads_2 12 rfl rfl)
theorem dX5_reads_61 : decode cX5_reads 61 = .ok (.aload_n 0, 1) := dk_42 (dk_at dksX5_reads_2 15 rfl rfl)
theorem dX5_reads_62 : decode cX5_reads 62 = .ok (.getfield 179, 3) := dk_180 0 179 (dk_at dksX5_reads_2 16 rfl rfl)
theorem dX5_reads_65 : decode cX5_reads 65 = .ok (.aload_n 0, 1) := dk_42 (dk_at dksX5_reads_2 19 rfl rfl)
theorem dX5_reads_66 : decode cX5_reads 66 = .ok (.getfield 173, 3) := dk_180 0 173 (dk_at dksX5_reads_2 20 rfl rfl)
theorem dX5_reads_69 : decode cX5_reads 69 = .ok (.if_icmp .ge 11, 3) := dk_162 0 11 (dk_at dksX5_reads_3 0 rfl rfl)
theorem dX5_reads_72 : decode cX5_reads 72 = .ok (.aload_n 0, 1) := dk_42 (dk_at dksX5_reads_3 3 rfl rfl)
theorem dX5_reads_73 : decode cX5_reads 73 = .ok (.aload_n 0, 1) := dk_42 (dk_at dksX5_reads_3 4 rfl rfl)
theorem dX5_reads_74 : decode cX5_reads 74 = .ok (.getfield 179, 3) := dk_180 0 179 (dk_at dksX5_reads_3 5 rfl rfl)
theorem dX5_reads_77 : decode cX5_reads 77 = .ok (.invokevirtual 185, 3) := dk_182 0 185 (dk_at dksX5_reads_3 8 rfl rfl)
theorem dX5_reads_80 : decode cX5_reads 80 = .ok (.aload_n 0, 1) := dk_42 (dk_at dksX5_reads_3 11 rfl rfl)
theorem dX5_reads_81 : decode cX5_reads 81 = .ok (.iconst 0, 1) := dk_3 (dk_at dksX5_reads_3 12 rfl rfl)
theorem dX5_reads_82 : decode cX5_reads 82 = .ok (.putfield 173, 3) := dk_181 0 173 (dk_at dksX5_reads_3 13 rfl rfl)
theorem dX5_reads_85 : decode cX5_reads 85 = .ok (.aload_n 0, 1) := dk_42 (dk_at dksX5_reads_3 16 rfl rfl)
theorem dX5_reads_86 : decode cX5_reads 86 = .ok (.getfield 176, 3) := dk_180 0 176 (dk_at dksX5_reads_3 17 rfl rfl)
theorem dX5_reads_89 : decode cX5_reads 89 = .ok (.ifCond .lt 13, 3) := dk_155 0 13 (dk_at dksX5_reads_3 20 rfl rfl)
theorem dX5_reads_92 : decode cX5_reads 92 = .ok (.bipush (-100), 2) := dk_16 156 (dk_at dksX5_reads_4 0 rfl rfl)
theorem dX5_reads_94 : decode cX5_reads 94 = .ok (.aload_n 0, 1) := dk_42 (dk_at dksX5_reads_4 2 rfl rfl)
theorem dX5_reads_95 : decode cX5_reads 95 = .ok (.getfield 176, 3) := dk_180 0 176 (dk_at dksX5_reads_4 3 rfl rfl)
theorem dX5_reads_98 : decode cX5_reads 98 = .ok (.isub, 1) := dk_100 (dk_at dksX5_reads_4 6 rfl rfl)
theorem dX5_reads_99 : decode cX5_reads 99 = .ok (.goto 4, 3) := dk_167 0 4 (dk_at dksX5_reads_4 7 rfl rfl)
theorem dX5_reads_102 : decode cX5_reads 102 = .ok (.iload_n 2, 1) := dk_28 (dk_at dksX5_reads_4 10 rfl rfl)
theorem dX5_reads_103 : decode cX5_reads 103 = .ok (.ireturn, 1) := dk_172 (dk_at dksX5_reads_4 11 rfl rfl)
abbrev cX5_readRoad : ByteArray := prog_17_method_33_code
def yX5_readRoad : MethodName := ⟨RX5, "readRoad", "(I)V"⟩
def dkwX5_readRoad_9 : List UInt8 := [22, 7, 80, 177]
abbrev dktX5_readRoad_9 : List UInt8 := dkwX5_readRoad_9 ++ []
def dkwX5_readRoad_8 : List UInt8 := [27, 104, 5, 96, 21, 4, 79, 42, 180, 0, 59, 7, 27, 104, 6, 96, 21, 6, 79, 42, 180, 0, 62, 27]
abbrev dktX5_readRoad_8 : List UInt8 := dkwX5_readRoad_8 ++ dktX5_readRoad_9
def dkwX5_readRoad_7 : List UInt8 := [180, 0, 59, 7, 27, 104, 28, 79, 42, 180, 0, 59, 7, 27, 104, 4, 96, 29, 79, 42, 180, 0, 59, 7]
abbrev dktX5_readRoad_7 : List UInt8 := dkwX5_readRoad_7 ++ dktX5_readRoad_8
def dkwX5_readRoad_6 : List UInt8 := [153, 0, 9, 22, 7, 117, 167, 0, 5, 22, 7, 55, 7, 42, 180, 0, 176, 155, 0, 4, 177, 42]
abbrev dktX5_readRoad_6 : List UInt8 := dkwX5_readRoad_6 ++ dktX5_readRoad_7
def dkwX5_readRoad_5 : List UInt8 := [153, 0, 35, 42, 16, 45, 182, 0, 182, 54, 9, 42, 16, 9, 182, 0, 196, 133, 55, 7, 21, 9]
abbrev dktX5_readRoad_5 : List UInt8 := dkwX5_readRoad_5 ++ dktX5_readRoad_6
def dkwX5_readRoad_4 : List UInt8 := [21, 6, 21, 4, 162, 0, 9, 42, 21, 5, 182, 0, 185, 9, 55, 7, 42, 16, 42, 182, 0, 182]
abbrev dktX5_readRoad_4 : List UInt8 := dkwX5_readRoad_4 ++ dktX5_readRoad_5
def dkwX5_readRoad_3 : List UInt8 := [182, 0, 182, 153, 0, 20, 21, 6, 54, 4, 42, 180, 0, 179, 54, 5, 42, 5, 182, 0, 196, 54, 6]
abbrev dktX5_readRoad_3 : List UInt8 := dkwX5_readRoad_3 ++ dktX5_readRoad_4
def dkwX5_readRoad_2 : List UInt8 := [16, 58, 182, 0, 202, 3, 54, 4, 42, 180, 0, 179, 54, 5, 42, 5, 182, 0, 196, 54, 6, 42, 16, 45]
abbrev dktX5_readRoad_2 : List UInt8 := dkwX5_readRoad_2 ++ dktX5_readRoad_3
def dkwX5_readRoad_1 : List UInt8 := [155, 0, 4, 177, 42, 2, 182, 0, 199, 61, 42, 16, 62, 182, 0, 202, 42, 28, 182, 0, 199, 62, 42]
abbrev dktX5_readRoad_1 : List UInt8 := dkwX5_readRoad_1 ++ dktX5_readRoad_2
def dkwX5_readRoad_0 : List UInt8 := [42, 182, 0, 107, 27, 96, 16, 24, 161, 0, 11, 42, 42, 180, 0, 179, 182, 0, 185, 42, 180, 0, 176]
abbrev dktX5_readRoad_0 : List UInt8 := dkwX5_readRoad_0 ++ dktX5_readRoad_1
theorem dksX5_readRoad_0 : cX5_readRoad.data.toList.drop 0 = dktX5_readRoad_0 := by decide +kernel
theorem dksX5_readRoad_1 : cX5_readRoad.data.toList.drop 23 = dktX5_readRoad_1 := dk_seg dksX5_readRoad_0 23 rfl rfl
theorem dksX5_readRoad_2 : cX5_readRoad.data.toList.drop 46 = dktX5_readRoad_2 := dk_seg dksX5_readRoad_1 23 rfl rfl
theorem dksX5_readRoad_3 : cX5_readRoad.data.toList.drop 70 = dktX5_readRoad_3 := dk_seg dksX5_readRoad_2 24 rfl rfl
theorem dksX5_readRoad_4 : cX5_readRoad.data.toList.drop 93 = dktX5_readRoad_4 := dk_seg dksX5_readRoad_3 23 rfl rfl
theorem dksX5_readRoad_5 : cX5_readRoad.data.toList.drop 115 = dktX5_readRoad_5 := dk_seg dksX5_readRoad_4 22 rfl rfl
theorem dksX5_readRoad_6 : cX5_readRoad.data.toList.drop 137 = dktX5_readRoad_6 := dk_seg dksX5_readRoad_5 22 rfl rfl
theorem dksX5_readRoad_7 : cX5_readRoad.data.toList.drop 159 = dktX5_readRoad_7 := dk_seg dksX5_readRoad_6 22 rfl rfl
theorem dksX5_readRoad_8 : cX5_readRoad.data.toList.drop 183 = dktX5_readRoad_8 := dk_seg dksX5_readRoad_7 24 rfl rfl
theorem dksX5_readRoad_9 : cX5_readRoad.data.toList.drop 207 = dktX5_readRoad_9 := dk_seg dksX5_readRoad_8 24 rfl rfl
theorem dX5_readRoad_0 : decode cX5_readRoad 0 = .ok (.aload_n 0, 1) := dk_42 (dk_at dksX5_readRoad_0 0 rfl rfl)
theorem dX5_readRoad_1 : decode cX5_readRoad 1 = .ok (.invokevirtual 107, 3) := dk_182 0 107 (dk_at dksX5_readRoad_0 1 rfl rfl)
theorem dX5_readRoad_4 : decode cX5_readRoad 4 = .ok (.iload_n 1, 1) := dk_27 (dk_at dksX5_readRoad_0 4 rfl rfl)
theorem dX5_readRoad_5 : decode cX5_readRoad 5 = .ok (.iadd, 1) := dk_96 (dk_at dksX5_readRoad_0 5 rfl rfl)
theorem dX5_readRoad_6 : decode cX5_readRoad 6 = .ok (.bipush 24, 2) := dk_16 24 (dk_at dksX5_readRoad_0 6 rfl rfl)
theorem dX5_readRoad_8 : decode cX5_readRoad 8 = .ok (.if_icmp .lt 11, 3) := dk_161 0 11 (dk_at dksX5_readRoad_0 8 rfl rfl)
theorem dX5_readRoad_11 : decode cX5_readRoad 11 = .ok (.aload_n 0, 1) := dk_42 (dk_at dksX5_readRoad_0 11 rfl rfl)
theorem dX5_readRoad_12 : decode cX5_readRoad 12 = .ok (.aload_n 0, 1) := dk_42 (dk_at dksX5_readRoad_0 12 rfl rfl)
theorem dX5_readRoad_13 : decode cX5_readRoad 13 = .ok (.getfield 179, 3) := dk_180 0 179 (dk_at dksX5_readRoad_0 13 rfl rfl)
theorem dX5_readRoad_16 : decode cX5_readRoad 16 = .ok (.invokevirtual 185, 3) := dk_182 0 185 (dk_at dksX5_readRoad_0 16 rfl rfl)
theorem dX5_readRoad_19 : decode cX5_readRoad 19 = .ok (.aload_n 0, 1) := dk_42 (dk_at dksX5_readRoad_0 19 rfl rfl)
theorem dX5_readRoad_20 : decode cX5_readRoad 20 = .ok (.getfield 176, 3) := dk_180 0 176 (dk_at dksX5_readRoad_0 20 rfl rfl)
theorem dX5_readRoad_23 : decode cX5_readRoad 23 = .ok (.ifCond .lt 4, 3) := dk_155 0 4 (dk_at dksX5_readRoad_1 0 rfl rfl)
theorem dX5_readRoad_26 : decode cX5_readRoad 26 = .ok (.return_, 1) := dk_177 (dk_at dksX5_readRoad_1 3 rfl rfl)
theorem dX5_readRoad_27 : decode cX5_readRoad 27 = .ok (.aload_n 0, 1) := dk_42 (dk_at dksX5_readRoad_1 4 rfl rfl)
theorem dX5_readRoad_28 : decode cX5_readRoad 28 = .ok (.iconst (-1), 1) := dk_2 (dk_at dksX5_readRoad_1 5 rfl rfl)
theorem dX5_readRoad_29 : decode cX5_readRoad 29 = .ok (.invokevirtual 199, 3) := dk_182 0 199 (dk_at dksX5_readRoad_1 6 rfl rfl)
theorem dX5_readRoad_32 : decode cX5_readRoad 32 = .ok (.istore_n 2, 1) := dk_61 (dk_at dksX5_readRoad_1 9 rfl rfl)
theorem dX5_readRoad_33 : decode cX5_readRoad 33 = .ok (.aload_n 0, 1) := dk_42 (dk_at dksX5_readRoad_1 10 rfl rfl)
theorem dX5_readRoad_34 : decode cX5_readRoad 34 = .ok (.bipush 62, 2) := dk_16 62 (dk_at dksX5_readRoad_1 11 rfl rfl)
theorem dX5_readRoad_36 : decode cX5_readRoad 36 = .ok (.invokevirtual 202, 3) := dk_182 0 202 (dk_at dksX5_readRoad_1 13 rfl rfl)
theorem dX5_readRoad_39 : decode cX5_readRoad 39 = .ok (.aload_n 0, 1) := dk_42 (dk_at dksX5_readRoad_1 16 rfl rfl)
theorem dX5_readRoad_40 : decode cX5_readRoad 40 = .ok (.iload_n 2, 1) := dk_28 (dk_at dksX5_readRoad_1 17 rfl rfl)
theorem dX5_readRoad_41 : decode cX5_readRoad 41 = .ok (.invokevirtual 199, 3) := dk_182 0 199 (dk_at dksX5_readRoad_1 18 rfl rfl)
theorem dX5_readRoad_44 : decode cX5_readRoad 44 = .ok (.istore_n 3, 1) := dk_62 (dk_at dksX5_readRoad_1 21 rfl rfl)
theorem dX5_readRoad_45 : decode cX5_readRoad 45 = .ok (.aload_n 0, 1) := dk_42 (dk_at dksX5_readRoad_1 22 rfl rfl)
theorem dX5_readRoad_46 : decode cX5_readRoad 46 = .ok (.bipush 58, 2) := dk_16 58 (dk_at dksX5_readRoad_2 0 rfl rfl)
theorem dX5_readRoad_48 : decode cX5_readRoad 48 = .ok (.invokevirtual 202, 3) := dk_182 0 202 (dk_at dksX5_readRoad_2 2 rfl rfl)
theorem dX5_readRoad_51 : decode cX5_readRoad 51 = .ok (.iconst 0, 1) := dk_3 (dk_at dksX5_readRoad_2 5 rfl rfl)
theorem dX5_readRoad_52 : decode cX5_readRoad 52 = .ok (.istore 4, 2) := dk_54 4 (dk_at dksX5_readRoad_2 6 rfl rfl)
theorem dX5_readRoad_54 : decode cX5_readRoad 54 = .ok (.aload_n 0, 1) := dk_42 (dk_at dksX5_readRoad_2 8 rfl rfl)
theorem dX5_readRoad_55 : decode cX5_readRoad 55 = .ok (.getfield 179, 3) := dk_180 0 179 (dk_at dksX5_readRoad_2 9 rfl rfl)
theorem dX5_readRoad_58 : decode cX5_readRoad 58 = .ok (.istore 5, 2) := dk_54 5 (dk_at dksX5_readRoad_2 12 rfl rfl)
theorem dX5_readRoad_60 : decode cX5_readRoad 60 = .ok (.aload_n 0, 1) := dk_42 (dk_at dksX5_readRoad_2 14 rfl rfl)
theorem dX5_readRoad_61 : decode cX5_readRoad 61 = .ok (.iconst 2, 1) := dk_5 (dk_at dksX5_readRoad_2 15 rfl rfl)
theorem dX5_readRoad_62 : decode cX5_readRoad 62 = .ok (.invokevirtual 196, 3) := dk_182 0 196 (dk_at dksX5_readRoad_2 16 rfl rfl)
theorem dX5_readRoad_65 : decode cX5_readRoad 65 = .ok (.istore 6, 2) := dk_54 6 (dk_at dksX5_readRoad_2 19 rfl rfl)
theorem dX5_readRoad_67 : decode cX5_readRoad 67 = .ok (.aload_n 0, 1) := dk_42 (dk_at dksX5_readRoad_2 21 rfl rfl)
theorem dX5_readRoad_68 : decode cX5_readRoad 68 = .ok (.bipush 45, 2) := dk_16 45 (dk_at dksX5_readRoad_2 22 rfl rfl)
theorem dX5_readRoad_70 : decode cX5_readRoad 70 = .ok (.invokevirtual 182, 3) := dk_182 0 182 (dk_at dksX5_readRoad_3 0 rfl rfl)
theorem dX5_readRoad_73 : decode cX5_readRoad 73 = .ok (.ifCond .eq 20, 3) := dk_153 0 20 (dk_at dksX5_readRoad_3 3 rfl rfl)
theorem dX5_readRoad_76 : decode cX5_readRoad 76 = .ok (.iload 6, 2) := dk_21 6 (dk_at dksX5_readRoad_3 6 rfl rfl)
theorem dX5_readRoad_78 : decode cX5_readRoad 78 = .ok (.istore 4, 2) := dk_54 4 (dk_at dksX5_readRoad_3 8 rfl rfl)
theorem dX5_readRoad_80 : decode cX5_readRoad 80 = .ok (.aload_n 0, 1) := dk_42 (dk_at dksX5_readRoad_3 10 rfl rfl)
theorem dX5_readRoad_81 : decode cX5_readRoad 81 = .ok (.getfield 179, 3) := dk_180 0 179 (dk_at dksX5_readRoad_3 11 rfl rfl)
theorem dX5_readRoad_84 : decode cX5_readRoad 84 = .ok (.istore 5, 2) := dk_54 5 (dk_at dksX5_readRoad_3 14 rfl rfl)
theorem dX5_readRoad_86 : decode cX5_readRoad 86 = .ok (.aload_n 0, 1) := dk_42 (dk_at dksX5_readRoad_3 16 rfl rfl)
theorem dX5_readRoad_87 : decode cX5_readRoad 87 = .ok (.iconst 2, 1) := dk_5 (dk_at dksX5_readRoad_3 17 rfl rfl)
theorem dX5_readRoad_88 : decode cX5_readRoad 88 = .ok (.invokevirtual 196, 3) := dk_182 0 196 (dk_at dksX5_readRoad_3 18 rfl rfl)
theorem dX5_readRoad_91 : decode cX5_readRoad 91 = .ok (.istore 6, 2) := dk_54 6 (dk_at dksX5_readRoad_3 21 rfl rfl)
theorem dX5_readRoad_93 : decode cX5_readRoad 93 = .ok (.iload 6, 2) := dk_21 6 (dk_at dksX5_readRoad_4 0 rfl rfl)
theorem dX5_readRoad_95 : decode cX5_readRoad 95 = .ok (.iload 4, 2) := dk_21 4 (dk_at dksX5_readRoad_4 2 rfl rfl)
theorem dX5_readRoad_97 : decode cX5_readRoad 97 = .ok (.if_icmp .ge 9, 3) := dk_162 0 9 (dk_at dksX5_readRoad_4 4 rfl rfl)
theorem dX5_readRoad_100 : decode cX5_readRoad 100 = .ok (.aload_n 0, 1) := dk_42 (dk_at dksX5_readRoad_4 7 rfl rfl)
theorem dX5_readRoad_101 : decode cX5_readRoad 101 = .ok (.iload 5, 2) := dk_21 5 (dk_at dksX5_readRoad_4 8 rfl rfl)
theorem dX5_readRoad_103 : decode cX5_readRoad 103 = .ok (.invokevirtual 185, 3) := dk_182 0 185 (dk_at dksX5_readRoad_4 10 rfl rfl)
theorem dX5_readRoad_106 : decode cX5_readRoad 106 = .ok (.lconst 0, 1) := dk_9 (dk_at dksX5_readRoad_4 13 rfl rfl)
theorem dX5_readRoad_107 : decode cX5_readRoad 107 = .ok (.lstore 7, 2) := dk_55 7 (dk_at dksX5_readRoad_4 14 rfl rfl)
theorem dX5_readRoad_109 : decode cX5_readRoad 109 = .ok (.aload_n 0, 1) := dk_42 (dk_at dksX5_readRoad_4 16 rfl rfl)
theorem dX5_readRoad_110 : decode cX5_readRoad 110 = .ok (.bipush 42, 2) := dk_16 42 (dk_at dksX5_readRoad_4 17 rfl rfl)
theorem dX5_readRoad_112 : decode cX5_readRoad 112 = .ok (.invokevirtual 182, 3) := dk_182 0 182 (dk_at dksX5_readRoad_4 19 rfl rfl)
theorem dX5_readRoad_115 : decode cX5_readRoad 115 = .ok (.ifCond .eq 35, 3) := dk_153 0 35 (dk_at dksX5_readRoad_5 0 rfl rfl)
theorem dX5_readRoad_118 : decode cX5_readRoad 118 = .ok (.aload_n 0, 1) := dk_42 (dk_at dksX5_readRoad_5 3 rfl rfl)
theorem dX5_readRoad_119 : decode cX5_readRoad 119 = .ok (.bipush 45, 2) := dk_16 45 (dk_at dksX5_readRoad_5 4 rfl rfl)
theorem dX5_readRoad_121 : decode cX5_readRoad 121 = .ok (.invokevirtual 182, 3) := dk_182 0 182 (dk_at dksX5_readRoad_5 6 rfl rfl)
theorem dX5_readRoad_124 : decode cX5_readRoad 124 = .ok (.istore 9, 2) := dk_54 9 (dk_at dksX5_readRoad_5 9 rfl rfl)
theorem dX5_readRoad_126 : decode cX5_readRoad 126 = .ok (.aload_n 0, 1) := dk_42 (dk_at dksX5_readRoad_5 11 rfl rfl)
theorem dX5_readRoad_127 : decode cX5_readRoad 127 = .ok (.bipush 9, 2) := dk_16 9 (dk_at dksX5_readRoad_5 12 rfl rfl)
theorem dX5_readRoad_129 : decode cX5_readRoad 129 = .ok (.invokevirtual 196, 3) := dk_182 0 196 (dk_at dksX5_readRoad_5 14 rfl rfl)
theorem dX5_readRoad_132 : decode cX5_readRoad 132 = .ok (.i2l, 1) := dk_133 (dk_at dksX5_readRoad_5 17 rfl rfl)
theorem dX5_readRoad_133 : decode cX5_readRoad 133 = .ok (.lstore 7, 2) := dk_55 7 (dk_at dksX5_readRoad_5 18 rfl rfl)
theorem dX5_readRoad_135 : decode cX5_readRoad 135 = .ok (.iload 9, 2) := dk_21 9 (dk_at dksX5_readRoad_5 20 rfl rfl)
theorem dX5_readRoad_137 : decode cX5_readRoad 137 = .ok (.ifCond .eq 9, 3) := dk_153 0 9 (dk_at dksX5_readRoad_6 0 rfl rfl)
theorem dX5_readRoad_140 : decode cX5_readRoad 140 = .ok (.lload 7, 2) := dk_22 7 (dk_at dksX5_readRoad_6 3 rfl rfl)
theorem dX5_readRoad_142 : decode cX5_readRoad 142 = .ok (.lneg, 1) := dk_117 (dk_at dksX5_readRoad_6 5 rfl rfl)
theorem dX5_readRoad_143 : decode cX5_readRoad 143 = .ok (.goto 5, 3) := dk_167 0 5 (dk_at dksX5_readRoad_6 6 rfl rfl)
theorem dX5_readRoad_146 : decode cX5_readRoad 146 = .ok (.lload 7, 2) := dk_22 7 (dk_at dksX5_readRoad_6 9 rfl rfl)
theorem dX5_readRoad_148 : decode cX5_readRoad 148 = .ok (.lstore 7, 2) := dk_55 7 (dk_at dksX5_readRoad_6 11 rfl rfl)
theorem dX5_readRoad_150 : decode cX5_readRoad 150 = .ok (.aload_n 0, 1) := dk_42 (dk_at dksX5_readRoad_6 13 rfl rfl)
theorem dX5_readRoad_151 : decode cX5_readRoad 151 = .ok (.getfield 176, 3) := dk_180 0 176 (dk_at dksX5_readRoad_6 14 rfl rfl)
theorem dX5_readRoad_154 : decode cX5_readRoad 154 = .ok (.ifCond .lt 4, 3) := dk_155 0 4 (dk_at dksX5_readRoad_6 17 rfl rfl)
theorem dX5_readRoad_157 : decode cX5_readRoad 157 = .ok (.return_, 1) := dk_177 (dk_at dksX5_readRoad_6 20 rfl rfl)
theorem dX5_readRoad_158 : decode cX5_readRoad 158 = .ok (.aload_n 0, 1) := dk_42 (dk_at dksX5_readRoad_6 21 rfl rfl)
theorem dX5_readRoad_159 : decode cX5_readRoad 159 = .ok (.getfield 59, 3) := dk_180 0 59 (dk_at dksX5_readRoad_7 0 rfl rfl)
theorem dX5_readRoad_162 : decode cX5_readRoad 162 = .ok (.iconst 4, 1) := dk_7 (dk_at dksX5_readRoad_7 3 rfl rfl)
theorem dX5_readRoad_163 : decode cX5_readRoad 163 = .ok (.iload_n 1, 1) := dk_27 (dk_at dksX5_readRoad_7 4 rfl rfl)
theorem dX5_readRoad_164 : decode cX5_readRoad 164 = .ok (.imul, 1) := dk_104 (dk_at dksX5_readRoad_7 5 rfl rfl)
theorem dX5_readRoad_165 : decode cX5_readRoad 165 = .ok (.iload_n 2, 1) := dk_28 (dk_at dksX5_readRoad_7 6 rfl rfl)
theorem dX5_readRoad_166 : decode cX5_readRoad 166 = .ok (.iastore, 1) := dk_79 (dk_at dksX5_readRoad_7 7 rfl rfl)
theorem dX5_readRoad_167 : decode cX5_readRoad 167 = .ok (.aload_n 0, 1) := dk_42 (dk_at dksX5_readRoad_7 8 rfl rfl)
theorem dX5_readRoad_168 : decode cX5_readRoad 168 = .ok (.getfield 59, 3) := dk_180 0 59 (dk_at dksX5_readRoad_7 9 rfl rfl)
theorem dX5_readRoad_171 : decode cX5_readRoad 171 = .ok (.iconst 4, 1) := dk_7 (dk_at dksX5_readRoad_7 12 rfl rfl)
theorem dX5_readRoad_172 : decode cX5_readRoad 172 = .ok (.iload_n 1, 1) := dk_27 (dk_at dksX5_readRoad_7 13 rfl rfl)
theorem dX5_readRoad_173 : decode cX5_readRoad 173 = .ok (.imul, 1) := dk_104 (dk_at dksX5_readRoad_7 14 rfl rfl)
theorem dX5_readRoad_174 : decode cX5_readRoad 174 = .ok (.iconst 1, 1) := dk_4 (dk_at dksX5_readRoad_7 15 rfl rfl)
theorem dX5_readRoad_175 : decode cX5_readRoad 175 = .ok (.iadd, 1) := dk_96 (dk_at dksX5_readRoad_7 16 rfl rfl)
theorem dX5_readRoad_176 : decode cX5_readRoad 176 = .ok (.iload_n 3, 1) := dk_29 (dk_at dksX5_readRoad_7 17 rfl rfl)
theorem dX5_readRoad_177 : decode cX5_readRoad 177 = .ok (.iastore, 1) := dk_79 (dk_at dksX5_readRoad_7 18 rfl rfl)
theorem dX5_readRoad_178 : decode cX5_readRoad 178 = .ok (.aload_n 0, 1) := dk_42 (dk_at dksX5_readRoad_7 19 rfl rfl)
theorem dX5_readRoad_179 : decode cX5_readRoad 179 = .ok (.getfield 59, 3) := dk_180 0 59 (dk_at dksX5_readRoad_7 20 rfl rfl)
theorem dX5_readRoad_182 : decode cX5_readRoad 182 = .ok (.iconst 4, 1) := dk_7 (dk_at dksX5_readRoad_7 23 rfl rfl)
theorem dX5_readRoad_183 : decode cX5_readRoad 183 = .ok (.iload_n 1, 1) := dk_27 (dk_at dksX5_readRoad_8 0 rfl rfl)
theorem dX5_readRoad_184 : decode cX5_readRoad 184 = .ok (.imul, 1) := dk_104 (dk_at dksX5_readRoad_8 1 rfl rfl)
theorem dX5_readRoad_185 : decode cX5_readRoad 185 = .ok (.iconst 2, 1) := dk_5 (dk_at dksX5_readRoad_8 2 rfl rfl)
theorem dX5_readRoad_186 : decode cX5_readRoad 186 = .ok (.iadd, 1) := dk_96 (dk_at dksX5_readRoad_8 3 rfl rfl)
theorem dX5_readRoad_187 : decode cX5_readRoad 187 = .ok (.iload 4, 2) := dk_21 4 (dk_at dksX5_readRoad_8 4 rfl rfl)
theorem dX5_readRoad_189 : decode cX5_readRoad 189 = .ok (.iastore, 1) := dk_79 (dk_at dksX5_readRoad_8 6 rfl rfl)
theorem dX5_readRoad_190 : decode cX5_readRoad 190 = .ok (.aload_n 0, 1) := dk_42 (dk_at dksX5_readRoad_8 7 rfl rfl)
theorem dX5_readRoad_191 : decode cX5_readRoad 191 = .ok (.getfield 59, 3) := dk_180 0 59 (dk_at dksX5_readRoad_8 8 rfl rfl)
theorem dX5_readRoad_194 : decode cX5_readRoad 194 = .ok (.iconst 4, 1) := dk_7 (dk_at dksX5_readRoad_8 11 rfl rfl)
theorem dX5_readRoad_195 : decode cX5_readRoad 195 = .ok (.iload_n 1, 1) := dk_27 (dk_at dksX5_readRoad_8 12 rfl rfl)
theorem dX5_readRoad_196 : decode cX5_readRoad 196 = .ok (.imul, 1) := dk_104 (dk_at dksX5_readRoad_8 13 rfl rfl)
theorem dX5_readRoad_197 : decode cX5_readRoad 197 = .ok (.iconst 3, 1) := dk_6 (dk_at dksX5_readRoad_8 14 rfl rfl)
theorem dX5_readRoad_198 : decode cX5_readRoad 198 = .ok (.iadd, 1) := dk_96 (dk_at dksX5_readRoad_8 15 rfl rfl)
theorem dX5_readRoad_199 : decode cX5_readRoad 199 = .ok (.iload 6, 2) := dk_21 6 (dk_at dksX5_readRoad_8 16 rfl rfl)
theorem dX5_readRoad_201 : decode cX5_readRoad 201 = .ok (.iastore, 1) := dk_79 (dk_at dksX5_readRoad_8 18 rfl rfl)
theorem dX5_readRoad_202 : decode cX5_readRoad 202 = .ok (.aload_n 0, 1) := dk_42 (dk_at dksX5_readRoad_8 19 rfl rfl)
theorem dX5_readRoad_203 : decode cX5_readRoad 203 = .ok (.getfield 62, 3) := dk_180 0 62 (dk_at dksX5_readRoad_8 20 rfl rfl)
theorem dX5_readRoad_206 : decode cX5_readRoad 206 = .ok (.iload_n 1, 1) := dk_27 (dk_at dksX5_readRoad_8 23 rfl rfl)
theorem dX5_readRoad_207 : decode cX5_readRoad 207 = .ok (.lload 7, 2) := dk_22 7 (dk_at dksX5_readRoad_9 0 rfl rfl)
theorem dX5_readRoad_209 : decode cX5_readRoad 209 = .ok (.lastore, 1) := dk_80 (dk_at dksX5_readRoad_9 2 rfl rfl)
theorem dX5_readRoad_210 : decode cX5_readRoad 210 = .ok (.return_, 1) := dk_177 (dk_at dksX5_readRoad_9 3 rfl rfl)
abbrev cX5_wrong : ByteArray := prog_17_method_27_code
def yX5_wrong : MethodName := ⟨RX5, "wrong", "(I)V"⟩
def dkwX5_wrong_0 : List UInt8 := [42, 180, 0, 176, 156, 0, 8, 42, 27, 181, 0, 176, 177]
abbrev dktX5_wrong_0 : List UInt8 := dkwX5_wrong_0 ++ []
theorem dksX5_wrong_0 : cX5_wrong.data.toList.drop 0 = dktX5_wrong_0 := by decide +kernel
theorem dX5_wrong_0 : decode cX5_wrong 0 = .ok (.aload_n 0, 1) := dk_42 (dk_at dksX5_wrong_0 0 rfl rfl)
theorem dX5_wrong_1 : decode cX5_wrong 1 = .ok (.getfield 176, 3) := dk_180 0 176 (dk_at dksX5_wrong_0 1 rfl rfl)
theorem dX5_wrong_4 : decode cX5_wrong 4 = .ok (.ifCond .ge 8, 3) := dk_156 0 8 (dk_at dksX5_wrong_0 4 rfl rfl)
theorem dX5_wrong_7 : decode cX5_wrong 7 = .ok (.aload_n 0, 1) := dk_42 (dk_at dksX5_wrong_0 7 rfl rfl)
theorem dX5_wrong_8 : decode cX5_wrong 8 = .ok (.iload_n 1, 1) := dk_27 (dk_at dksX5_wrong_0 8 rfl rfl)
theorem dX5_wrong_9 : decode cX5_wrong 9 = .ok (.putfield 176, 3) := dk_181 0 176 (dk_at dksX5_wrong_0 9 rfl rfl)
theorem dX5_wrong_12 : decode cX5_wrong 12 = .ok (.return_, 1) := dk_177 (dk_at dksX5_wrong_0 12 rfl rfl)
abbrev cX5_town : ByteArray := prog_17_method_32_code
def yX5_town : MethodName := ⟨RX5, "town", "(I)I"⟩
def dkwX5_town_1 : List UInt8 := [42, 28, 182, 0, 185, 29, 172]
abbrev dktX5_town_1 : List UInt8 := dkwX5_town_1 ++ []
def dkwX5_town_0 : List UInt8 := [42, 180, 0, 179, 61, 42, 4, 182, 0, 196, 62, 42, 29, 182, 0, 103, 153, 0, 8, 29, 27, 160, 0, 8]
abbrev dktX5_town_0 : List UInt8 := dkwX5_town_0 ++ dktX5_town_1
theorem dksX5_town_0 : cX5_town.data.toList.drop 0 = dktX5_town_0 := by decide +kernel
theorem dksX5_town_1 : cX5_town.data.toList.drop 24 = dktX5_town_1 := dk_seg dksX5_town_0 24 rfl rfl
theorem dX5_town_0 : decode cX5_town 0 = .ok (.aload_n 0, 1) := dk_42 (dk_at dksX5_town_0 0 rfl rfl)
theorem dX5_town_1 : decode cX5_town 1 = .ok (.getfield 179, 3) := dk_180 0 179 (dk_at dksX5_town_0 1 rfl rfl)
theorem dX5_town_4 : decode cX5_town 4 = .ok (.istore_n 2, 1) := dk_61 (dk_at dksX5_town_0 4 rfl rfl)
theorem dX5_town_5 : decode cX5_town 5 = .ok (.aload_n 0, 1) := dk_42 (dk_at dksX5_town_0 5 rfl rfl)
theorem dX5_town_6 : decode cX5_town 6 = .ok (.iconst 1, 1) := dk_4 (dk_at dksX5_town_0 6 rfl rfl)
theorem dX5_town_7 : decode cX5_town 7 = .ok (.invokevirtual 196, 3) := dk_182 0 196 (dk_at dksX5_town_0 7 rfl rfl)
theorem dX5_town_10 : decode cX5_town 10 = .ok (.istore_n 3, 1) := dk_62 (dk_at dksX5_town_0 10 rfl rfl)
theorem dX5_town_11 : decode cX5_town 11 = .ok (.aload_n 0, 1) := dk_42 (dk_at dksX5_town_0 11 rfl rfl)
theorem dX5_town_12 : decode cX5_town 12 = .ok (.iload_n 3, 1) := dk_29 (dk_at dksX5_town_0 12 rfl rfl)
theorem dX5_town_13 : decode cX5_town 13 = .ok (.invokevirtual 103, 3) := dk_182 0 103 (dk_at dksX5_town_0 13 rfl rfl)
theorem dX5_town_16 : decode cX5_town 16 = .ok (.ifCond .eq 8, 3) := dk_153 0 8 (dk_at dksX5_town_0 16 rfl rfl)
theorem dX5_town_19 : decode cX5_town 19 = .ok (.iload_n 3, 1) := dk_29 (dk_at dksX5_town_0 19 rfl rfl)
theorem dX5_town_20 : decode cX5_town 20 = .ok (.iload_n 1, 1) := dk_27 (dk_at dksX5_town_0 20 rfl rfl)
theorem dX5_town_21 : decode cX5_town 21 = .ok (.if_icmp .ne 8, 3) := dk_160 0 8 (dk_at dksX5_town_0 21 rfl rfl)
theorem dX5_town_24 : decode cX5_town 24 = .ok (.aload_n 0, 1) := dk_42 (dk_at dksX5_town_1 0 rfl rfl)
theorem dX5_town_25 : decode cX5_town 25 = .ok (.iload_n 2, 1) := dk_28 (dk_at dksX5_town_1 1 rfl rfl)
theorem dX5_town_26 : decode cX5_town 26 = .ok (.invokevirtual 185, 3) := dk_182 0 185 (dk_at dksX5_town_1 2 rfl rfl)
theorem dX5_town_29 : decode cX5_town 29 = .ok (.iload_n 3, 1) := dk_29 (dk_at dksX5_town_1 5 rfl rfl)
theorem dX5_town_30 : decode cX5_town 30 = .ok (.ireturn, 1) := dk_172 (dk_at dksX5_town_1 6 rfl rfl)
abbrev cX5_number : ByteArray := prog_17_method_31_code
def yX5_number : MethodName := ⟨RX5, "number", "(I)I"⟩
def dkwX5_number_2 : List UInt8 := [62, 167, 255, 214, 42, 180, 0, 179, 28, 160, 0, 11, 42, 42, 180, 0, 179, 182, 0, 185, 29, 172]
abbrev dktX5_number_2 : List UInt8 := dkwX5_number_2 ++ []
def dkwX5_number_1 : List UInt8 := [16, 10, 29, 104, 42, 180, 0, 31, 42, 89, 180, 0, 179, 90, 4, 96, 181, 0, 179, 46, 96, 16, 48, 100]
abbrev dktX5_number_1 : List UInt8 := dkwX5_number_1 ++ dktX5_number_2
def dkwX5_number_0 : List UInt8 := [42, 180, 0, 179, 61, 3, 62, 42, 180, 0, 179, 28, 27, 96, 162, 0, 38, 42, 182, 0, 192, 153, 0, 31]
abbrev dktX5_number_0 : List UInt8 := dkwX5_number_0 ++ dktX5_number_1
theorem dksX5_number_0 : cX5_number.data.toList.drop 0 = dktX5_number_0 := by decide +kernel
theorem dksX5_number_1 : cX5_number.data.toList.drop 24 = dktX5_number_1 := dk_seg dksX5_number_0 24 rfl rfl
theorem dksX5_number_2 : cX5_number.data.toList.drop 48 = dktX5_number_2 := dk_seg dksX5_number_1 24 rfl rfl
theorem dX5_number_0 : decode cX5_number 0 = .ok (.aload_n 0, 1) := dk_42 (dk_at dksX5_number_0 0 rfl rfl)
theorem dX5_number_1 : decode cX5_number 1 = .ok (.getfield 179, 3) := dk_180 0 179 (dk_at dksX5_number_0 1 rfl rfl)
theorem dX5_number_4 : decode cX5_number 4 = .ok (.istore_n 2, 1) := dk_61 (dk_at dksX5_number_0 4 rfl rfl)
theorem dX5_number_5 : decode cX5_number 5 = .ok (.iconst 0, 1) := dk_3 (dk_at dksX5_number_0 5 rfl rfl)
theorem dX5_number_6 : decode cX5_number 6 = .ok (.istore_n 3, 1) := dk_62 (dk_at dksX5_number_0 6 rfl rfl)
theorem dX5_number_7 : decode cX5_number 7 = .ok (.aload_n 0, 1) := dk_42 (dk_at dksX5_number_0 7 rfl rfl)
theorem dX5_number_8 : decode cX5_number 8 = .ok (.getfield 179, 3) := dk_180 0 179 (dk_at dksX5_number_0 8 rfl rfl)
theorem dX5_number_11 : decode cX5_number 11 = .ok (.iload_n 2, 1) := dk_28 (dk_at dksX5_number_0 11 rfl rfl)
theorem dX5_number_12 : decode cX5_number 12 = .ok (.iload_n 1, 1) := dk_27 (dk_at dksX5_number_0 12 rfl rfl)
theorem dX5_number_13 : decode cX5_number 13 = .ok (.iadd, 1) := dk_96 (dk_at dksX5_number_0 13 rfl rfl)
theorem dX5_number_14 : decode cX5_number 14 = .ok (.if_icmp .ge 38, 3) := dk_162 0 38 (dk_at dksX5_number_0 14 rfl rfl)
theorem dX5_number_17 : decode cX5_number 17 = .ok (.aload_n 0, 1) := dk_42 (dk_at dksX5_number_0 17 rfl rfl)
theorem dX5_number_18 : decode cX5_number 18 = .ok (.invokevirtual 192, 3) := dk_182 0 192 (dk_at dksX5_number_0 18 rfl rfl)
theorem dX5_number_21 : decode cX5_number 21 = .ok (.ifCond .eq 31, 3) := dk_153 0 31 (dk_at dksX5_number_0 21 rfl rfl)
theorem dX5_number_24 : decode cX5_number 24 = .ok (.bipush 10, 2) := dk_16 10 (dk_at dksX5_number_1 0 rfl rfl)
theorem dX5_number_26 : decode cX5_number 26 = .ok (.iload_n 3, 1) := dk_29 (dk_at dksX5_number_1 2 rfl rfl)
theorem dX5_number_27 : decode cX5_number 27 = .ok (.imul, 1) := dk_104 (dk_at dksX5_number_1 3 rfl rfl)
theorem dX5_number_28 : decode cX5_number 28 = .ok (.aload_n 0, 1) := dk_42 (dk_at dksX5_number_1 4 rfl rfl)
theorem dX5_number_29 : decode cX5_number 29 = .ok (.getfield 31, 3) := dk_180 0 31 (dk_at dksX5_number_1 5 rfl rfl)
theorem dX5_number_32 : decode cX5_number 32 = .ok (.aload_n 0, 1) := dk_42 (dk_at dksX5_number_1 8 rfl rfl)
theorem dX5_number_33 : decode cX5_number 33 = .ok (.dup, 1) := dk_89 (dk_at dksX5_number_1 9 rfl rfl)
theorem dX5_number_34 : decode cX5_number 34 = .ok (.getfield 179, 3) := dk_180 0 179 (dk_at dksX5_number_1 10 rfl rfl)
theorem dX5_number_37 : decode cX5_number 37 = .ok (.dup_x1, 1) := dk_90 (dk_at dksX5_number_1 13 rfl rfl)
theorem dX5_number_38 : decode cX5_number 38 = .ok (.iconst 1, 1) := dk_4 (dk_at dksX5_number_1 14 rfl rfl)
theorem dX5_number_39 : decode cX5_number 39 = .ok (.iadd, 1) := dk_96 (dk_at dksX5_number_1 15 rfl rfl)
theorem dX5_number_40 : decode cX5_number 40 = .ok (.putfield 179, 3) := dk_181 0 179 (dk_at dksX5_number_1 16 rfl rfl)
theorem dX5_number_43 : decode cX5_number 43 = .ok (.iaload, 1) := dk_46 (dk_at dksX5_number_1 19 rfl rfl)
theorem dX5_number_44 : decode cX5_number 44 = .ok (.iadd, 1) := dk_96 (dk_at dksX5_number_1 20 rfl rfl)
theorem dX5_number_45 : decode cX5_number 45 = .ok (.bipush 48, 2) := dk_16 48 (dk_at dksX5_number_1 21 rfl rfl)
theorem dX5_number_47 : decode cX5_number 47 = .ok (.isub, 1) := dk_100 (dk_at dksX5_number_1 23 rfl rfl)
theorem dX5_number_48 : decode cX5_number 48 = .ok (.istore_n 3, 1) := dk_62 (dk_at dksX5_number_2 0 rfl rfl)
theorem dX5_number_49 : decode cX5_number 49 = .ok (.goto (-42), 3) := dk_167 255 214 (dk_at dksX5_number_2 1 rfl rfl)
theorem dX5_number_52 : decode cX5_number 52 = .ok (.aload_n 0, 1) := dk_42 (dk_at dksX5_number_2 4 rfl rfl)
theorem dX5_number_53 : decode cX5_number 53 = .ok (.getfield 179, 3) := dk_180 0 179 (dk_at dksX5_number_2 5 rfl rfl)
theorem dX5_number_56 : decode cX5_number 56 = .ok (.iload_n 2, 1) := dk_28 (dk_at dksX5_number_2 8 rfl rfl)
theorem dX5_number_57 : decode cX5_number 57 = .ok (.if_icmp .ne 11, 3) := dk_160 0 11 (dk_at dksX5_number_2 9 rfl rfl)
theorem dX5_number_60 : decode cX5_number 60 = .ok (.aload_n 0, 1) := dk_42 (dk_at dksX5_number_2 12 rfl rfl)
theorem dX5_number_61 : decode cX5_number 61 = .ok (.aload_n 0, 1) := dk_42 (dk_at dksX5_number_2 13 rfl rfl)
theorem dX5_number_62 : decode cX5_number 62 = .ok (.getfield 179, 3) := dk_180 0 179 (dk_at dksX5_number_2 14 rfl rfl)
theorem dX5_number_65 : decode cX5_number 65 = .ok (.invokevirtual 185, 3) := dk_182 0 185 (dk_at dksX5_number_2 17 rfl rfl)
theorem dX5_number_68 : decode cX5_number 68 = .ok (.iload_n 3, 1) := dk_29 (dk_at dksX5_number_2 20 rfl rfl)
theorem dX5_number_69 : decode cX5_number 69 = .ok (.ireturn, 1) := dk_172 (dk_at dksX5_number_2 21 rfl rfl)
abbrev cX5_isFigure : ByteArray := prog_17_method_30_code
def yX5_isFigure : MethodName := ⟨RX5, "isFigure", "()Z"⟩
def dkwX5_isFigure_1 : List UInt8 := [180, 0, 179, 46, 133, 20, 0, 188, 20, 0, 190, 184, 0, 99, 153, 0, 7, 4, 167, 0, 4, 3, 172]
abbrev dktX5_isFigure_1 : List UInt8 := dkwX5_isFigure_1 ++ []
def dkwX5_isFigure_0 : List UInt8 := [42, 180, 0, 176, 156, 0, 40, 42, 180, 0, 179, 42, 180, 0, 173, 162, 0, 29, 42, 180, 0, 31, 42]
abbrev dktX5_isFigure_0 : List UInt8 := dkwX5_isFigure_0 ++ dktX5_isFigure_1
theorem dksX5_isFigure_0 : cX5_isFigure.data.toList.drop 0 = dktX5_isFigure_0 := by decide +kernel
theorem dksX5_isFigure_1 : cX5_isFigure.data.toList.drop 23 = dktX5_isFigure_1 := dk_seg dksX5_isFigure_0 23 rfl rfl
theorem dX5_isFigure_0 : decode cX5_isFigure 0 = .ok (.aload_n 0, 1) := dk_42 (dk_at dksX5_isFigure_0 0 rfl rfl)
theorem dX5_isFigure_1 : decode cX5_isFigure 1 = .ok (.getfield 176, 3) := dk_180 0 176 (dk_at dksX5_isFigure_0 1 rfl rfl)
theorem dX5_isFigure_4 : decode cX5_isFigure 4 = .ok (.ifCond .ge 40, 3) := dk_156 0 40 (dk_at dksX5_isFigure_0 4 rfl rfl)
theorem dX5_isFigure_7 : decode cX5_isFigure 7 = .ok (.aload_n 0, 1) := dk_42 (dk_at dksX5_isFigure_0 7 rfl rfl)
theorem dX5_isFigure_8 : decode cX5_isFigure 8 = .ok (.getfield 179, 3) := dk_180 0 179 (dk_at dksX5_isFigure_0 8 rfl rfl)
theorem dX5_isFigure_11 : decode cX5_isFigure 11 = .ok (.aload_n 0, 1) := dk_42 (dk_at dksX5_isFigure_0 11 rfl rfl)
theorem dX5_isFigure_12 : decode cX5_isFigure 12 = .ok (.getfield 173, 3) := dk_180 0 173 (dk_at dksX5_isFigure_0 12 rfl rfl)
theorem dX5_isFigure_15 : decode cX5_isFigure 15 = .ok (.if_icmp .ge 29, 3) := dk_162 0 29 (dk_at dksX5_isFigure_0 15 rfl rfl)
theorem dX5_isFigure_18 : decode cX5_isFigure 18 = .ok (.aload_n 0, 1) := dk_42 (dk_at dksX5_isFigure_0 18 rfl rfl)
theorem dX5_isFigure_19 : decode cX5_isFigure 19 = .ok (.getfield 31, 3) := dk_180 0 31 (dk_at dksX5_isFigure_0 19 rfl rfl)
theorem dX5_isFigure_22 : decode cX5_isFigure 22 = .ok (.aload_n 0, 1) := dk_42 (dk_at dksX5_isFigure_0 22 rfl rfl)
theorem dX5_isFigure_23 : decode cX5_isFigure 23 = .ok (.getfield 179, 3) := dk_180 0 179 (dk_at dksX5_isFigure_1 0 rfl rfl)
theorem dX5_isFigure_26 : decode cX5_isFigure 26 = .ok (.iaload, 1) := dk_46 (dk_at dksX5_isFigure_1 3 rfl rfl)
theorem dX5_isFigure_27 : decode cX5_isFigure 27 = .ok (.i2l, 1) := dk_133 (dk_at dksX5_isFigure_1 4 rfl rfl)
theorem dX5_isFigure_28 : decode cX5_isFigure 28 = .ok (.ldc2_w 188, 3) := dk_20 0 188 (dk_at dksX5_isFigure_1 5 rfl rfl)
theorem dX5_isFigure_31 : decode cX5_isFigure 31 = .ok (.ldc2_w 190, 3) := dk_20 0 190 (dk_at dksX5_isFigure_1 8 rfl rfl)
theorem dX5_isFigure_34 : decode cX5_isFigure 34 = .ok (.invokestatic 99, 3) := dk_184 0 99 (dk_at dksX5_isFigure_1 11 rfl rfl)
theorem dX5_isFigure_37 : decode cX5_isFigure 37 = .ok (.ifCond .eq 7, 3) := dk_153 0 7 (dk_at dksX5_isFigure_1 14 rfl rfl)
theorem dX5_isFigure_40 : decode cX5_isFigure 40 = .ok (.iconst 1, 1) := dk_4 (dk_at dksX5_isFigure_1 17 rfl rfl)
theorem dX5_isFigure_41 : decode cX5_isFigure 41 = .ok (.goto 4, 3) := dk_167 0 4 (dk_at dksX5_isFigure_1 18 rfl rfl)
theorem dX5_isFigure_44 : decode cX5_isFigure 44 = .ok (.iconst 0, 1) := dk_3 (dk_at dksX5_isFigure_1 21 rfl rfl)
theorem dX5_isFigure_45 : decode cX5_isFigure 45 = .ok (.ireturn, 1) := dk_172 (dk_at dksX5_isFigure_1 22 rfl rfl)
abbrev cX5_needs : ByteArray := prog_17_method_29_code
def yX5_needs : MethodName := ⟨RX5, "needs", "(I)V"⟩
def dkwX5_needs_0 : List UInt8 := [42, 27, 182, 0, 182, 154, 0, 11, 42, 42, 180, 0, 179, 182, 0, 185, 177]
abbrev dktX5_needs_0 : List UInt8 := dkwX5_needs_0 ++ []
theorem dksX5_needs_0 : cX5_needs.data.toList.drop 0 = dktX5_needs_0 := by decide +kernel
theorem dX5_needs_0 : decode cX5_needs 0 = .ok (.aload_n 0, 1) := dk_42 (dk_at dksX5_needs_0 0 rfl rfl)
theorem dX5_needs_1 : decode cX5_needs 1 = .ok (.iload_n 1, 1) := dk_27 (dk_at dksX5_needs_0 1 rfl rfl)
theorem dX5_needs_2 : decode cX5_needs 2 = .ok (.invokevirtual 182, 3) := dk_182 0 182 (dk_at dksX5_needs_0 2 rfl rfl)
theorem dX5_needs_5 : decode cX5_needs 5 = .ok (.ifCond .ne 11, 3) := dk_154 0 11 (dk_at dksX5_needs_0 5 rfl rfl)
theorem dX5_needs_8 : decode cX5_needs 8 = .ok (.aload_n 0, 1) := dk_42 (dk_at dksX5_needs_0 8 rfl rfl)
theorem dX5_needs_9 : decode cX5_needs 9 = .ok (.aload_n 0, 1) := dk_42 (dk_at dksX5_needs_0 9 rfl rfl)
theorem dX5_needs_10 : decode cX5_needs 10 = .ok (.getfield 179, 3) := dk_180 0 179 (dk_at dksX5_needs_0 10 rfl rfl)
theorem dX5_needs_13 : decode cX5_needs 13 = .ok (.invokevirtual 185, 3) := dk_182 0 185 (dk_at dksX5_needs_0 13 rfl rfl)
theorem dX5_needs_16 : decode cX5_needs 16 = .ok (.return_, 1) := dk_177 (dk_at dksX5_needs_0 16 rfl rfl)
abbrev cX5_is : ByteArray := prog_17_method_28_code
def yX5_is : MethodName := ⟨RX5, "is", "(I)Z"⟩
def dkwX5_is_1 : List UInt8 := [180, 0, 179, 46, 27, 159, 0, 5, 3, 172, 42, 89, 180, 0, 179, 4, 96, 181, 0, 179, 4, 172]
abbrev dktX5_is_1 : List UInt8 := dkwX5_is_1 ++ []
def dkwX5_is_0 : List UInt8 := [42, 180, 0, 176, 156, 0, 27, 42, 180, 0, 179, 42, 180, 0, 173, 162, 0, 16, 42, 180, 0, 31, 42]
abbrev dktX5_is_0 : List UInt8 := dkwX5_is_0 ++ dktX5_is_1
theorem dksX5_is_0 : cX5_is.data.toList.drop 0 = dktX5_is_0 := by decide +kernel
theorem dksX5_is_1 : cX5_is.data.toList.drop 23 = dktX5_is_1 := dk_seg dksX5_is_0 23 rfl rfl
theorem dX5_is_0 : decode cX5_is 0 = .ok (.aload_n 0, 1) := dk_42 (dk_at dksX5_is_0 0 rfl rfl)
theorem dX5_is_1 : decode cX5_is 1 = .ok (.getfield 176, 3) := dk_180 0 176 (dk_at dksX5_is_0 1 rfl rfl)
theorem dX5_is_4 : decode cX5_is 4 = .ok (.ifCond .ge 27, 3) := dk_156 0 27 (dk_at dksX5_is_0 4 rfl rfl)
theorem dX5_is_7 : decode cX5_is 7 = .ok (.aload_n 0, 1) := dk_42 (dk_at dksX5_is_0 7 rfl rfl)
theorem dX5_is_8 : decode cX5_is 8 = .ok (.getfield 179, 3) := dk_180 0 179 (dk_at dksX5_is_0 8 rfl rfl)
theorem dX5_is_11 : decode cX5_is 11 = .ok (.aload_n 0, 1) := dk_42 (dk_at dksX5_is_0 11 rfl rfl)
theorem dX5_is_12 : decode cX5_is 12 = .ok (.getfield 173, 3) := dk_180 0 173 (dk_at dksX5_is_0 12 rfl rfl)
theorem dX5_is_15 : decode cX5_is 15 = .ok (.if_icmp .ge 16, 3) := dk_162 0 16 (dk_at dksX5_is_0 15 rfl rfl)
theorem dX5_is_18 : decode cX5_is 18 = .ok (.aload_n 0, 1) := dk_42 (dk_at dksX5_is_0 18 rfl rfl)
theorem dX5_is_19 : decode cX5_is 19 = .ok (.getfield 31, 3) := dk_180 0 31 (dk_at dksX5_is_0 19 rfl rfl)
theorem dX5_is_22 : decode cX5_is 22 = .ok (.aload_n 0, 1) := dk_42 (dk_at dksX5_is_0 22 rfl rfl)
theorem dX5_is_23 : decode cX5_is 23 = .ok (.getfield 179, 3) := dk_180 0 179 (dk_at dksX5_is_1 0 rfl rfl)
theorem dX5_is_26 : decode cX5_is 26 = .ok (.iaload, 1) := dk_46 (dk_at dksX5_is_1 3 rfl rfl)
theorem dX5_is_27 : decode cX5_is 27 = .ok (.iload_n 1, 1) := dk_27 (dk_at dksX5_is_1 4 rfl rfl)
theorem dX5_is_28 : decode cX5_is 28 = .ok (.if_icmp .eq 5, 3) := dk_159 0 5 (dk_at dksX5_is_1 5 rfl rfl)
theorem dX5_is_31 : decode cX5_is 31 = .ok (.iconst 0, 1) := dk_3 (dk_at dksX5_is_1 8 rfl rfl)
theorem dX5_is_32 : decode cX5_is 32 = .ok (.ireturn, 1) := dk_172 (dk_at dksX5_is_1 9 rfl rfl)
theorem dX5_is_33 : decode cX5_is 33 = .ok (.aload_n 0, 1) := dk_42 (dk_at dksX5_is_1 10 rfl rfl)
theorem dX5_is_34 : decode cX5_is 34 = .ok (.dup, 1) := dk_89 (dk_at dksX5_is_1 11 rfl rfl)
theorem dX5_is_35 : decode cX5_is 35 = .ok (.getfield 179, 3) := dk_180 0 179 (dk_at dksX5_is_1 12 rfl rfl)
theorem dX5_is_38 : decode cX5_is 38 = .ok (.iconst 1, 1) := dk_4 (dk_at dksX5_is_1 15 rfl rfl)
theorem dX5_is_39 : decode cX5_is 39 = .ok (.iadd, 1) := dk_96 (dk_at dksX5_is_1 16 rfl rfl)
theorem dX5_is_40 : decode cX5_is 40 = .ok (.putfield 179, 3) := dk_181 0 179 (dk_at dksX5_is_1 17 rfl rfl)
theorem dX5_is_43 : decode cX5_is 43 = .ok (.iconst 1, 1) := dk_4 (dk_at dksX5_is_1 20 rfl rfl)
theorem dX5_is_44 : decode cX5_is 44 = .ok (.ireturn, 1) := dk_172 (dk_at dksX5_is_1 21 rfl rfl)
abbrev cX5_readSupply : ByteArray := prog_17_method_34_code
def yX5_readSupply : MethodName := ⟨RX5, "readSupply", "()V"⟩
def dkwX5_readSupply_2 : List UInt8 := [29, 116, 167, 0, 4, 29, 79, 42, 180, 0, 59, 16, 8, 27, 96, 4, 79, 177]
abbrev dktX5_readSupply_2 : List UInt8 := dkwX5_readSupply_2 ++ []
def dkwX5_readSupply_1 : List UInt8 := [62, 42, 180, 0, 176, 156, 0, 9, 27, 16, 8, 161, 0, 4, 177, 42, 180, 0, 59, 27, 28, 153, 0, 8]
abbrev dktX5_readSupply_1 : List UInt8 := dkwX5_readSupply_1 ++ dktX5_readSupply_2
def dkwX5_readSupply_0 : List UInt8 := [42, 2, 182, 0, 199, 60, 42, 16, 61, 182, 0, 202, 42, 16, 45, 182, 0, 182, 61, 42, 5, 182, 0, 196]
abbrev dktX5_readSupply_0 : List UInt8 := dkwX5_readSupply_0 ++ dktX5_readSupply_1
theorem dksX5_readSupply_0 : cX5_readSupply.data.toList.drop 0 = dktX5_readSupply_0 := by decide +kernel
theorem dksX5_readSupply_1 : cX5_readSupply.data.toList.drop 24 = dktX5_readSupply_1 := dk_seg dksX5_readSupply_0 24 rfl rfl
theorem dksX5_readSupply_2 : cX5_readSupply.data.toList.drop 48 = dktX5_readSupply_2 := dk_seg dksX5_readSupply_1 24 rfl rfl
theorem dX5_readSupply_0 : decode cX5_readSupply 0 = .ok (.aload_n 0, 1) := dk_42 (dk_at dksX5_readSupply_0 0 rfl rfl)
theorem dX5_readSupply_1 : decode cX5_readSupply 1 = .ok (.iconst (-1), 1) := dk_2 (dk_at dksX5_readSupply_0 1 rfl rfl)
theorem dX5_readSupply_2 : decode cX5_readSupply 2 = .ok (.invokevirtual 199, 3) := dk_182 0 199 (dk_at dksX5_readSupply_0 2 rfl rfl)
theorem dX5_readSupply_5 : decode cX5_readSupply 5 = .ok (.istore_n 1, 1) := dk_60 (dk_at dksX5_readSupply_0 5 rfl rfl)
theorem dX5_readSupply_6 : decode cX5_readSupply 6 = .ok (.aload_n 0, 1) := dk_42 (dk_at dksX5_readSupply_0 6 rfl rfl)
theorem dX5_readSupply_7 : decode cX5_readSupply 7 = .ok (.bipush 61, 2) := dk_16 61 (dk_at dksX5_readSupply_0 7 rfl rfl)
theorem dX5_readSupply_9 : decode cX5_readSupply 9 = .ok (.invokevirtual 202, 3) := dk_182 0 202 (dk_at dksX5_readSupply_0 9 rfl rfl)
theorem dX5_readSupply_12 : decode cX5_readSupply 12 = .ok (.aload_n 0, 1) := dk_42 (dk_at dksX5_readSupply_0 12 rfl rfl)
theorem dX5_readSupply_13 : decode cX5_readSupply 13 = .ok (.bipush 45, 2) := dk_16 45 (dk_at dksX5_readSupply_0 13 rfl rfl)
theorem dX5_readSupply_15 : decode cX5_readSupply 15 = .ok (.invokevirtual 182, 3) := dk_182 0 182 (dk_at dksX5_readSupply_0 15 rfl rfl)
theorem dX5_readSupply_18 : decode cX5_readSupply 18 = .ok (.istore_n 2, 1) := dk_61 (dk_at dksX5_readSupply_0 18 rfl rfl)
theorem dX5_readSupply_19 : decode cX5_readSupply 19 = .ok (.aload_n 0, 1) := dk_42 (dk_at dksX5_readSupply_0 19 rfl rfl)
theorem dX5_readSupply_20 : decode cX5_readSupply 20 = .ok (.iconst 2, 1) := dk_5 (dk_at dksX5_readSupply_0 20 rfl rfl)
theorem dX5_readSupply_21 : decode cX5_readSupply 21 = .ok (.invokevirtual 196, 3) := dk_182 0 196 (dk_at dksX5_readSupply_0 21 rfl rfl)
theorem dX5_readSupply_24 : decode cX5_readSupply 24 = .ok (.istore_n 3, 1) := dk_62 (dk_at dksX5_readSupply_1 0 rfl rfl)
theorem dX5_readSupply_25 : decode cX5_readSupply 25 = .ok (.aload_n 0, 1) := dk_42 (dk_at dksX5_readSupply_1 1 rfl rfl)
theorem dX5_readSupply_26 : decode cX5_readSupply 26 = .ok (.getfield 176, 3) := dk_180 0 176 (dk_at dksX5_readSupply_1 2 rfl rfl)
theorem dX5_readSupply_29 : decode cX5_readSupply 29 = .ok (.ifCond .ge 9, 3) := dk_156 0 9 (dk_at dksX5_readSupply_1 5 rfl rfl)
theorem dX5_readSupply_32 : decode cX5_readSupply 32 = .ok (.iload_n 1, 1) := dk_27 (dk_at dksX5_readSupply_1 8 rfl rfl)
theorem dX5_readSupply_33 : decode cX5_readSupply 33 = .ok (.bipush 8, 2) := dk_16 8 (dk_at dksX5_readSupply_1 9 rfl rfl)
theorem dX5_readSupply_35 : decode cX5_readSupply 35 = .ok (.if_icmp .lt 4, 3) := dk_161 0 4 (dk_at dksX5_readSupply_1 11 rfl rfl)
theorem dX5_readSupply_38 : decode cX5_readSupply 38 = .ok (.return_, 1) := dk_177 (dk_at dksX5_readSupply_1 14 rfl rfl)
theorem dX5_readSupply_39 : decode cX5_readSupply 39 = .ok (.aload_n 0, 1) := dk_42 (dk_at dksX5_readSupply_1 15 rfl rfl)
theorem dX5_readSupply_40 : decode cX5_readSupply 40 = .ok (.getfield 59, 3) := dk_180 0 59 (dk_at dksX5_readSupply_1 16 rfl rfl)
theorem dX5_readSupply_43 : decode cX5_readSupply 43 = .ok (.iload_n 1, 1) := dk_27 (dk_at dksX5_readSupply_1 19 rfl rfl)
theorem dX5_readSupply_44 : decode cX5_readSupply 44 = .ok (.iload_n 2, 1) := dk_28 (dk_at dksX5_readSupply_1 20 rfl rfl)
theorem dX5_readSupply_45 : decode cX5_readSupply 45 = .ok (.ifCond .eq 8, 3) := dk_153 0 8 (dk_at dksX5_readSupply_1 21 rfl rfl)
theorem dX5_readSupply_48 : decode cX5_readSupply 48 = .ok (.iload_n 3, 1) := dk_29 (dk_at dksX5_readSupply_2 0 rfl rfl)
theorem dX5_readSupply_49 : decode cX5_readSupply 49 = .ok (.ineg, 1) := dk_116 (dk_at dksX5_readSupply_2 1 rfl rfl)
theorem dX5_readSupply_50 : decode cX5_readSupply 50 = .ok (.goto 4, 3) := dk_167 0 4 (dk_at dksX5_readSupply_2 2 rfl rfl)
theorem dX5_readSupply_53 : decode cX5_readSupply 53 = .ok (.iload_n 3, 1) := dk_29 (dk_at dksX5_readSupply_2 5 rfl rfl)
theorem dX5_readSupply_54 : decode cX5_readSupply 54 = .ok (.iastore, 1) := dk_79 (dk_at dksX5_readSupply_2 6 rfl rfl)
theorem dX5_readSupply_55 : decode cX5_readSupply 55 = .ok (.aload_n 0, 1) := dk_42 (dk_at dksX5_readSupply_2 7 rfl rfl)
theorem dX5_readSupply_56 : decode cX5_readSupply 56 = .ok (.getfield 59, 3) := dk_180 0 59 (dk_at dksX5_readSupply_2 8 rfl rfl)
theorem dX5_readSupply_59 : decode cX5_readSupply 59 = .ok (.bipush 8, 2) := dk_16 8 (dk_at dksX5_readSupply_2 11 rfl rfl)
theorem dX5_readSupply_61 : decode cX5_readSupply 61 = .ok (.iload_n 1, 1) := dk_27 (dk_at dksX5_readSupply_2 13 rfl rfl)
theorem dX5_readSupply_62 : decode cX5_readSupply 62 = .ok (.iadd, 1) := dk_96 (dk_at dksX5_readSupply_2 14 rfl rfl)
theorem dX5_readSupply_63 : decode cX5_readSupply 63 = .ok (.iconst 1, 1) := dk_4 (dk_at dksX5_readSupply_2 15 rfl rfl)
theorem dX5_readSupply_64 : decode cX5_readSupply 64 = .ok (.iastore, 1) := dk_79 (dk_at dksX5_readSupply_2 16 rfl rfl)
theorem dX5_readSupply_65 : decode cX5_readSupply 65 = .ok (.return_, 1) := dk_177 (dk_at dksX5_readSupply_2 17 rfl rfl)
abbrev cX5_supplies : ByteArray := prog_17_method_37_code
def yX5_supplies : MethodName := ⟨RX5, "supplies", "()I"⟩
def dkwX5_supplies_2 : List UInt8 := [180, 0, 59, 28, 46, 79, 132, 2, 1, 167, 255, 218, 27, 172]
abbrev dktX5_supplies_2 : List UInt8 := dkwX5_supplies_2 ++ []
def dkwX5_supplies_1 : List UInt8 := [162, 0, 36, 42, 180, 0, 59, 16, 8, 28, 96, 46, 4, 160, 0, 17, 42, 180, 0, 9, 5, 28, 96, 42]
abbrev dktX5_supplies_1 : List UInt8 := dkwX5_supplies_1 ++ dktX5_supplies_2
def dkwX5_supplies_0 : List UInt8 := [42, 3, 182, 0, 211, 60, 27, 156, 0, 5, 27, 172, 42, 182, 0, 126, 3, 61, 28, 42, 182, 0, 95]
abbrev dktX5_supplies_0 : List UInt8 := dkwX5_supplies_0 ++ dktX5_supplies_1
theorem dksX5_supplies_0 : cX5_supplies.data.toList.drop 0 = dktX5_supplies_0 := by decide +kernel
theorem dksX5_supplies_1 : cX5_supplies.data.toList.drop 23 = dktX5_supplies_1 := dk_seg dksX5_supplies_0 23 rfl rfl
theorem dksX5_supplies_2 : cX5_supplies.data.toList.drop 47 = dktX5_supplies_2 := dk_seg dksX5_supplies_1 24 rfl rfl
theorem dX5_supplies_0 : decode cX5_supplies 0 = .ok (.aload_n 0, 1) := dk_42 (dk_at dksX5_supplies_0 0 rfl rfl)
theorem dX5_supplies_1 : decode cX5_supplies 1 = .ok (.iconst 0, 1) := dk_3 (dk_at dksX5_supplies_0 1 rfl rfl)
theorem dX5_supplies_2 : decode cX5_supplies 2 = .ok (.invokevirtual 211, 3) := dk_182 0 211 (dk_at dksX5_supplies_0 2 rfl rfl)
theorem dX5_supplies_5 : decode cX5_supplies 5 = .ok (.istore_n 1, 1) := dk_60 (dk_at dksX5_supplies_0 5 rfl rfl)
theorem dX5_supplies_6 : decode cX5_supplies 6 = .ok (.iload_n 1, 1) := dk_27 (dk_at dksX5_supplies_0 6 rfl rfl)
theorem dX5_supplies_7 : decode cX5_supplies 7 = .ok (.ifCond .ge 5, 3) := dk_156 0 5 (dk_at dksX5_supplies_0 7 rfl rfl)
theorem dX5_supplies_10 : decode cX5_supplies 10 = .ok (.iload_n 1, 1) := dk_27 (dk_at dksX5_supplies_0 10 rfl rfl)
theorem dX5_supplies_11 : decode cX5_supplies 11 = .ok (.ireturn, 1) := dk_172 (dk_at dksX5_supplies_0 11 rfl rfl)
theorem dX5_supplies_12 : decode cX5_supplies 12 = .ok (.aload_n 0, 1) := dk_42 (dk_at dksX5_supplies_0 12 rfl rfl)
theorem dX5_supplies_13 : decode cX5_supplies 13 = .ok (.invokevirtual 126, 3) := dk_182 0 126 (dk_at dksX5_supplies_0 13 rfl rfl)
theorem dX5_supplies_16 : decode cX5_supplies 16 = .ok (.iconst 0, 1) := dk_3 (dk_at dksX5_supplies_0 16 rfl rfl)
theorem dX5_supplies_17 : decode cX5_supplies 17 = .ok (.istore_n 2, 1) := dk_61 (dk_at dksX5_supplies_0 17 rfl rfl)
theorem dX5_supplies_18 : decode cX5_supplies 18 = .ok (.iload_n 2, 1) := dk_28 (dk_at dksX5_supplies_0 18 rfl rfl)
theorem dX5_supplies_19 : decode cX5_supplies 19 = .ok (.aload_n 0, 1) := dk_42 (dk_at dksX5_supplies_0 19 rfl rfl)
theorem dX5_supplies_20 : decode cX5_supplies 20 = .ok (.invokevirtual 95, 3) := dk_182 0 95 (dk_at dksX5_supplies_0 20 rfl rfl)
theorem dX5_supplies_23 : decode cX5_supplies 23 = .ok (.if_icmp .ge 36, 3) := dk_162 0 36 (dk_at dksX5_supplies_1 0 rfl rfl)
theorem dX5_supplies_26 : decode cX5_supplies 26 = .ok (.aload_n 0, 1) := dk_42 (dk_at dksX5_supplies_1 3 rfl rfl)
theorem dX5_supplies_27 : decode cX5_supplies 27 = .ok (.getfield 59, 3) := dk_180 0 59 (dk_at dksX5_supplies_1 4 rfl rfl)
theorem dX5_supplies_30 : decode cX5_supplies 30 = .ok (.bipush 8, 2) := dk_16 8 (dk_at dksX5_supplies_1 7 rfl rfl)
theorem dX5_supplies_32 : decode cX5_supplies 32 = .ok (.iload_n 2, 1) := dk_28 (dk_at dksX5_supplies_1 9 rfl rfl)
theorem dX5_supplies_33 : decode cX5_supplies 33 = .ok (.iadd, 1) := dk_96 (dk_at dksX5_supplies_1 10 rfl rfl)
theorem dX5_supplies_34 : decode cX5_supplies 34 = .ok (.iaload, 1) := dk_46 (dk_at dksX5_supplies_1 11 rfl rfl)
theorem dX5_supplies_35 : decode cX5_supplies 35 = .ok (.iconst 1, 1) := dk_4 (dk_at dksX5_supplies_1 12 rfl rfl)
theorem dX5_supplies_36 : decode cX5_supplies 36 = .ok (.if_icmp .ne 17, 3) := dk_160 0 17 (dk_at dksX5_supplies_1 13 rfl rfl)
theorem dX5_supplies_39 : decode cX5_supplies 39 = .ok (.aload_n 0, 1) := dk_42 (dk_at dksX5_supplies_1 16 rfl rfl)
theorem dX5_supplies_40 : decode cX5_supplies 40 = .ok (.getfield 9, 3) := dk_180 0 9 (dk_at dksX5_supplies_1 17 rfl rfl)
theorem dX5_supplies_43 : decode cX5_supplies 43 = .ok (.iconst 2, 1) := dk_5 (dk_at dksX5_supplies_1 20 rfl rfl)
theorem dX5_supplies_44 : decode cX5_supplies 44 = .ok (.iload_n 2, 1) := dk_28 (dk_at dksX5_supplies_1 21 rfl rfl)
theorem dX5_supplies_45 : decode cX5_supplies 45 = .ok (.iadd, 1) := dk_96 (dk_at dksX5_supplies_1 22 rfl rfl)
theorem dX5_supplies_46 : decode cX5_supplies 46 = .ok (.aload_n 0, 1) := dk_42 (dk_at dksX5_supplies_1 23 rfl rfl)
theorem dX5_supplies_47 : decode cX5_supplies 47 = .ok (.getfield 59, 3) := dk_180 0 59 (dk_at dksX5_supplies_2 0 rfl rfl)
theorem dX5_supplies_50 : decode cX5_supplies 50 = .ok (.iload_n 2, 1) := dk_28 (dk_at dksX5_supplies_2 3 rfl rfl)
theorem dX5_supplies_51 : decode cX5_supplies 51 = .ok (.iaload, 1) := dk_46 (dk_at dksX5_supplies_2 4 rfl rfl)
theorem dX5_supplies_52 : decode cX5_supplies 52 = .ok (.iastore, 1) := dk_79 (dk_at dksX5_supplies_2 5 rfl rfl)
theorem dX5_supplies_53 : decode cX5_supplies 53 = .ok (.iinc 2 1, 3) := dk_132 2 1 (dk_at dksX5_supplies_2 6 rfl rfl)
theorem dX5_supplies_56 : decode cX5_supplies 56 = .ok (.goto (-38), 3) := dk_167 255 218 (dk_at dksX5_supplies_2 9 rfl rfl)
theorem dX5_supplies_59 : decode cX5_supplies 59 = .ok (.iload_n 1, 1) := dk_27 (dk_at dksX5_supplies_2 12 rfl rfl)
theorem dX5_supplies_60 : decode cX5_supplies 60 = .ok (.ireturn, 1) := dk_172 (dk_at dksX5_supplies_2 13 rfl rfl)
abbrev cX5_is_2 : ByteArray := prog_17_method_55_code
def yX5_is_2 : MethodName := ⟨RX5, "is", "()I"⟩
def dkwX5_is_2_1 : List UInt8 := [167, 0, 4, 4, 172]
abbrev dktX5_is_2_1 : List UInt8 := dkwX5_is_2_1 ++ []
def dkwX5_is_2_0 : List UInt8 := [42, 182, 1, 16, 154, 0, 6, 16, 253, 172, 42, 182, 1, 19, 42, 180, 1, 0, 153, 0, 8, 16, 250]
abbrev dktX5_is_2_0 : List UInt8 := dkwX5_is_2_0 ++ dktX5_is_2_1
theorem dksX5_is_2_0 : cX5_is_2.data.toList.drop 0 = dktX5_is_2_0 := by decide +kernel
theorem dksX5_is_2_1 : cX5_is_2.data.toList.drop 23 = dktX5_is_2_1 := dk_seg dksX5_is_2_0 23 rfl rfl
theorem dX5_is_2_0 : decode cX5_is_2 0 = .ok (.aload_n 0, 1) := dk_42 (dk_at dksX5_is_2_0 0 rfl rfl)
theorem dX5_is_2_1 : decode cX5_is_2 1 = .ok (.invokevirtual 272, 3) := dk_182 1 16 (dk_at dksX5_is_2_0 1 rfl rfl)
theorem dX5_is_2_4 : decode cX5_is_2 4 = .ok (.ifCond .ne 6, 3) := dk_154 0 6 (dk_at dksX5_is_2_0 4 rfl rfl)
theorem dX5_is_2_7 : decode cX5_is_2 7 = .ok (.bipush (-3), 2) := dk_16 253 (dk_at dksX5_is_2_0 7 rfl rfl)
theorem dX5_is_2_9 : decode cX5_is_2 9 = .ok (.ireturn, 1) := dk_172 (dk_at dksX5_is_2_0 9 rfl rfl)
theorem dX5_is_2_10 : decode cX5_is_2 10 = .ok (.aload_n 0, 1) := dk_42 (dk_at dksX5_is_2_0 10 rfl rfl)
theorem dX5_is_2_11 : decode cX5_is_2 11 = .ok (.invokevirtual 275, 3) := dk_182 1 19 (dk_at dksX5_is_2_0 11 rfl rfl)
theorem dX5_is_2_14 : decode cX5_is_2 14 = .ok (.aload_n 0, 1) := dk_42 (dk_at dksX5_is_2_0 14 rfl rfl)
theorem dX5_is_2_15 : decode cX5_is_2 15 = .ok (.getfield 256, 3) := dk_180 1 0 (dk_at dksX5_is_2_0 15 rfl rfl)
theorem dX5_is_2_18 : decode cX5_is_2 18 = .ok (.ifCond .eq 8, 3) := dk_153 0 8 (dk_at dksX5_is_2_0 18 rfl rfl)
theorem dX5_is_2_21 : decode cX5_is_2 21 = .ok (.bipush (-6), 2) := dk_16 250 (dk_at dksX5_is_2_0 21 rfl rfl)
theorem dX5_is_2_23 : decode cX5_is_2 23 = .ok (.goto 4, 3) := dk_167 0 4 (dk_at dksX5_is_2_1 0 rfl rfl)
theorem dX5_is_2_26 : decode cX5_is_2 26 = .ok (.iconst 1, 1) := dk_4 (dk_at dksX5_is_2_1 3 rfl rfl)
theorem dX5_is_2_27 : decode cX5_is_2 27 = .ok (.ireturn, 1) := dk_172 (dk_at dksX5_is_2_1 4 rfl rfl)
abbrev cX5_flows : ByteArray := prog_17_method_50_code
def yX5_flows : MethodName := ⟨RX5, "flows", "()Z"⟩
def dkwX5_flows_1 : List UInt8 := [61, 28, 153, 0, 12, 42, 27, 182, 0, 253, 61, 167, 255, 246, 132, 1, 1, 167, 255, 230, 4, 172]
abbrev dktX5_flows_1 : List UInt8 := dkwX5_flows_1 ++ []
def dkwX5_flows_0 : List UInt8 := [42, 182, 0, 247, 154, 0, 5, 3, 172, 42, 182, 0, 250, 3, 60, 27, 42, 182, 0, 107, 162, 0, 24, 4]
abbrev dktX5_flows_0 : List UInt8 := dkwX5_flows_0 ++ dktX5_flows_1
theorem dksX5_flows_0 : cX5_flows.data.toList.drop 0 = dktX5_flows_0 := by decide +kernel
theorem dksX5_flows_1 : cX5_flows.data.toList.drop 24 = dktX5_flows_1 := dk_seg dksX5_flows_0 24 rfl rfl
theorem dX5_flows_0 : decode cX5_flows 0 = .ok (.aload_n 0, 1) := dk_42 (dk_at dksX5_flows_0 0 rfl rfl)
theorem dX5_flows_1 : decode cX5_flows 1 = .ok (.invokevirtual 247, 3) := dk_182 0 247 (dk_at dksX5_flows_0 1 rfl rfl)
theorem dX5_flows_4 : decode cX5_flows 4 = .ok (.ifCond .ne 5, 3) := dk_154 0 5 (dk_at dksX5_flows_0 4 rfl rfl)
theorem dX5_flows_7 : decode cX5_flows 7 = .ok (.iconst 0, 1) := dk_3 (dk_at dksX5_flows_0 7 rfl rfl)
theorem dX5_flows_8 : decode cX5_flows 8 = .ok (.ireturn, 1) := dk_172 (dk_at dksX5_flows_0 8 rfl rfl)
theorem dX5_flows_9 : decode cX5_flows 9 = .ok (.aload_n 0, 1) := dk_42 (dk_at dksX5_flows_0 9 rfl rfl)
theorem dX5_flows_10 : decode cX5_flows 10 = .ok (.invokevirtual 250, 3) := dk_182 0 250 (dk_at dksX5_flows_0 10 rfl rfl)
theorem dX5_flows_13 : decode cX5_flows 13 = .ok (.iconst 0, 1) := dk_3 (dk_at dksX5_flows_0 13 rfl rfl)
theorem dX5_flows_14 : decode cX5_flows 14 = .ok (.istore_n 1, 1) := dk_60 (dk_at dksX5_flows_0 14 rfl rfl)
theorem dX5_flows_15 : decode cX5_flows 15 = .ok (.iload_n 1, 1) := dk_27 (dk_at dksX5_flows_0 15 rfl rfl)
theorem dX5_flows_16 : decode cX5_flows 16 = .ok (.aload_n 0, 1) := dk_42 (dk_at dksX5_flows_0 16 rfl rfl)
theorem dX5_flows_17 : decode cX5_flows 17 = .ok (.invokevirtual 107, 3) := dk_182 0 107 (dk_at dksX5_flows_0 17 rfl rfl)
theorem dX5_flows_20 : decode cX5_flows 20 = .ok (.if_icmp .ge 24, 3) := dk_162 0 24 (dk_at dksX5_flows_0 20 rfl rfl)
theorem dX5_flows_23 : decode cX5_flows 23 = .ok (.iconst 1, 1) := dk_4 (dk_at dksX5_flows_0 23 rfl rfl)
theorem dX5_flows_24 : decode cX5_flows 24 = .ok (.istore_n 2, 1) := dk_61 (dk_at dksX5_flows_1 0 rfl rfl)
theorem dX5_flows_25 : decode cX5_flows 25 = .ok (.iload_n 2, 1) := dk_28 (dk_at dksX5_flows_1 1 rfl rfl)
theorem dX5_flows_26 : decode cX5_flows 26 = .ok (.ifCond .eq 12, 3) := dk_153 0 12 (dk_at dksX5_flows_1 2 rfl rfl)
theorem dX5_flows_29 : decode cX5_flows 29 = .ok (.aload_n 0, 1) := dk_42 (dk_at dksX5_flows_1 5 rfl rfl)
theorem dX5_flows_30 : decode cX5_flows 30 = .ok (.iload_n 1, 1) := dk_27 (dk_at dksX5_flows_1 6 rfl rfl)
theorem dX5_flows_31 : decode cX5_flows 31 = .ok (.invokevirtual 253, 3) := dk_182 0 253 (dk_at dksX5_flows_1 7 rfl rfl)
theorem dX5_flows_34 : decode cX5_flows 34 = .ok (.istore_n 2, 1) := dk_61 (dk_at dksX5_flows_1 10 rfl rfl)
theorem dX5_flows_35 : decode cX5_flows 35 = .ok (.goto (-10), 3) := dk_167 255 246 (dk_at dksX5_flows_1 11 rfl rfl)
theorem dX5_flows_38 : decode cX5_flows 38 = .ok (.iinc 1 1, 3) := dk_132 1 1 (dk_at dksX5_flows_1 14 rfl rfl)
theorem dX5_flows_41 : decode cX5_flows 41 = .ok (.goto (-26), 3) := dk_167 255 230 (dk_at dksX5_flows_1 17 rfl rfl)
theorem dX5_flows_44 : decode cX5_flows 44 = .ok (.iconst 1, 1) := dk_4 (dk_at dksX5_flows_1 20 rfl rfl)
theorem dX5_flows_45 : decode cX5_flows 45 = .ok (.ireturn, 1) := dk_172 (dk_at dksX5_flows_1 21 rfl rfl)
abbrev cX5_isCheap : ByteArray := prog_17_method_46_code
def yX5_isCheap : MethodName := ⟨RX5, "isCheap", "()Z"⟩
def dkwX5_isCheap_4 : List UInt8 := [167, 0, 4, 3, 172]
abbrev dktX5_isCheap_4 : List UInt8 := dkwX5_isCheap_4 ++ []
def dkwX5_isCheap_3 : List UInt8 := [182, 0, 238, 154, 255, 242, 3, 172, 132, 1, 1, 167, 255, 226, 42, 182, 0, 241, 154, 0, 7, 4]
abbrev dktX5_isCheap_3 : List UInt8 := dkwX5_isCheap_3 ++ dktX5_isCheap_4
def dkwX5_isCheap_2 : List UInt8 := [182, 0, 235, 3, 60, 27, 42, 182, 0, 95, 162, 0, 28, 42, 180, 0, 46, 27, 46, 158, 0, 13, 42, 27]
abbrev dktX5_isCheap_2 : List UInt8 := dkwX5_isCheap_2 ++ dktX5_isCheap_3
def dkwX5_isCheap_1 : List UInt8 := [156, 0, 11, 42, 27, 182, 0, 162, 167, 0, 8, 42, 27, 182, 0, 159, 79, 132, 1, 1, 167, 255, 215, 42]
abbrev dktX5_isCheap_1 : List UInt8 := dkwX5_isCheap_1 ++ dktX5_isCheap_2
def dkwX5_isCheap_0 : List UInt8 := [3, 60, 27, 42, 182, 0, 107, 162, 0, 39, 42, 180, 0, 43, 27, 42, 180, 0, 15, 27, 47, 9, 148]
abbrev dktX5_isCheap_0 : List UInt8 := dkwX5_isCheap_0 ++ dktX5_isCheap_1
theorem dksX5_isCheap_0 : cX5_isCheap.data.toList.drop 0 = dktX5_isCheap_0 := by decide +kernel
theorem dksX5_isCheap_1 : cX5_isCheap.data.toList.drop 23 = dktX5_isCheap_1 := dk_seg dksX5_isCheap_0 23 rfl rfl
theorem dksX5_isCheap_2 : cX5_isCheap.data.toList.drop 47 = dktX5_isCheap_2 := dk_seg dksX5_isCheap_1 24 rfl rfl
theorem dksX5_isCheap_3 : cX5_isCheap.data.toList.drop 71 = dktX5_isCheap_3 := dk_seg dksX5_isCheap_2 24 rfl rfl
theorem dksX5_isCheap_4 : cX5_isCheap.data.toList.drop 93 = dktX5_isCheap_4 := dk_seg dksX5_isCheap_3 22 rfl rfl
theorem dX5_isCheap_0 : decode cX5_isCheap 0 = .ok (.iconst 0, 1) := dk_3 (dk_at dksX5_isCheap_0 0 rfl rfl)
theorem dX5_isCheap_1 : decode cX5_isCheap 1 = .ok (.istore_n 1, 1) := dk_60 (dk_at dksX5_isCheap_0 1 rfl rfl)
theorem dX5_isCheap_2 : decode cX5_isCheap 2 = .ok (.iload_n 1, 1) := dk_27 (dk_at dksX5_isCheap_0 2 rfl rfl)
theorem dX5_isCheap_3 : decode cX5_isCheap 3 = .ok (.aload_n 0, 1) := dk_42 (dk_at dksX5_isCheap_0 3 rfl rfl)
theorem dX5_isCheap_4 : decode cX5_isCheap 4 = .ok (.invokevirtual 107, 3) := dk_182 0 107 (dk_at dksX5_isCheap_0 4 rfl rfl)
theorem dX5_isCheap_7 : decode cX5_isCheap 7 = .ok (.if_icmp .ge 39, 3) := dk_162 0 39 (dk_at dksX5_isCheap_0 7 rfl rfl)
theorem dX5_isCheap_10 : decode cX5_isCheap 10 = .ok (.aload_n 0, 1) := dk_42 (dk_at dksX5_isCheap_0 10 rfl rfl)
theorem dX5_isCheap_11 : decode cX5_isCheap 11 = .ok (.getfield 43, 3) := dk_180 0 43 (dk_at dksX5_isCheap_0 11 rfl rfl)
theorem dX5_isCheap_14 : decode cX5_isCheap 14 = .ok (.iload_n 1, 1) := dk_27 (dk_at dksX5_isCheap_0 14 rfl rfl)
theorem dX5_isCheap_15 : decode cX5_isCheap 15 = .ok (.aload_n 0, 1) := dk_42 (dk_at dksX5_isCheap_0 15 rfl rfl)
theorem dX5_isCheap_16 : decode cX5_isCheap 16 = .ok (.getfield 15, 3) := dk_180 0 15 (dk_at dksX5_isCheap_0 16 rfl rfl)
theorem dX5_isCheap_19 : decode cX5_isCheap 19 = .ok (.iload_n 1, 1) := dk_27 (dk_at dksX5_isCheap_0 19 rfl rfl)
theorem dX5_isCheap_20 : decode cX5_isCheap 20 = .ok (.laload, 1) := dk_47 (dk_at dksX5_isCheap_0 20 rfl rfl)
theorem dX5_isCheap_21 : decode cX5_isCheap 21 = .ok (.lconst 0, 1) := dk_9 (dk_at dksX5_isCheap_0 21 rfl rfl)
theorem dX5_isCheap_22 : decode cX5_isCheap 22 = .ok (.lcmp, 1) := dk_148 (dk_at dksX5_isCheap_0 22 rfl rfl)
theorem dX5_isCheap_23 : decode cX5_isCheap 23 = .ok (.ifCond .ge 11, 3) := dk_156 0 11 (dk_at dksX5_isCheap_1 0 rfl rfl)
theorem dX5_isCheap_26 : decode cX5_isCheap 26 = .ok (.aload_n 0, 1) := dk_42 (dk_at dksX5_isCheap_1 3 rfl rfl)
theorem dX5_isCheap_27 : decode cX5_isCheap 27 = .ok (.iload_n 1, 1) := dk_27 (dk_at dksX5_isCheap_1 4 rfl rfl)
theorem dX5_isCheap_28 : decode cX5_isCheap 28 = .ok (.invokevirtual 162, 3) := dk_182 0 162 (dk_at dksX5_isCheap_1 5 rfl rfl)
theorem dX5_isCheap_31 : decode cX5_isCheap 31 = .ok (.goto 8, 3) := dk_167 0 8 (dk_at dksX5_isCheap_1 8 rfl rfl)
theorem dX5_isCheap_34 : decode cX5_isCheap 34 = .ok (.aload_n 0, 1) := dk_42 (dk_at dksX5_isCheap_1 11 rfl rfl)
theorem dX5_isCheap_35 : decode cX5_isCheap 35 = .ok (.iload_n 1, 1) := dk_27 (dk_at dksX5_isCheap_1 12 rfl rfl)
theorem dX5_isCheap_36 : decode cX5_isCheap 36 = .ok (.invokevirtual 159, 3) := dk_182 0 159 (dk_at dksX5_isCheap_1 13 rfl rfl)
theorem dX5_isCheap_39 : decode cX5_isCheap 39 = .ok (.iastore, 1) := dk_79 (dk_at dksX5_isCheap_1 16 rfl rfl)
theorem dX5_isCheap_40 : decode cX5_isCheap 40 = .ok (.iinc 1 1, 3) := dk_132 1 1 (dk_at dksX5_isCheap_1 17 rfl rfl)
theorem dX5_isCheap_43 : decode cX5_isCheap 43 = .ok (.goto (-41), 3) := dk_167 255 215 (dk_at dksX5_isCheap_1 20 rfl rfl)
theorem dX5_isCheap_46 : decode cX5_isCheap 46 = .ok (.aload_n 0, 1) := dk_42 (dk_at dksX5_isCheap_1 23 rfl rfl)
theorem dX5_isCheap_47 : decode cX5_isCheap 47 = .ok (.invokevirtual 235, 3) := dk_182 0 235 (dk_at dksX5_isCheap_2 0 rfl rfl)
theorem dX5_isCheap_50 : decode cX5_isCheap 50 = .ok (.iconst 0, 1) := dk_3 (dk_at dksX5_isCheap_2 3 rfl rfl)
theorem dX5_isCheap_51 : decode cX5_isCheap 51 = .ok (.istore_n 1, 1) := dk_60 (dk_at dksX5_isCheap_2 4 rfl rfl)
theorem dX5_isCheap_52 : decode cX5_isCheap 52 = .ok (.iload_n 1, 1) := dk_27 (dk_at dksX5_isCheap_2 5 rfl rfl)
theorem dX5_isCheap_53 : decode cX5_isCheap 53 = .ok (.aload_n 0, 1) := dk_42 (dk_at dksX5_isCheap_2 6 rfl rfl)
theorem dX5_isCheap_54 : decode cX5_isCheap 54 = .ok (.invokevirtual 95, 3) := dk_182 0 95 (dk_at dksX5_isCheap_2 7 rfl rfl)
theorem dX5_isCheap_57 : decode cX5_isCheap 57 = .ok (.if_icmp .ge 28, 3) := dk_162 0 28 (dk_at dksX5_isCheap_2 10 rfl rfl)
theorem dX5_isCheap_60 : decode cX5_isCheap 60 = .ok (.aload_n 0, 1) := dk_42 (dk_at dksX5_isCheap_2 13 rfl rfl)
theorem dX5_isCheap_61 : decode cX5_isCheap 61 = .ok (.getfield 46, 3) := dk_180 0 46 (dk_at dksX5_isCheap_2 14 rfl rfl)
theorem dX5_isCheap_64 : decode cX5_isCheap 64 = .ok (.iload_n 1, 1) := dk_27 (dk_at dksX5_isCheap_2 17 rfl rfl)
theorem dX5_isCheap_65 : decode cX5_isCheap 65 = .ok (.iaload, 1) := dk_46 (dk_at dksX5_isCheap_2 18 rfl rfl)
theorem dX5_isCheap_66 : decode cX5_isCheap 66 = .ok (.ifCond .le 13, 3) := dk_158 0 13 (dk_at dksX5_isCheap_2 19 rfl rfl)
theorem dX5_isCheap_69 : decode cX5_isCheap 69 = .ok (.aload_n 0, 1) := dk_42 (dk_at dksX5_isCheap_2 22 rfl rfl)
theorem dX5_isCheap_70 : decode cX5_isCheap 70 = .ok (.iload_n 1, 1) := dk_27 (dk_at dksX5_isCheap_2 23 rfl rfl)
theorem dX5_isCheap_71 : decode cX5_isCheap 71 = .ok (.invokevirtual 238, 3) := dk_182 0 238 (dk_at dksX5_isCheap_3 0 rfl rfl)
theorem dX5_isCheap_74 : decode cX5_isCheap 74 = .ok (.ifCond .ne (-14), 3) := dk_154 255 242 (dk_at dksX5_isCheap_3 3 rfl rfl)
theorem dX5_isCheap_77 : decode cX5_isCheap 77 = .ok (.iconst 0, 1) := dk_3 (dk_at dksX5_isCheap_3 6 rfl rfl)
theorem dX5_isCheap_78 : decode cX5_isCheap 78 = .ok (.ireturn, 1) := dk_172 (dk_at dksX5_isCheap_3 7 rfl rfl)
theorem dX5_isCheap_79 : decode cX5_isCheap 79 = .ok (.iinc 1 1, 3) := dk_132 1 1 (dk_at dksX5_isCheap_3 8 rfl rfl)
theorem dX5_isCheap_82 : decode cX5_isCheap 82 = .ok (.goto (-30), 3) := dk_167 255 226 (dk_at dksX5_isCheap_3 11 rfl rfl)
theorem dX5_isCheap_85 : decode cX5_isCheap 85 = .ok (.aload_n 0, 1) := dk_42 (dk_at dksX5_isCheap_3 14 rfl rfl)
theorem dX5_isCheap_86 : decode cX5_isCheap 86 = .ok (.invokevirtual 241, 3) := dk_182 0 241 (dk_at dksX5_isCheap_3 15 rfl rfl)
theorem dX5_isCheap_89 : decode cX5_isCheap 89 = .ok (.ifCond .ne 7, 3) := dk_154 0 7 (dk_at dksX5_isCheap_3 18 rfl rfl)
theorem dX5_isCheap_92 : decode cX5_isCheap 92 = .ok (.iconst 1, 1) := dk_4 (dk_at dksX5_isCheap_3 21 rfl rfl)
theorem dX5_isCheap_93 : decode cX5_isCheap 93 = .ok (.goto 4, 3) := dk_167 0 4 (dk_at dksX5_isCheap_4 0 rfl rfl)
theorem dX5_isCheap_96 : decode cX5_isCheap 96 = .ok (.iconst 0, 1) := dk_3 (dk_at dksX5_isCheap_4 3 rfl rfl)
theorem dX5_isCheap_97 : decode cX5_isCheap 97 = .ok (.ireturn, 1) := dk_172 (dk_at dksX5_isCheap_4 4 rfl rfl)
abbrev cX5_balance : ByteArray := prog_17_method_43_code
def yX5_balance : MethodName := ⟨RX5, "balance", "()V"⟩
def dkwX5_balance_3 : List UInt8 := [42, 180, 0, 43, 27, 46, 96, 79, 132, 1, 1, 167, 255, 207, 177]
abbrev dktX5_balance_3 : List UInt8 := dkwX5_balance_3 ++ []
def dkwX5_balance_2 : List UInt8 := [182, 0, 152, 92, 46, 42, 180, 0, 43, 27, 46, 100, 79, 42, 180, 0, 46, 42, 27, 182, 0, 156, 92, 46]
abbrev dktX5_balance_2 : List UInt8 := dkwX5_balance_2 ++ dktX5_balance_3
def dkwX5_balance_1 : List UInt8 := [132, 1, 1, 167, 255, 231, 3, 60, 27, 42, 182, 0, 107, 162, 0, 47, 42, 180, 0, 46, 42, 27]
abbrev dktX5_balance_1 : List UInt8 := dkwX5_balance_1 ++ dktX5_balance_2
def dkwX5_balance_0 : List UInt8 := [3, 60, 27, 42, 182, 0, 95, 162, 0, 23, 42, 180, 0, 46, 27, 42, 180, 0, 9, 5, 27, 96, 46, 79]
abbrev dktX5_balance_0 : List UInt8 := dkwX5_balance_0 ++ dktX5_balance_1
theorem dksX5_balance_0 : cX5_balance.data.toList.drop 0 = dktX5_balance_0 := by decide +kernel
theorem dksX5_balance_1 : cX5_balance.data.toList.drop 24 = dktX5_balance_1 := dk_seg dksX5_balance_0 24 rfl rfl
theorem dksX5_balance_2 : cX5_balance.data.toList.drop 46 = dktX5_balance_2 := dk_seg dksX5_balance_1 22 rfl rfl
theorem dksX5_balance_3 : cX5_balance.data.toList.drop 70 = dktX5_balance_3 := dk_seg dksX5_balance_2 24 rfl rfl
theorem dX5_balance_0 : decode cX5_balance 0 = .ok (.iconst 0, 1) := dk_3 (dk_at dksX5_balance_0 0 rfl rfl)
theorem dX5_balance_1 : decode cX5_balance 1 = .ok (.istore_n 1, 1) := dk_60 (dk_at dksX5_balance_0 1 rfl rfl)
theorem dX5_balance_2 : decode cX5_balance 2 = .ok (.iload_n 1, 1) := dk_27 (dk_at dksX5_balance_0 2 rfl rfl)
theorem dX5_balance_3 : decode cX5_balance 3 = .ok (.aload_n 0, 1) := dk_42 (dk_at dksX5_balance_0 3 rfl rfl)
theorem dX5_balance_4 : decode cX5_balance 4 = .ok (.invokevirtual 95, 3) := dk_182 0 95 (dk_at dksX5_balance_0 4 rfl rfl)
theorem dX5_balance_7 : decode cX5_balance 7 = .ok (.if_icmp .ge 23, 3) := dk_162 0 23 (dk_at dksX5_balance_0 7 rfl rfl)
theorem dX5_balance_10 : decode cX5_balance 10 = .ok (.aload_n 0, 1) := dk_42 (dk_at dksX5_balance_0 10 rfl rfl)
theorem dX5_balance_11 : decode cX5_balance 11 = .ok (.getfield 46, 3) := dk_180 0 46 (dk_at dksX5_balance_0 11 rfl rfl)
theorem dX5_balance_14 : decode cX5_balance 14 = .ok (.iload_n 1, 1) := dk_27 (dk_at dksX5_balance_0 14 rfl rfl)
theorem dX5_balance_15 : decode cX5_balance 15 = .ok (.aload_n 0, 1) := dk_42 (dk_at dksX5_balance_0 15 rfl rfl)
theorem dX5_balance_16 : decode cX5_balance 16 = .ok (.getfield 9, 3) := dk_180 0 9 (dk_at dksX5_balance_0 16 rfl rfl)
theorem dX5_balance_19 : decode cX5_balance 19 = .ok (.iconst 2, 1) := dk_5 (dk_at dksX5_balance_0 19 rfl rfl)
theorem dX5_balance_20 : decode cX5_balance 20 = .ok (.iload_n 1, 1) := dk_27 (dk_at dksX5_balance_0 20 rfl rfl)
theorem dX5_balance_21 : decode cX5_balance 21 = .ok (.iadd, 1) := dk_96 (dk_at dksX5_balance_0 21 rfl rfl)
theorem dX5_balance_22 : decode cX5_balance 22 = .ok (.iaload, 1) := dk_46 (dk_at dksX5_balance_0 22 rfl rfl)
theorem dX5_balance_23 : decode cX5_balance 23 = .ok (.iastore, 1) := dk_79 (dk_at dksX5_balance_0 23 rfl rfl)
theorem dX5_balance_24 : decode cX5_balance 24 = .ok (.iinc 1 1, 3) := dk_132 1 1 (dk_at dksX5_balance_1 0 rfl rfl)
theorem dX5_balance_27 : decode cX5_balance 27 = .ok (.goto (-25), 3) := dk_167 255 231 (dk_at dksX5_balance_1 3 rfl rfl)
theorem dX5_balance_30 : decode cX5_balance 30 = .ok (.iconst 0, 1) := dk_3 (dk_at dksX5_balance_1 6 rfl rfl)
theorem dX5_balance_31 : decode cX5_balance 31 = .ok (.istore_n 1, 1) := dk_60 (dk_at dksX5_balance_1 7 rfl rfl)
theorem dX5_balance_32 : decode cX5_balance 32 = .ok (.iload_n 1, 1) := dk_27 (dk_at dksX5_balance_1 8 rfl rfl)
theorem dX5_balance_33 : decode cX5_balance 33 = .ok (.aload_n 0, 1) := dk_42 (dk_at dksX5_balance_1 9 rfl rfl)
theorem dX5_balance_34 : decode cX5_balance 34 = .ok (.invokevirtual 107, 3) := dk_182 0 107 (dk_at dksX5_balance_1 10 rfl rfl)
theorem dX5_balance_37 : decode cX5_balance 37 = .ok (.if_icmp .ge 47, 3) := dk_162 0 47 (dk_at dksX5_balance_1 13 rfl rfl)
theorem dX5_balance_40 : decode cX5_balance 40 = .ok (.aload_n 0, 1) := dk_42 (dk_at dksX5_balance_1 16 rfl rfl)
theorem dX5_balance_41 : decode cX5_balance 41 = .ok (.getfield 46, 3) := dk_180 0 46 (dk_at dksX5_balance_1 17 rfl rfl)
theorem dX5_balance_44 : decode cX5_balance 44 = .ok (.aload_n 0, 1) := dk_42 (dk_at dksX5_balance_1 20 rfl rfl)
theorem dX5_balance_45 : decode cX5_balance 45 = .ok (.iload_n 1, 1) := dk_27 (dk_at dksX5_balance_1 21 rfl rfl)
theorem dX5_balance_46 : decode cX5_balance 46 = .ok (.invokevirtual 152, 3) := dk_182 0 152 (dk_at dksX5_balance_2 0 rfl rfl)
theorem dX5_balance_49 : decode cX5_balance 49 = .ok (.dup2, 1) := dk_92 (dk_at dksX5_balance_2 3 rfl rfl)
theorem dX5_balance_50 : decode cX5_balance 50 = .ok (.iaload, 1) := dk_46 (dk_at dksX5_balance_2 4 rfl rfl)
theorem dX5_balance_51 : decode cX5_balance 51 = .ok (.aload_n 0, 1) := dk_42 (dk_at dksX5_balance_2 5 rfl rfl)
theorem dX5_balance_52 : decode cX5_balance 52 = .ok (.getfield 43, 3) := dk_180 0 43 (dk_at dksX5_balance_2 6 rfl rfl)
theorem dX5_balance_55 : decode cX5_balance 55 = .ok (.iload_n 1, 1) := dk_27 (dk_at dksX5_balance_2 9 rfl rfl)
theorem dX5_balance_56 : decode cX5_balance 56 = .ok (.iaload, 1) := dk_46 (dk_at dksX5_balance_2 10 rfl rfl)
theorem dX5_balance_57 : decode cX5_balance 57 = .ok (.isub, 1) := dk_100 (dk_at dksX5_balance_2 11 rfl rfl)
theorem dX5_balance_58 : decode cX5_balance 58 = .ok (.iastore, 1) := dk_79 (dk_at dksX5_balance_2 12 rfl rfl)
theorem dX5_balance_59 : decode cX5_balance 59 = .ok (.aload_n 0, 1) := dk_42 (dk_at dksX5_balance_2 13 rfl rfl)
theorem dX5_balance_60 : decode cX5_balance 60 = .ok (.getfield 46, 3) := dk_180 0 46 (dk_at dksX5_balance_2 14 rfl rfl)
theorem dX5_balance_63 : decode cX5_balance 63 = .ok (.aload_n 0, 1) := dk_42 (dk_at dksX5_balance_2 17 rfl rfl)
theorem dX5_balance_64 : decode cX5_balance 64 = .ok (.iload_n 1, 1) := dk_27 (dk_at dksX5_balance_2 18 rfl rfl)
theorem dX5_balance_65 : decode cX5_balance 65 = .ok (.invokevirtual 156, 3) := dk_182 0 156 (dk_at dksX5_balance_2 19 rfl rfl)
theorem dX5_balance_68 : decode cX5_balance 68 = .ok (.dup2, 1) := dk_92 (dk_at dksX5_balance_2 22 rfl rfl)
theorem dX5_balance_69 : decode cX5_balance 69 = .ok (.iaload, 1) := dk_46 (dk_at dksX5_balance_2 23 rfl rfl)
theorem dX5_balance_70 : decode cX5_balance 70 = .ok (.aload_n 0, 1) := dk_42 (dk_at dksX5_balance_3 0 rfl rfl)
theorem dX5_balance_71 : decode cX5_balance 71 = .ok (.getfield 43, 3) := dk_180 0 43 (dk_at dksX5_balance_3 1 rfl rfl)
theorem dX5_balance_74 : decode cX5_balance 74 = .ok (.iload_n 1, 1) := dk_27 (dk_at dksX5_balance_3 4 rfl rfl)
theorem dX5_balance_75 : decode cX5_balance 75 = .ok (.iaload, 1) := dk_46 (dk_at dksX5_balance_3 5 rfl rfl)
theorem dX5_balance_76 : decode cX5_balance 76 = .ok (.iadd, 1) := dk_96 (dk_at dksX5_balance_3 6 rfl rfl)
theorem dX5_balance_77 : decode cX5_balance 77 = .ok (.iastore, 1) := dk_79 (dk_at dksX5_balance_3 7 rfl rfl)
theorem dX5_balance_78 : decode cX5_balance 78 = .ok (.iinc 1 1, 3) := dk_132 1 1 (dk_at dksX5_balance_3 8 rfl rfl)
theorem dX5_balance_81 : decode cX5_balance 81 = .ok (.goto (-49), 3) := dk_167 255 207 (dk_at dksX5_balance_3 11 rfl rfl)
theorem dX5_balance_84 : decode cX5_balance 84 = .ok (.return_, 1) := dk_177 (dk_at dksX5_balance_3 14 rfl rfl)
abbrev cX5_sends : ByteArray := prog_17_method_44_code
def yX5_sends : MethodName := ⟨RX5, "sends", "(I)Z"⟩
def dkwX5_sends_9 : List UInt8 := [79, 42, 180, 0, 46, 28, 92, 46, 29, 96, 79, 4, 172]
abbrev dktX5_sends_9 : List UInt8 := dkwX5_sends_9 ++ []
def dkwX5_sends_8 : List UInt8 := [180, 0, 52, 21, 4, 46, 4, 182, 0, 217, 54, 4, 167, 255, 224, 42, 180, 0, 46, 27, 92, 46, 29, 100]
abbrev dktX5_sends_8 : List UInt8 := dkwX5_sends_8 ++ dktX5_sends_9
def dkwX5_sends_7 : List UInt8 := [54, 4, 21, 4, 27, 159, 0, 32, 42, 42, 180, 0, 52, 21, 4, 46, 29, 182, 0, 231, 42, 42]
abbrev dktX5_sends_7 : List UInt8 := dkwX5_sends_7 ++ dktX5_sends_8
def dkwX5_sends_6 : List UInt8 := [167, 0, 4, 29, 62, 42, 42, 180, 0, 52, 21, 4, 46, 4, 182, 0, 217, 54, 4, 167, 255, 205, 28]
abbrev dktX5_sends_6 : List UInt8 := dkwX5_sends_6 ++ dktX5_sends_7
def dkwX5_sends_5 : List UInt8 := [180, 0, 52, 21, 4, 46, 182, 0, 221, 29, 162, 0, 17, 42, 42, 180, 0, 52, 21, 4, 46, 182, 0, 221]
abbrev dktX5_sends_5 : List UInt8 := dkwX5_sends_5 ++ dktX5_sends_6
def dkwX5_sends_4 : List UInt8 := [167, 0, 10, 42, 180, 0, 46, 28, 46, 116, 62, 28, 54, 4, 21, 4, 27, 159, 0, 51, 42, 42]
abbrev dktX5_sends_4 : List UInt8 := dkwX5_sends_4 ++ dktX5_sends_5
def dkwX5_sends_3 : List UInt8 := [3, 172, 42, 180, 0, 46, 27, 46, 42, 180, 0, 46, 28, 46, 116, 162, 0, 12, 42, 180, 0, 46, 27, 46]
abbrev dktX5_sends_3 : List UInt8 := dkwX5_sends_3 ++ dktX5_sends_4
def dkwX5_sends_2 : List UInt8 := [29, 47, 42, 180, 0, 49, 28, 47, 148, 156, 0, 5, 29, 61, 132, 3, 1, 167, 255, 201, 28, 156, 0, 5]
abbrev dktX5_sends_2 : List UInt8 := dkwX5_sends_2 ++ dktX5_sends_3
def dkwX5_sends_1 : List UInt8 := [156, 0, 38, 42, 180, 0, 49, 29, 47, 20, 0, 215, 148, 153, 0, 25, 28, 155, 0, 19, 42, 180, 0, 49]
abbrev dktX5_sends_1 : List UInt8 := dkwX5_sends_1 ++ dktX5_sends_2
def dkwX5_sends_0 : List UInt8 := [42, 27, 182, 0, 228, 2, 61, 3, 62, 29, 42, 182, 0, 95, 162, 0, 53, 42, 180, 0, 46, 29, 46]
abbrev dktX5_sends_0 : List UInt8 := dkwX5_sends_0 ++ dktX5_sends_1
theorem dksX5_sends_0 : cX5_sends.data.toList.drop 0 = dktX5_sends_0 := by decide +kernel
theorem dksX5_sends_1 : cX5_sends.data.toList.drop 23 = dktX5_sends_1 := dk_seg dksX5_sends_0 23 rfl rfl
theorem dksX5_sends_2 : cX5_sends.data.toList.drop 47 = dktX5_sends_2 := dk_seg dksX5_sends_1 24 rfl rfl
theorem dksX5_sends_3 : cX5_sends.data.toList.drop 71 = dktX5_sends_3 := dk_seg dksX5_sends_2 24 rfl rfl
theorem dksX5_sends_4 : cX5_sends.data.toList.drop 95 = dktX5_sends_4 := dk_seg dksX5_sends_3 24 rfl rfl
theorem dksX5_sends_5 : cX5_sends.data.toList.drop 117 = dktX5_sends_5 := dk_seg dksX5_sends_4 22 rfl rfl
theorem dksX5_sends_6 : cX5_sends.data.toList.drop 141 = dktX5_sends_6 := dk_seg dksX5_sends_5 24 rfl rfl
theorem dksX5_sends_7 : cX5_sends.data.toList.drop 164 = dktX5_sends_7 := dk_seg dksX5_sends_6 23 rfl rfl
theorem dksX5_sends_8 : cX5_sends.data.toList.drop 186 = dktX5_sends_8 := dk_seg dksX5_sends_7 22 rfl rfl
theorem dksX5_sends_9 : cX5_sends.data.toList.drop 210 = dktX5_sends_9 := dk_seg dksX5_sends_8 24 rfl rfl
theorem dX5_sends_0 : decode cX5_sends 0 = .ok (.aload_n 0, 1) := dk_42 (dk_at dksX5_sends_0 0 rfl rfl)
theorem dX5_sends_1 : decode cX5_sends 1 = .ok (.iload_n 1, 1) := dk_27 (dk_at dksX5_sends_0 1 rfl rfl)
theorem dX5_sends_2 : decode cX5_sends 2 = .ok (.invokevirtual 228, 3) := dk_182 0 228 (dk_at dksX5_sends_0 2 rfl rfl)
theorem dX5_sends_5 : decode cX5_sends 5 = .ok (.iconst (-1), 1) := dk_2 (dk_at dksX5_sends_0 5 rfl rfl)
theorem dX5_sends_6 : decode cX5_sends 6 = .ok (.istore_n 2, 1) := dk_61 (dk_at dksX5_sends_0 6 rfl rfl)
theorem dX5_sends_7 : decode cX5_sends 7 = .ok (.iconst 0, 1) := dk_3 (dk_at dksX5_sends_0 7 rfl rfl)
theorem dX5_sends_8 : decode cX5_sends 8 = .ok (.istore_n 3, 1) := dk_62 (dk_at dksX5_sends_0 8 rfl rfl)
theorem dX5_sends_9 : decode cX5_sends 9 = .ok (.iload_n 3, 1) := dk_29 (dk_at dksX5_sends_0 9 rfl rfl)
theorem dX5_sends_10 : decode cX5_sends 10 = .ok (.aload_n 0, 1) := dk_42 (dk_at dksX5_sends_0 10 rfl rfl)
theorem dX5_sends_11 : decode cX5_sends 11 = .ok (.invokevirtual 95, 3) := dk_182 0 95 (dk_at dksX5_sends_0 11 rfl rfl)
theorem dX5_sends_14 : decode cX5_sends 14 = .ok (.if_icmp .ge 53, 3) := dk_162 0 53 (dk_at dksX5_sends_0 14 rfl rfl)
theorem dX5_sends_17 : decode cX5_sends 17 = .ok (.aload_n 0, 1) := dk_42 (dk_at dksX5_sends_0 17 rfl rfl)
theorem dX5_sends_18 : decode cX5_sends 18 = .ok (.getfield 46, 3) := dk_180 0 46 (dk_at dksX5_sends_0 18 rfl rfl)
theorem dX5_sends_21 : decode cX5_sends 21 = .ok (.iload_n 3, 1) := dk_29 (dk_at dksX5_sends_0 21 rfl rfl)
theorem dX5_sends_22 : decode cX5_sends 22 = .ok (.iaload, 1) := dk_46 (dk_at dksX5_sends_0 22 rfl rfl)
theorem dX5_sends_23 : decode cX5_sends 23 = .ok (.ifCond .ge 38, 3) := dk_156 0 38 (dk_at dksX5_sends_1 0 rfl rfl)
theorem dX5_sends_26 : decode cX5_sends 26 = .ok (.aload_n 0, 1) := dk_42 (dk_at dksX5_sends_1 3 rfl rfl)
theorem dX5_sends_27 : decode cX5_sends 27 = .ok (.getfield 49, 3) := dk_180 0 49 (dk_at dksX5_sends_1 4 rfl rfl)
theorem dX5_sends_30 : decode cX5_sends 30 = .ok (.iload_n 3, 1) := dk_29 (dk_at dksX5_sends_1 7 rfl rfl)
theorem dX5_sends_31 : decode cX5_sends 31 = .ok (.laload, 1) := dk_47 (dk_at dksX5_sends_1 8 rfl rfl)
theorem dX5_sends_32 : decode cX5_sends 32 = .ok (.ldc2_w 215, 3) := dk_20 0 215 (dk_at dksX5_sends_1 9 rfl rfl)
theorem dX5_sends_35 : decode cX5_sends 35 = .ok (.lcmp, 1) := dk_148 (dk_at dksX5_sends_1 12 rfl rfl)
theorem dX5_sends_36 : decode cX5_sends 36 = .ok (.ifCond .eq 25, 3) := dk_153 0 25 (dk_at dksX5_sends_1 13 rfl rfl)
theorem dX5_sends_39 : decode cX5_sends 39 = .ok (.iload_n 2, 1) := dk_28 (dk_at dksX5_sends_1 16 rfl rfl)
theorem dX5_sends_40 : decode cX5_sends 40 = .ok (.ifCond .lt 19, 3) := dk_155 0 19 (dk_at dksX5_sends_1 17 rfl rfl)
theorem dX5_sends_43 : decode cX5_sends 43 = .ok (.aload_n 0, 1) := dk_42 (dk_at dksX5_sends_1 20 rfl rfl)
theorem dX5_sends_44 : decode cX5_sends 44 = .ok (.getfield 49, 3) := dk_180 0 49 (dk_at dksX5_sends_1 21 rfl rfl)
theorem dX5_sends_47 : decode cX5_sends 47 = .ok (.iload_n 3, 1) := dk_29 (dk_at dksX5_sends_2 0 rfl rfl)
theorem dX5_sends_48 : decode cX5_sends 48 = .ok (.laload, 1) := dk_47 (dk_at dksX5_sends_2 1 rfl rfl)
theorem dX5_sends_49 : decode cX5_sends 49 = .ok (.aload_n 0, 1) := dk_42 (dk_at dksX5_sends_2 2 rfl rfl)
theorem dX5_sends_50 : decode cX5_sends 50 = .ok (.getfield 49, 3) := dk_180 0 49 (dk_at dksX5_sends_2 3 rfl rfl)
theorem dX5_sends_53 : decode cX5_sends 53 = .ok (.iload_n 2, 1) := dk_28 (dk_at dksX5_sends_2 6 rfl rfl)
theorem dX5_sends_54 : decode cX5_sends 54 = .ok (.laload, 1) := dk_47 (dk_at dksX5_sends_2 7 rfl rfl)
theorem dX5_sends_55 : decode cX5_sends 55 = .ok (.lcmp, 1) := dk_148 (dk_at dksX5_sends_2 8 rfl rfl)
theorem dX5_sends_56 : decode cX5_sends 56 = .ok (.ifCond .ge 5, 3) := dk_156 0 5 (dk_at dksX5_sends_2 9 rfl rfl)
theorem dX5_sends_59 : decode cX5_sends 59 = .ok (.iload_n 3, 1) := dk_29 (dk_at dksX5_sends_2 12 rfl rfl)
theorem dX5_sends_60 : decode cX5_sends 60 = .ok (.istore_n 2, 1) := dk_61 (dk_at dksX5_sends_2 13 rfl rfl)
theorem dX5_sends_61 : decode cX5_sends 61 = .ok (.iinc 3 1, 3) := dk_132 3 1 (dk_at dksX5_sends_2 14 rfl rfl)
theorem dX5_sends_64 : decode cX5_sends 64 = .ok (.goto (-55), 3) := dk_167 255 201 (dk_at dksX5_sends_2 17 rfl rfl)
theorem dX5_sends_67 : decode cX5_sends 67 = .ok (.iload_n 2, 1) := dk_28 (dk_at dksX5_sends_2 20 rfl rfl)
theorem dX5_sends_68 : decode cX5_sends 68 = .ok (.ifCond .ge 5, 3) := dk_156 0 5 (dk_at dksX5_sends_2 21 rfl rfl)
theorem dX5_sends_71 : decode cX5_sends 71 = .ok (.iconst 0, 1) := dk_3 (dk_at dksX5_sends_3 0 rfl rfl)
theorem dX5_sends_72 : decode cX5_sends 72 = .ok (.ireturn, 1) := dk_172 (dk_at dksX5_sends_3 1 rfl rfl)
theorem dX5_sends_73 : decode cX5_sends 73 = .ok (.aload_n 0, 1) := dk_42 (dk_at dksX5_sends_3 2 rfl rfl)
theorem dX5_sends_74 : decode cX5_sends 74 = .ok (.getfield 46, 3) := dk_180 0 46 (dk_at dksX5_sends_3 3 rfl rfl)
theorem dX5_sends_77 : decode cX5_sends 77 = .ok (.iload_n 1, 1) := dk_27 (dk_at dksX5_sends_3 6 rfl rfl)
theorem dX5_sends_78 : decode cX5_sends 78 = .ok (.iaload, 1) := dk_46 (dk_at dksX5_sends_3 7 rfl rfl)
theorem dX5_sends_79 : decode cX5_sends 79 = .ok (.aload_n 0, 1) := dk_42 (dk_at dksX5_sends_3 8 rfl rfl)
theorem dX5_sends_80 : decode cX5_sends 80 = .ok (.getfield 46, 3) := dk_180 0 46 (dk_at dksX5_sends_3 9 rfl rfl)
theorem dX5_sends_83 : decode cX5_sends 83 = .ok (.iload_n 2, 1) := dk_28 (dk_at dksX5_sends_3 12 rfl rfl)
theorem dX5_sends_84 : decode cX5_sends 84 = .ok (.iaload, 1) := dk_46 (dk_at dksX5_sends_3 13 rfl rfl)
theorem dX5_sends_85 : decode cX5_sends 85 = .ok (.ineg, 1) := dk_116 (dk_at dksX5_sends_3 14 rfl rfl)
theorem dX5_sends_86 : decode cX5_sends 86 = .ok (.if_icmp .ge 12, 3) := dk_162 0 12 (dk_at dksX5_sends_3 15 rfl rfl)
theorem dX5_sends_89 : decode cX5_sends 89 = .ok (.aload_n 0, 1) := dk_42 (dk_at dksX5_sends_3 18 rfl rfl)
theorem dX5_sends_90 : decode cX5_sends 90 = .ok (.getfield 46, 3) := dk_180 0 46 (dk_at dksX5_sends_3 19 rfl rfl)
theorem dX5_sends_93 : decode cX5_sends 93 = .ok (.iload_n 1, 1) := dk_27 (dk_at dksX5_sends_3 22 rfl rfl)
theorem dX5_sends_94 : decode cX5_sends 94 = .ok (.iaload, 1) := dk_46 (dk_at dksX5_sends_3 23 rfl rfl)
theorem dX5_sends_95 : decode cX5_sends 95 = .ok (.goto 10, 3) := dk_167 0 10 (dk_at dksX5_sends_4 0 rfl rfl)
theorem dX5_sends_98 : decode cX5_sends 98 = .ok (.aload_n 0, 1) := dk_42 (dk_at dksX5_sends_4 3 rfl rfl)
theorem dX5_sends_99 : decode cX5_sends 99 = .ok (.getfield 46, 3) := dk_180 0 46 (dk_at dksX5_sends_4 4 rfl rfl)
theorem dX5_sends_102 : decode cX5_sends 102 = .ok (.iload_n 2, 1) := dk_28 (dk_at dksX5_sends_4 7 rfl rfl)
theorem dX5_sends_103 : decode cX5_sends 103 = .ok (.iaload, 1) := dk_46 (dk_at dksX5_sends_4 8 rfl rfl)
theorem dX5_sends_104 : decode cX5_sends 104 = .ok (.ineg, 1) := dk_116 (dk_at dksX5_sends_4 9 rfl rfl)
theorem dX5_sends_105 : decode cX5_sends 105 = .ok (.istore_n 3, 1) := dk_62 (dk_at dksX5_sends_4 10 rfl rfl)
theorem dX5_sends_106 : decode cX5_sends 106 = .ok (.iload_n 2, 1) := dk_28 (dk_at dksX5_sends_4 11 rfl rfl)
theorem dX5_sends_107 : decode cX5_sends 107 = .ok (.istore 4, 2) := dk_54 4 (dk_at dksX5_sends_4 12 rfl rfl)
theorem dX5_sends_109 : decode cX5_sends 109 = .ok (.iload 4, 2) := dk_21 4 (dk_at dksX5_sends_4 14 rfl rfl)
theorem dX5_sends_111 : decode cX5_sends 111 = .ok (.iload_n 1, 1) := dk_27 (dk_at dksX5_sends_4 16 rfl rfl)
theorem dX5_sends_112 : decode cX5_sends 112 = .ok (.if_icmp .eq 51, 3) := dk_159 0 51 (dk_at dksX5_sends_4 17 rfl rfl)
theorem dX5_sends_115 : decode cX5_sends 115 = .ok (.aload_n 0, 1) := dk_42 (dk_at dksX5_sends_4 20 rfl rfl)
theorem dX5_sends_116 : decode cX5_sends 116 = .ok (.aload_n 0, 1) := dk_42 (dk_at dksX5_sends_4 21 rfl rfl)
theorem dX5_sends_117 : decode cX5_sends 117 = .ok (.getfield 52, 3) := dk_180 0 52 (dk_at dksX5_sends_5 0 rfl rfl)
theorem dX5_sends_120 : decode cX5_sends 120 = .ok (.iload 4, 2) := dk_21 4 (dk_at dksX5_sends_5 3 rfl rfl)
theorem dX5_sends_122 : decode cX5_sends 122 = .ok (.iaload, 1) := dk_46 (dk_at dksX5_sends_5 5 rfl rfl)
theorem dX5_sends_123 : decode cX5_sends 123 = .ok (.invokevirtual 221, 3) := dk_182 0 221 (dk_at dksX5_sends_5 6 rfl rfl)
theorem dX5_sends_126 : decode cX5_sends 126 = .ok (.iload_n 3, 1) := dk_29 (dk_at dksX5_sends_5 9 rfl rfl)
theorem dX5_sends_127 : decode cX5_sends 127 = .ok (.if_icmp .ge 17, 3) := dk_162 0 17 (dk_at dksX5_sends_5 10 rfl rfl)
theorem dX5_sends_130 : decode cX5_sends 130 = .ok (.aload_n 0, 1) := dk_42 (dk_at dksX5_sends_5 13 rfl rfl)
theorem dX5_sends_131 : decode cX5_sends 131 = .ok (.aload_n 0, 1) := dk_42 (dk_at dksX5_sends_5 14 rfl rfl)
theorem dX5_sends_132 : decode cX5_sends 132 = .ok (.getfield 52, 3) := dk_180 0 52 (dk_at dksX5_sends_5 15 rfl rfl)
theorem dX5_sends_135 : decode cX5_sends 135 = .ok (.iload 4, 2) := dk_21 4 (dk_at dksX5_sends_5 18 rfl rfl)
theorem dX5_sends_137 : decode cX5_sends 137 = .ok (.iaload, 1) := dk_46 (dk_at dksX5_sends_5 20 rfl rfl)
theorem dX5_sends_138 : decode cX5_sends 138 = .ok (.invokevirtual 221, 3) := dk_182 0 221 (dk_at dksX5_sends_5 21 rfl rfl)
theorem dX5_sends_141 : decode cX5_sends 141 = .ok (.goto 4, 3) := dk_167 0 4 (dk_at dksX5_sends_6 0 rfl rfl)
theorem dX5_sends_144 : decode cX5_sends 144 = .ok (.iload_n 3, 1) := dk_29 (dk_at dksX5_sends_6 3 rfl rfl)
theorem dX5_sends_145 : decode cX5_sends 145 = .ok (.istore_n 3, 1) := dk_62 (dk_at dksX5_sends_6 4 rfl rfl)
theorem dX5_sends_146 : decode cX5_sends 146 = .ok (.aload_n 0, 1) := dk_42 (dk_at dksX5_sends_6 5 rfl rfl)
theorem dX5_sends_147 : decode cX5_sends 147 = .ok (.aload_n 0, 1) := dk_42 (dk_at dksX5_sends_6 6 rfl rfl)
theorem dX5_sends_148 : decode cX5_sends 148 = .ok (.getfield 52, 3) := dk_180 0 52 (dk_at dksX5_sends_6 7 rfl rfl)
theorem dX5_sends_151 : decode cX5_sends 151 = .ok (.iload 4, 2) := dk_21 4 (dk_at dksX5_sends_6 10 rfl rfl)
theorem dX5_sends_153 : decode cX5_sends 153 = .ok (.iaload, 1) := dk_46 (dk_at dksX5_sends_6 12 rfl rfl)
theorem dX5_sends_154 : decode cX5_sends 154 = .ok (.iconst 1, 1) := dk_4 (dk_at dksX5_sends_6 13 rfl rfl)
theorem dX5_sends_155 : decode cX5_sends 155 = .ok (.invokevirtual 217, 3) := dk_182 0 217 (dk_at dksX5_sends_6 14 rfl rfl)
theorem dX5_sends_158 : decode cX5_sends 158 = .ok (.istore 4, 2) := dk_54 4 (dk_at dksX5_sends_6 17 rfl rfl)
theorem dX5_sends_160 : decode cX5_sends 160 = .ok (.goto (-51), 3) := dk_167 255 205 (dk_at dksX5_sends_6 19 rfl rfl)
theorem dX5_sends_163 : decode cX5_sends 163 = .ok (.iload_n 2, 1) := dk_28 (dk_at dksX5_sends_6 22 rfl rfl)
theorem dX5_sends_164 : decode cX5_sends 164 = .ok (.istore 4, 2) := dk_54 4 (dk_at dksX5_sends_7 0 rfl rfl)
theorem dX5_sends_166 : decode cX5_sends 166 = .ok (.iload 4, 2) := dk_21 4 (dk_at dksX5_sends_7 2 rfl rfl)
theorem dX5_sends_168 : decode cX5_sends 168 = .ok (.iload_n 1, 1) := dk_27 (dk_at dksX5_sends_7 4 rfl rfl)
theorem dX5_sends_169 : decode cX5_sends 169 = .ok (.if_icmp .eq 32, 3) := dk_159 0 32 (dk_at dksX5_sends_7 5 rfl rfl)
theorem dX5_sends_172 : decode cX5_sends 172 = .ok (.aload_n 0, 1) := dk_42 (dk_at dksX5_sends_7 8 rfl rfl)
theorem dX5_sends_173 : decode cX5_sends 173 = .ok (.aload_n 0, 1) := dk_42 (dk_at dksX5_sends_7 9 rfl rfl)
theorem dX5_sends_174 : decode cX5_sends 174 = .ok (.getfield 52, 3) := dk_180 0 52 (dk_at dksX5_sends_7 10 rfl rfl)
theorem dX5_sends_177 : decode cX5_sends 177 = .ok (.iload 4, 2) := dk_21 4 (dk_at dksX5_sends_7 13 rfl rfl)
theorem dX5_sends_179 : decode cX5_sends 179 = .ok (.iaload, 1) := dk_46 (dk_at dksX5_sends_7 15 rfl rfl)
theorem dX5_sends_180 : decode cX5_sends 180 = .ok (.iload_n 3, 1) := dk_29 (dk_at dksX5_sends_7 16 rfl rfl)
theorem dX5_sends_181 : decode cX5_sends 181 = .ok (.invokevirtual 231, 3) := dk_182 0 231 (dk_at dksX5_sends_7 17 rfl rfl)
theorem dX5_sends_184 : decode cX5_sends 184 = .ok (.aload_n 0, 1) := dk_42 (dk_at dksX5_sends_7 20 rfl rfl)
theorem dX5_sends_185 : decode cX5_sends 185 = .ok (.aload_n 0, 1) := dk_42 (dk_at dksX5_sends_7 21 rfl rfl)
theorem dX5_sends_186 : decode cX5_sends 186 = .ok (.getfield 52, 3) := dk_180 0 52 (dk_at dksX5_sends_8 0 rfl rfl)
theorem dX5_sends_189 : decode cX5_sends 189 = .ok (.iload 4, 2) := dk_21 4 (dk_at dksX5_sends_8 3 rfl rfl)
theorem dX5_sends_191 : decode cX5_sends 191 = .ok (.iaload, 1) := dk_46 (dk_at dksX5_sends_8 5 rfl rfl)
theorem dX5_sends_192 : decode cX5_sends 192 = .ok (.iconst 1, 1) := dk_4 (dk_at dksX5_sends_8 6 rfl rfl)
theorem dX5_sends_193 : decode cX5_sends 193 = .ok (.invokevirtual 217, 3) := dk_182 0 217 (dk_at dksX5_sends_8 7 rfl rfl)
theorem dX5_sends_196 : decode cX5_sends 196 = .ok (.istore 4, 2) := dk_54 4 (dk_at dksX5_sends_8 10 rfl rfl)
theorem dX5_sends_198 : decode cX5_sends 198 = .ok (.goto (-32), 3) := dk_167 255 224 (dk_at dksX5_sends_8 12 rfl rfl)
theorem dX5_sends_201 : decode cX5_sends 201 = .ok (.aload_n 0, 1) := dk_42 (dk_at dksX5_sends_8 15 rfl rfl)
theorem dX5_sends_202 : decode cX5_sends 202 = .ok (.getfield 46, 3) := dk_180 0 46 (dk_at dksX5_sends_8 16 rfl rfl)
theorem dX5_sends_205 : decode cX5_sends 205 = .ok (.iload_n 1, 1) := dk_27 (dk_at dksX5_sends_8 19 rfl rfl)
theorem dX5_sends_206 : decode cX5_sends 206 = .ok (.dup2, 1) := dk_92 (dk_at dksX5_sends_8 20 rfl rfl)
theorem dX5_sends_207 : decode cX5_sends 207 = .ok (.iaload, 1) := dk_46 (dk_at dksX5_sends_8 21 rfl rfl)
theorem dX5_sends_208 : decode cX5_sends 208 = .ok (.iload_n 3, 1) := dk_29 (dk_at dksX5_sends_8 22 rfl rfl)
theorem dX5_sends_209 : decode cX5_sends 209 = .ok (.isub, 1) := dk_100 (dk_at dksX5_sends_8 23 rfl rfl)
theorem dX5_sends_210 : decode cX5_sends 210 = .ok (.iastore, 1) := dk_79 (dk_at dksX5_sends_9 0 rfl rfl)
theorem dX5_sends_211 : decode cX5_sends 211 = .ok (.aload_n 0, 1) := dk_42 (dk_at dksX5_sends_9 1 rfl rfl)
theorem dX5_sends_212 : decode cX5_sends 212 = .ok (.getfield 46, 3) := dk_180 0 46 (dk_at dksX5_sends_9 2 rfl rfl)
theorem dX5_sends_215 : decode cX5_sends 215 = .ok (.iload_n 2, 1) := dk_28 (dk_at dksX5_sends_9 5 rfl rfl)
theorem dX5_sends_216 : decode cX5_sends 216 = .ok (.dup2, 1) := dk_92 (dk_at dksX5_sends_9 6 rfl rfl)
theorem dX5_sends_217 : decode cX5_sends 217 = .ok (.iaload, 1) := dk_46 (dk_at dksX5_sends_9 7 rfl rfl)
theorem dX5_sends_218 : decode cX5_sends 218 = .ok (.iload_n 3, 1) := dk_29 (dk_at dksX5_sends_9 8 rfl rfl)
theorem dX5_sends_219 : decode cX5_sends 219 = .ok (.iadd, 1) := dk_96 (dk_at dksX5_sends_9 9 rfl rfl)
theorem dX5_sends_220 : decode cX5_sends 220 = .ok (.iastore, 1) := dk_79 (dk_at dksX5_sends_9 10 rfl rfl)
theorem dX5_sends_221 : decode cX5_sends 221 = .ok (.iconst 1, 1) := dk_4 (dk_at dksX5_sends_9 11 rfl rfl)
theorem dX5_sends_222 : decode cX5_sends 222 = .ok (.ireturn, 1) := dk_172 (dk_at dksX5_sends_9 12 rfl rfl)
abbrev cX5_reaches : ByteArray := prog_17_method_42_code
def yX5_reaches : MethodName := ⟨RX5, "reaches", "(I)V"⟩
def dkwX5_reaches_6 : List UInt8 := [180, 0, 52, 21, 5, 29, 79, 4, 61, 132, 3, 1, 167, 255, 148, 167, 255, 137, 177]
abbrev dktX5_reaches_6 : List UInt8 := dkwX5_reaches_6 ++ []
def dkwX5_reaches_5 : List UInt8 := [167, 0, 33, 42, 180, 0, 49, 21, 5, 42, 180, 0, 49, 21, 4, 47, 42, 29, 182, 0, 224, 97, 80, 42]
abbrev dktX5_reaches_5 : List UInt8 := dkwX5_reaches_5 ++ dktX5_reaches_6
def dkwX5_reaches_4 : List UInt8 := [42, 180, 0, 49, 21, 5, 47, 42, 180, 0, 49, 21, 4, 47, 42, 29, 182, 0, 224, 97, 148, 157, 0, 6]
abbrev dktX5_reaches_4 : List UInt8 := dkwX5_reaches_4 ++ dktX5_reaches_5
def dkwX5_reaches_3 : List UInt8 := [54, 5, 42, 29, 182, 0, 221, 153, 0, 74, 42, 180, 0, 49, 21, 4, 47, 20, 0, 215, 148, 153, 0, 60]
abbrev dktX5_reaches_3 : List UInt8 := dkwX5_reaches_3 ++ dktX5_reaches_4
def dkwX5_reaches_2 : List UInt8 := [5, 42, 182, 0, 107, 104, 162, 0, 104, 42, 29, 4, 182, 0, 217, 54, 4, 42, 29, 3, 182, 0, 217]
abbrev dktX5_reaches_2 : List UInt8 := dkwX5_reaches_2 ++ dktX5_reaches_3
def dkwX5_reaches_1 : List UInt8 := [180, 0, 49, 27, 9, 80, 42, 180, 0, 52, 27, 2, 79, 4, 61, 28, 153, 0, 121, 3, 61, 3, 62, 29]
abbrev dktX5_reaches_1 : List UInt8 := dkwX5_reaches_1 ++ dktX5_reaches_2
def dkwX5_reaches_0 : List UInt8 := [3, 61, 28, 16, 8, 162, 0, 18, 42, 180, 0, 49, 28, 20, 0, 215, 80, 132, 2, 1, 167, 255, 238, 42]
abbrev dktX5_reaches_0 : List UInt8 := dkwX5_reaches_0 ++ dktX5_reaches_1
theorem dksX5_reaches_0 : cX5_reaches.data.toList.drop 0 = dktX5_reaches_0 := by decide +kernel
theorem dksX5_reaches_1 : cX5_reaches.data.toList.drop 24 = dktX5_reaches_1 := dk_seg dksX5_reaches_0 24 rfl rfl
theorem dksX5_reaches_2 : cX5_reaches.data.toList.drop 48 = dktX5_reaches_2 := dk_seg dksX5_reaches_1 24 rfl rfl
theorem dksX5_reaches_3 : cX5_reaches.data.toList.drop 71 = dktX5_reaches_3 := dk_seg dksX5_reaches_2 23 rfl rfl
theorem dksX5_reaches_4 : cX5_reaches.data.toList.drop 95 = dktX5_reaches_4 := dk_seg dksX5_reaches_3 24 rfl rfl
theorem dksX5_reaches_5 : cX5_reaches.data.toList.drop 119 = dktX5_reaches_5 := dk_seg dksX5_reaches_4 24 rfl rfl
theorem dksX5_reaches_6 : cX5_reaches.data.toList.drop 143 = dktX5_reaches_6 := dk_seg dksX5_reaches_5 24 rfl rfl
theorem dX5_reaches_0 : decode cX5_reaches 0 = .ok (.iconst 0, 1) := dk_3 (dk_at dksX5_reaches_0 0 rfl rfl)
theorem dX5_reaches_1 : decode cX5_reaches 1 = .ok (.istore_n 2, 1) := dk_61 (dk_at dksX5_reaches_0 1 rfl rfl)
theorem dX5_reaches_2 : decode cX5_reaches 2 = .ok (.iload_n 2, 1) := dk_28 (dk_at dksX5_reaches_0 2 rfl rfl)
theorem dX5_reaches_3 : decode cX5_reaches 3 = .ok (.bipush 8, 2) := dk_16 8 (dk_at dksX5_reaches_0 3 rfl rfl)
theorem dX5_reaches_5 : decode cX5_reaches 5 = .ok (.if_icmp .ge 18, 3) := dk_162 0 18 (dk_at dksX5_reaches_0 5 rfl rfl)
theorem dX5_reaches_8 : decode cX5_reaches 8 = .ok (.aload_n 0, 1) := dk_42 (dk_at dksX5_reaches_0 8 rfl rfl)
theorem dX5_reaches_9 : decode cX5_reaches 9 = .ok (.getfield 49, 3) := dk_180 0 49 (dk_at dksX5_reaches_0 9 rfl rfl)
theorem dX5_reaches_12 : decode cX5_reaches 12 = .ok (.iload_n 2, 1) := dk_28 (dk_at dksX5_reaches_0 12 rfl rfl)
theorem dX5_reaches_13 : decode cX5_reaches 13 = .ok (.ldc2_w 215, 3) := dk_20 0 215 (dk_at dksX5_reaches_0 13 rfl rfl)
theorem dX5_reaches_16 : decode cX5_reaches 16 = .ok (.lastore, 1) := dk_80 (dk_at dksX5_reaches_0 16 rfl rfl)
theorem dX5_reaches_17 : decode cX5_reaches 17 = .ok (.iinc 2 1, 3) := dk_132 2 1 (dk_at dksX5_reaches_0 17 rfl rfl)
theorem dX5_reaches_20 : decode cX5_reaches 20 = .ok (.goto (-18), 3) := dk_167 255 238 (dk_at dksX5_reaches_0 20 rfl rfl)
theorem dX5_reaches_23 : decode cX5_reaches 23 = .ok (.aload_n 0, 1) := dk_42 (dk_at dksX5_reaches_0 23 rfl rfl)
theorem dX5_reaches_24 : decode cX5_reaches 24 = .ok (.getfield 49, 3) := dk_180 0 49 (dk_at dksX5_reaches_1 0 rfl rfl)
theorem dX5_reaches_27 : decode cX5_reaches 27 = .ok (.iload_n 1, 1) := dk_27 (dk_at dksX5_reaches_1 3 rfl rfl)
theorem dX5_reaches_28 : decode cX5_reaches 28 = .ok (.lconst 0, 1) := dk_9 (dk_at dksX5_reaches_1 4 rfl rfl)
theorem dX5_reaches_29 : decode cX5_reaches 29 = .ok (.lastore, 1) := dk_80 (dk_at dksX5_reaches_1 5 rfl rfl)
theorem dX5_reaches_30 : decode cX5_reaches 30 = .ok (.aload_n 0, 1) := dk_42 (dk_at dksX5_reaches_1 6 rfl rfl)
theorem dX5_reaches_31 : decode cX5_reaches 31 = .ok (.getfield 52, 3) := dk_180 0 52 (dk_at dksX5_reaches_1 7 rfl rfl)
theorem dX5_reaches_34 : decode cX5_reaches 34 = .ok (.iload_n 1, 1) := dk_27 (dk_at dksX5_reaches_1 10 rfl rfl)
theorem dX5_reaches_35 : decode cX5_reaches 35 = .ok (.iconst (-1), 1) := dk_2 (dk_at dksX5_reaches_1 11 rfl rfl)
theorem dX5_reaches_36 : decode cX5_reaches 36 = .ok (.iastore, 1) := dk_79 (dk_at dksX5_reaches_1 12 rfl rfl)
theorem dX5_reaches_37 : decode cX5_reaches 37 = .ok (.iconst 1, 1) := dk_4 (dk_at dksX5_reaches_1 13 rfl rfl)
theorem dX5_reaches_38 : decode cX5_reaches 38 = .ok (.istore_n 2, 1) := dk_61 (dk_at dksX5_reaches_1 14 rfl rfl)
theorem dX5_reaches_39 : decode cX5_reaches 39 = .ok (.iload_n 2, 1) := dk_28 (dk_at dksX5_reaches_1 15 rfl rfl)
theorem dX5_reaches_40 : decode cX5_reaches 40 = .ok (.ifCond .eq 121, 3) := dk_153 0 121 (dk_at dksX5_reaches_1 16 rfl rfl)
theorem dX5_reaches_43 : decode cX5_reaches 43 = .ok (.iconst 0, 1) := dk_3 (dk_at dksX5_reaches_1 19 rfl rfl)
theorem dX5_reaches_44 : decode cX5_reaches 44 = .ok (.istore_n 2, 1) := dk_61 (dk_at dksX5_reaches_1 20 rfl rfl)
theorem dX5_reaches_45 : decode cX5_reaches 45 = .ok (.iconst 0, 1) := dk_3 (dk_at dksX5_reaches_1 21 rfl rfl)
theorem dX5_reaches_46 : decode cX5_reaches 46 = .ok (.istore_n 3, 1) := dk_62 (dk_at dksX5_reaches_1 22 rfl rfl)
theorem dX5_reaches_47 : decode cX5_reaches 47 = .ok (.iload_n 3, 1) := dk_29 (dk_at dksX5_reaches_1 23 rfl rfl)
theorem dX5_reaches_48 : decode cX5_reaches 48 = .ok (.iconst 2, 1) := dk_5 (dk_at dksX5_reaches_2 0 rfl rfl)
theorem dX5_reaches_49 : decode cX5_reaches 49 = .ok (.aload_n 0, 1) := dk_42 (dk_at dksX5_reaches_2 1 rfl rfl)
theorem dX5_reaches_50 : decode cX5_reaches 50 = .ok (.invokevirtual 107, 3) := dk_182 0 107 (dk_at dksX5_reaches_2 2 rfl rfl)
theorem dX5_reaches_53 : decode cX5_reaches 53 = .ok (.imul, 1) := dk_104 (dk_at dksX5_reaches_2 5 rfl rfl)
theorem dX5_reaches_54 : decode cX5_reaches 54 = .ok (.if_icmp .ge 104, 3) := dk_162 0 104 (dk_at dksX5_reaches_2 6 rfl rfl)
theorem dX5_reaches_57 : decode cX5_reaches 57 = .ok (.aload_n 0, 1) := dk_42 (dk_at dksX5_reaches_2 9 rfl rfl)
theorem dX5_reaches_58 : decode cX5_reaches 58 = .ok (.iload_n 3, 1) := dk_29 (dk_at dksX5_reaches_2 10 rfl rfl)
theorem dX5_reaches_59 : decode cX5_reaches 59 = .ok (.iconst 1, 1) := dk_4 (dk_at dksX5_reaches_2 11 rfl rfl)
theorem dX5_reaches_60 : decode cX5_reaches 60 = .ok (.invokevirtual 217, 3) := dk_182 0 217 (dk_at dksX5_reaches_2 12 rfl rfl)
theorem dX5_reaches_63 : decode cX5_reaches 63 = .ok (.istore 4, 2) := dk_54 4 (dk_at dksX5_reaches_2 15 rfl rfl)
theorem dX5_reaches_65 : decode cX5_reaches 65 = .ok (.aload_n 0, 1) := dk_42 (dk_at dksX5_reaches_2 17 rfl rfl)
theorem dX5_reaches_66 : decode cX5_reaches 66 = .ok (.iload_n 3, 1) := dk_29 (dk_at dksX5_reaches_2 18 rfl rfl)
theorem dX5_reaches_67 : decode cX5_reaches 67 = .ok (.iconst 0, 1) := dk_3 (dk_at dksX5_reaches_2 19 rfl rfl)
theorem dX5_reaches_68 : decode cX5_reaches 68 = .ok (.invokevirtual 217, 3) := dk_182 0 217 (dk_at dksX5_reaches_2 20 rfl rfl)
theorem dX5_reaches_71 : decode cX5_reaches 71 = .ok (.istore 5, 2) := dk_54 5 (dk_at dksX5_reaches_3 0 rfl rfl)
theorem dX5_reaches_73 : decode cX5_reaches 73 = .ok (.aload_n 0, 1) := dk_42 (dk_at dksX5_reaches_3 2 rfl rfl)
theorem dX5_reaches_74 : decode cX5_reaches 74 = .ok (.iload_n 3, 1) := dk_29 (dk_at dksX5_reaches_3 3 rfl rfl)
theorem dX5_reaches_75 : decode cX5_reaches 75 = .ok (.invokevirtual 221, 3) := dk_182 0 221 (dk_at dksX5_reaches_3 4 rfl rfl)
theorem dX5_reaches_78 : decode cX5_reaches 78 = .ok (.ifCond .eq 74, 3) := dk_153 0 74 (dk_at dksX5_reaches_3 7 rfl rfl)
theorem dX5_reaches_81 : decode cX5_reaches 81 = .ok (.aload_n 0, 1) := dk_42 (dk_at dksX5_reaches_3 10 rfl rfl)
theorem dX5_reaches_82 : decode cX5_reaches 82 = .ok (.getfield 49, 3) := dk_180 0 49 (dk_at dksX5_reaches_3 11 rfl rfl)
theorem dX5_reaches_85 : decode cX5_reaches 85 = .ok (.iload 4, 2) := dk_21 4 (dk_at dksX5_reaches_3 14 rfl rfl)
theorem dX5_reaches_87 : decode cX5_reaches 87 = .ok (.laload, 1) := dk_47 (dk_at dksX5_reaches_3 16 rfl rfl)
theorem dX5_reaches_88 : decode cX5_reaches 88 = .ok (.ldc2_w 215, 3) := dk_20 0 215 (dk_at dksX5_reaches_3 17 rfl rfl)
theorem dX5_reaches_91 : decode cX5_reaches 91 = .ok (.lcmp, 1) := dk_148 (dk_at dksX5_reaches_3 20 rfl rfl)
theorem dX5_reaches_92 : decode cX5_reaches 92 = .ok (.ifCond .eq 60, 3) := dk_153 0 60 (dk_at dksX5_reaches_3 21 rfl rfl)
theorem dX5_reaches_95 : decode cX5_reaches 95 = .ok (.aload_n 0, 1) := dk_42 (dk_at dksX5_reaches_4 0 rfl rfl)
theorem dX5_reaches_96 : decode cX5_reaches 96 = .ok (.getfield 49, 3) := dk_180 0 49 (dk_at dksX5_reaches_4 1 rfl rfl)
theorem dX5_reaches_99 : decode cX5_reaches 99 = .ok (.iload 5, 2) := dk_21 5 (dk_at dksX5_reaches_4 4 rfl rfl)
theorem dX5_reaches_101 : decode cX5_reaches 101 = .ok (.laload, 1) := dk_47 (dk_at dksX5_reaches_4 6 rfl rfl)
theorem dX5_reaches_102 : decode cX5_reaches 102 = .ok (.aload_n 0, 1) := dk_42 (dk_at dksX5_reaches_4 7 rfl rfl)
theorem dX5_reaches_103 : decode cX5_reaches 103 = .ok (.getfield 49, 3) := dk_180 0 49 (dk_at dksX5_reaches_4 8 rfl rfl)
theorem dX5_reaches_106 : decode cX5_reaches 106 = .ok (.iload 4, 2) := dk_21 4 (dk_at dksX5_reaches_4 11 rfl rfl)
theorem dX5_reaches_108 : decode cX5_reaches 108 = .ok (.laload, 1) := dk_47 (dk_at dksX5_reaches_4 13 rfl rfl)
theorem dX5_reaches_109 : decode cX5_reaches 109 = .ok (.aload_n 0, 1) := dk_42 (dk_at dksX5_reaches_4 14 rfl rfl)
theorem dX5_reaches_110 : decode cX5_reaches 110 = .ok (.iload_n 3, 1) := dk_29 (dk_at dksX5_reaches_4 15 rfl rfl)
theorem dX5_reaches_111 : decode cX5_reaches 111 = .ok (.invokevirtual 224, 3) := dk_182 0 224 (dk_at dksX5_reaches_4 16 rfl rfl)
theorem dX5_reaches_114 : decode cX5_reaches 114 = .ok (.ladd, 1) := dk_97 (dk_at dksX5_reaches_4 19 rfl rfl)
theorem dX5_reaches_115 : decode cX5_reaches 115 = .ok (.lcmp, 1) := dk_148 (dk_at dksX5_reaches_4 20 rfl rfl)
theorem dX5_reaches_116 : decode cX5_reaches 116 = .ok (.ifCond .gt 6, 3) := dk_157 0 6 (dk_at dksX5_reaches_4 21 rfl rfl)
theorem dX5_reaches_119 : decode cX5_reaches 119 = .ok (.goto 33, 3) := dk_167 0 33 (dk_at dksX5_reaches_5 0 rfl rfl)
theorem dX5_reaches_122 : decode cX5_reaches 122 = .ok (.aload_n 0, 1) := dk_42 (dk_at dksX5_reaches_5 3 rfl rfl)
theorem dX5_reaches_123 : decode cX5_reaches 123 = .ok (.getfield 49, 3) := dk_180 0 49 (dk_at dksX5_reaches_5 4 rfl rfl)
theorem dX5_reaches_126 : decode cX5_reaches 126 = .ok (.iload 5, 2) := dk_21 5 (dk_at dksX5_reaches_5 7 rfl rfl)
theorem dX5_reaches_128 : decode cX5_reaches 128 = .ok (.aload_n 0, 1) := dk_42 (dk_at dksX5_reaches_5 9 rfl rfl)
theorem dX5_reaches_129 : decode cX5_reaches 129 = .ok (.getfield 49, 3) := dk_180 0 49 (dk_at dksX5_reaches_5 10 rfl rfl)
theorem dX5_reaches_132 : decode cX5_reaches 132 = .ok (.iload 4, 2) := dk_21 4 (dk_at dksX5_reaches_5 13 rfl rfl)
theorem dX5_reaches_134 : decode cX5_reaches 134 = .ok (.laload, 1) := dk_47 (dk_at dksX5_reaches_5 15 rfl rfl)
theorem dX5_reaches_135 : decode cX5_reaches 135 = .ok (.aload_n 0, 1) := dk_42 (dk_at dksX5_reaches_5 16 rfl rfl)
theorem dX5_reaches_136 : decode cX5_reaches 136 = .ok (.iload_n 3, 1) := dk_29 (dk_at dksX5_reaches_5 17 rfl rfl)
theorem dX5_reaches_137 : decode cX5_reaches 137 = .ok (.invokevirtual 224, 3) := dk_182 0 224 (dk_at dksX5_reaches_5 18 rfl rfl)
theorem dX5_reaches_140 : decode cX5_reaches 140 = .ok (.ladd, 1) := dk_97 (dk_at dksX5_reaches_5 21 rfl rfl)
theorem dX5_reaches_141 : decode cX5_reaches 141 = .ok (.lastore, 1) := dk_80 (dk_at dksX5_reaches_5 22 rfl rfl)
theorem dX5_reaches_142 : decode cX5_reaches 142 = .ok (.aload_n 0, 1) := dk_42 (dk_at dksX5_reaches_5 23 rfl rfl)
theorem dX5_reaches_143 : decode cX5_reaches 143 = .ok (.getfield 52, 3) := dk_180 0 52 (dk_at dksX5_reaches_6 0 rfl rfl)
theorem dX5_reaches_146 : decode cX5_reaches 146 = .ok (.iload 5, 2) := dk_21 5 (dk_at dksX5_reaches_6 3 rfl rfl)
theorem dX5_reaches_148 : decode cX5_reaches 148 = .ok (.iload_n 3, 1) := dk_29 (dk_at dksX5_reaches_6 5 rfl rfl)
theorem dX5_reaches_149 : decode cX5_reaches 149 = .ok (.iastore, 1) := dk_79 (dk_at dksX5_reaches_6 6 rfl rfl)
theorem dX5_reaches_150 : decode cX5_reaches 150 = .ok (.iconst 1, 1) := dk_4 (dk_at dksX5_reaches_6 7 rfl rfl)
theorem dX5_reaches_151 : decode cX5_reaches 151 = .ok (.istore_n 2, 1) := dk_61 (dk_at dksX5_reaches_6 8 rfl rfl)
theorem dX5_reaches_152 : decode cX5_reaches 152 = .ok (.iinc 3 1, 3) := dk_132 3 1 (dk_at dksX5_reaches_6 9 rfl rfl)
theorem dX5_reaches_155 : decode cX5_reaches 155 = .ok (.goto (-108), 3) := dk_167 255 148 (dk_at dksX5_reaches_6 12 rfl rfl)
theorem dX5_reaches_158 : decode cX5_reaches 158 = .ok (.goto (-119), 3) := dk_167 255 137 (dk_at dksX5_reaches_6 15 rfl rfl)
theorem dX5_reaches_161 : decode cX5_reaches 161 = .ok (.return_, 1) := dk_177 (dk_at dksX5_reaches_6 18 rfl rfl)
abbrev cX5_leads : ByteArray := prog_17_method_38_code
def yX5_leads : MethodName := ⟨RX5, "leads", "(IZ)I"⟩
def dkwX5_leads_1 : List UInt8 := [167, 0, 10, 42, 27, 5, 108, 182, 0, 156, 172]
abbrev dktX5_leads_1 : List UInt8 := dkwX5_leads_1 ++ []
def dkwX5_leads_0 : List UInt8 := [27, 5, 112, 154, 0, 7, 4, 167, 0, 4, 3, 28, 160, 0, 13, 42, 27, 5, 108, 182, 0, 152]
abbrev dktX5_leads_0 : List UInt8 := dkwX5_leads_0 ++ dktX5_leads_1
theorem dksX5_leads_0 : cX5_leads.data.toList.drop 0 = dktX5_leads_0 := by decide +kernel
theorem dksX5_leads_1 : cX5_leads.data.toList.drop 22 = dktX5_leads_1 := dk_seg dksX5_leads_0 22 rfl rfl
theorem dX5_leads_0 : decode cX5_leads 0 = .ok (.iload_n 1, 1) := dk_27 (dk_at dksX5_leads_0 0 rfl rfl)
theorem dX5_leads_1 : decode cX5_leads 1 = .ok (.iconst 2, 1) := dk_5 (dk_at dksX5_leads_0 1 rfl rfl)
theorem dX5_leads_2 : decode cX5_leads 2 = .ok (.irem, 1) := dk_112 (dk_at dksX5_leads_0 2 rfl rfl)
theorem dX5_leads_3 : decode cX5_leads 3 = .ok (.ifCond .ne 7, 3) := dk_154 0 7 (dk_at dksX5_leads_0 3 rfl rfl)
theorem dX5_leads_6 : decode cX5_leads 6 = .ok (.iconst 1, 1) := dk_4 (dk_at dksX5_leads_0 6 rfl rfl)
theorem dX5_leads_7 : decode cX5_leads 7 = .ok (.goto 4, 3) := dk_167 0 4 (dk_at dksX5_leads_0 7 rfl rfl)
theorem dX5_leads_10 : decode cX5_leads 10 = .ok (.iconst 0, 1) := dk_3 (dk_at dksX5_leads_0 10 rfl rfl)
theorem dX5_leads_11 : decode cX5_leads 11 = .ok (.iload_n 2, 1) := dk_28 (dk_at dksX5_leads_0 11 rfl rfl)
theorem dX5_leads_12 : decode cX5_leads 12 = .ok (.if_icmp .ne 13, 3) := dk_160 0 13 (dk_at dksX5_leads_0 12 rfl rfl)
theorem dX5_leads_15 : decode cX5_leads 15 = .ok (.aload_n 0, 1) := dk_42 (dk_at dksX5_leads_0 15 rfl rfl)
theorem dX5_leads_16 : decode cX5_leads 16 = .ok (.iload_n 1, 1) := dk_27 (dk_at dksX5_leads_0 16 rfl rfl)
theorem dX5_leads_17 : decode cX5_leads 17 = .ok (.iconst 2, 1) := dk_5 (dk_at dksX5_leads_0 17 rfl rfl)
theorem dX5_leads_18 : decode cX5_leads 18 = .ok (.idiv, 1) := dk_108 (dk_at dksX5_leads_0 18 rfl rfl)
theorem dX5_leads_19 : decode cX5_leads 19 = .ok (.invokevirtual 152, 3) := dk_182 0 152 (dk_at dksX5_leads_0 19 rfl rfl)
theorem dX5_leads_22 : decode cX5_leads 22 = .ok (.goto 10, 3) := dk_167 0 10 (dk_at dksX5_leads_1 0 rfl rfl)
theorem dX5_leads_25 : decode cX5_leads 25 = .ok (.aload_n 0, 1) := dk_42 (dk_at dksX5_leads_1 3 rfl rfl)
theorem dX5_leads_26 : decode cX5_leads 26 = .ok (.iload_n 1, 1) := dk_27 (dk_at dksX5_leads_1 4 rfl rfl)
theorem dX5_leads_27 : decode cX5_leads 27 = .ok (.iconst 2, 1) := dk_5 (dk_at dksX5_leads_1 5 rfl rfl)
theorem dX5_leads_28 : decode cX5_leads 28 = .ok (.idiv, 1) := dk_108 (dk_at dksX5_leads_1 6 rfl rfl)
theorem dX5_leads_29 : decode cX5_leads 29 = .ok (.invokevirtual 156, 3) := dk_182 0 156 (dk_at dksX5_leads_1 7 rfl rfl)
theorem dX5_leads_32 : decode cX5_leads 32 = .ok (.ireturn, 1) := dk_172 (dk_at dksX5_leads_1 10 rfl rfl)
abbrev cX5_room : ByteArray := prog_17_method_39_code
def yX5_room : MethodName := ⟨RX5, "room", "(I)I"⟩
def dkwX5_room_1 : List UInt8 := [167, 0, 15, 42, 180, 0, 43, 28, 46, 42, 28, 182, 0, 159, 100, 172]
abbrev dktX5_room_1 : List UInt8 := dkwX5_room_1 ++ []
def dkwX5_room_0 : List UInt8 := [27, 5, 108, 61, 27, 5, 112, 154, 0, 18, 42, 28, 182, 0, 162, 42, 180, 0, 43, 28, 46, 100]
abbrev dktX5_room_0 : List UInt8 := dkwX5_room_0 ++ dktX5_room_1
theorem dksX5_room_0 : cX5_room.data.toList.drop 0 = dktX5_room_0 := by decide +kernel
theorem dksX5_room_1 : cX5_room.data.toList.drop 22 = dktX5_room_1 := dk_seg dksX5_room_0 22 rfl rfl
theorem dX5_room_0 : decode cX5_room 0 = .ok (.iload_n 1, 1) := dk_27 (dk_at dksX5_room_0 0 rfl rfl)
theorem dX5_room_1 : decode cX5_room 1 = .ok (.iconst 2, 1) := dk_5 (dk_at dksX5_room_0 1 rfl rfl)
theorem dX5_room_2 : decode cX5_room 2 = .ok (.idiv, 1) := dk_108 (dk_at dksX5_room_0 2 rfl rfl)
theorem dX5_room_3 : decode cX5_room 3 = .ok (.istore_n 2, 1) := dk_61 (dk_at dksX5_room_0 3 rfl rfl)
theorem dX5_room_4 : decode cX5_room 4 = .ok (.iload_n 1, 1) := dk_27 (dk_at dksX5_room_0 4 rfl rfl)
theorem dX5_room_5 : decode cX5_room 5 = .ok (.iconst 2, 1) := dk_5 (dk_at dksX5_room_0 5 rfl rfl)
theorem dX5_room_6 : decode cX5_room 6 = .ok (.irem, 1) := dk_112 (dk_at dksX5_room_0 6 rfl rfl)
theorem dX5_room_7 : decode cX5_room 7 = .ok (.ifCond .ne 18, 3) := dk_154 0 18 (dk_at dksX5_room_0 7 rfl rfl)
theorem dX5_room_10 : decode cX5_room 10 = .ok (.aload_n 0, 1) := dk_42 (dk_at dksX5_room_0 10 rfl rfl)
theorem dX5_room_11 : decode cX5_room 11 = .ok (.iload_n 2, 1) := dk_28 (dk_at dksX5_room_0 11 rfl rfl)
theorem dX5_room_12 : decode cX5_room 12 = .ok (.invokevirtual 162, 3) := dk_182 0 162 (dk_at dksX5_room_0 12 rfl rfl)
theorem dX5_room_15 : decode cX5_room 15 = .ok (.aload_n 0, 1) := dk_42 (dk_at dksX5_room_0 15 rfl rfl)
theorem dX5_room_16 : decode cX5_room 16 = .ok (.getfield 43, 3) := dk_180 0 43 (dk_at dksX5_room_0 16 rfl rfl)
theorem dX5_room_19 : decode cX5_room 19 = .ok (.iload_n 2, 1) := dk_28 (dk_at dksX5_room_0 19 rfl rfl)
theorem dX5_room_20 : decode cX5_room 20 = .ok (.iaload, 1) := dk_46 (dk_at dksX5_room_0 20 rfl rfl)
theorem dX5_room_21 : decode cX5_room 21 = .ok (.isub, 1) := dk_100 (dk_at dksX5_room_0 21 rfl rfl)
theorem dX5_room_22 : decode cX5_room 22 = .ok (.goto 15, 3) := dk_167 0 15 (dk_at dksX5_room_1 0 rfl rfl)
theorem dX5_room_25 : decode cX5_room 25 = .ok (.aload_n 0, 1) := dk_42 (dk_at dksX5_room_1 3 rfl rfl)
theorem dX5_room_26 : decode cX5_room 26 = .ok (.getfield 43, 3) := dk_180 0 43 (dk_at dksX5_room_1 4 rfl rfl)
theorem dX5_room_29 : decode cX5_room 29 = .ok (.iload_n 2, 1) := dk_28 (dk_at dksX5_room_1 7 rfl rfl)
theorem dX5_room_30 : decode cX5_room 30 = .ok (.iaload, 1) := dk_46 (dk_at dksX5_room_1 8 rfl rfl)
theorem dX5_room_31 : decode cX5_room 31 = .ok (.aload_n 0, 1) := dk_42 (dk_at dksX5_room_1 9 rfl rfl)
theorem dX5_room_32 : decode cX5_room 32 = .ok (.iload_n 2, 1) := dk_28 (dk_at dksX5_room_1 10 rfl rfl)
theorem dX5_room_33 : decode cX5_room 33 = .ok (.invokevirtual 159, 3) := dk_182 0 159 (dk_at dksX5_room_1 11 rfl rfl)
theorem dX5_room_36 : decode cX5_room 36 = .ok (.isub, 1) := dk_100 (dk_at dksX5_room_1 14 rfl rfl)
theorem dX5_room_37 : decode cX5_room 37 = .ok (.ireturn, 1) := dk_172 (dk_at dksX5_room_1 15 rfl rfl)
abbrev cX5_costOf : ByteArray := prog_17_method_40_code
def yX5_costOf : MethodName := ⟨RX5, "costOf", "(I)J"⟩
def dkwX5_costOf_1 : List UInt8 := [47, 117, 173]
abbrev dktX5_costOf_1 : List UInt8 := dkwX5_costOf_1 ++ []
def dkwX5_costOf_0 : List UInt8 := [27, 5, 112, 154, 0, 14, 42, 180, 0, 15, 27, 5, 108, 47, 167, 0, 12, 42, 180, 0, 15, 27, 5, 108]
abbrev dktX5_costOf_0 : List UInt8 := dkwX5_costOf_0 ++ dktX5_costOf_1
theorem dksX5_costOf_0 : cX5_costOf.data.toList.drop 0 = dktX5_costOf_0 := by decide +kernel
theorem dksX5_costOf_1 : cX5_costOf.data.toList.drop 24 = dktX5_costOf_1 := dk_seg dksX5_costOf_0 24 rfl rfl
theorem dX5_costOf_0 : decode cX5_costOf 0 = .ok (.iload_n 1, 1) := dk_27 (dk_at dksX5_costOf_0 0 rfl rfl)
theorem dX5_costOf_1 : decode cX5_costOf 1 = .ok (.iconst 2, 1) := dk_5 (dk_at dksX5_costOf_0 1 rfl rfl)
theorem dX5_costOf_2 : decode cX5_costOf 2 = .ok (.irem, 1) := dk_112 (dk_at dksX5_costOf_0 2 rfl rfl)
theorem dX5_costOf_3 : decode cX5_costOf 3 = .ok (.ifCond .ne 14, 3) := dk_154 0 14 (dk_at dksX5_costOf_0 3 rfl rfl)
theorem dX5_costOf_6 : decode cX5_costOf 6 = .ok (.aload_n 0, 1) := dk_42 (dk_at dksX5_costOf_0 6 rfl rfl)
theorem dX5_costOf_7 : decode cX5_costOf 7 = .ok (.getfield 15, 3) := dk_180 0 15 (dk_at dksX5_costOf_0 7 rfl rfl)
theorem dX5_costOf_10 : decode cX5_costOf 10 = .ok (.iload_n 1, 1) := dk_27 (dk_at dksX5_costOf_0 10 rfl rfl)
theorem dX5_costOf_11 : decode cX5_costOf 11 = .ok (.iconst 2, 1) := dk_5 (dk_at dksX5_costOf_0 11 rfl rfl)
theorem dX5_costOf_12 : decode cX5_costOf 12 = .ok (.idiv, 1) := dk_108 (dk_at dksX5_costOf_0 12 rfl rfl)
theorem dX5_costOf_13 : decode cX5_costOf 13 = .ok (.laload, 1) := dk_47 (dk_at dksX5_costOf_0 13 rfl rfl)
theorem dX5_costOf_14 : decode cX5_costOf 14 = .ok (.goto 12, 3) := dk_167 0 12 (dk_at dksX5_costOf_0 14 rfl rfl)
theorem dX5_costOf_17 : decode cX5_costOf 17 = .ok (.aload_n 0, 1) := dk_42 (dk_at dksX5_costOf_0 17 rfl rfl)
theorem dX5_costOf_18 : decode cX5_costOf 18 = .ok (.getfield 15, 3) := dk_180 0 15 (dk_at dksX5_costOf_0 18 rfl rfl)
theorem dX5_costOf_21 : decode cX5_costOf 21 = .ok (.iload_n 1, 1) := dk_27 (dk_at dksX5_costOf_0 21 rfl rfl)
theorem dX5_costOf_22 : decode cX5_costOf 22 = .ok (.iconst 2, 1) := dk_5 (dk_at dksX5_costOf_0 22 rfl rfl)
theorem dX5_costOf_23 : decode cX5_costOf 23 = .ok (.idiv, 1) := dk_108 (dk_at dksX5_costOf_0 23 rfl rfl)
theorem dX5_costOf_24 : decode cX5_costOf 24 = .ok (.laload, 1) := dk_47 (dk_at dksX5_costOf_1 0 rfl rfl)
theorem dX5_costOf_25 : decode cX5_costOf 25 = .ok (.lneg, 1) := dk_117 (dk_at dksX5_costOf_1 1 rfl rfl)
theorem dX5_costOf_26 : decode cX5_costOf 26 = .ok (.lreturn, 1) := dk_173 (dk_at dksX5_costOf_1 2 rfl rfl)
abbrev cX5_goes : ByteArray := prog_17_method_41_code
def yX5_goes : MethodName := ⟨RX5, "goes", "(II)V"⟩
def dkwX5_goes_0 : List UInt8 := [42, 180, 0, 43, 27, 5, 108, 92, 46, 27, 5, 112, 154, 0, 7, 28, 167, 0, 5, 28, 116, 96, 79, 177]
abbrev dktX5_goes_0 : List UInt8 := dkwX5_goes_0 ++ []
theorem dksX5_goes_0 : cX5_goes.data.toList.drop 0 = dktX5_goes_0 := by decide +kernel
theorem dX5_goes_0 : decode cX5_goes 0 = .ok (.aload_n 0, 1) := dk_42 (dk_at dksX5_goes_0 0 rfl rfl)
theorem dX5_goes_1 : decode cX5_goes 1 = .ok (.getfield 43, 3) := dk_180 0 43 (dk_at dksX5_goes_0 1 rfl rfl)
theorem dX5_goes_4 : decode cX5_goes 4 = .ok (.iload_n 1, 1) := dk_27 (dk_at dksX5_goes_0 4 rfl rfl)
theorem dX5_goes_5 : decode cX5_goes 5 = .ok (.iconst 2, 1) := dk_5 (dk_at dksX5_goes_0 5 rfl rfl)
theorem dX5_goes_6 : decode cX5_goes 6 = .ok (.idiv, 1) := dk_108 (dk_at dksX5_goes_0 6 rfl rfl)
theorem dX5_goes_7 : decode cX5_goes 7 = .ok (.dup2, 1) := dk_92 (dk_at dksX5_goes_0 7 rfl rfl)
theorem dX5_goes_8 : decode cX5_goes 8 = .ok (.iaload, 1) := dk_46 (dk_at dksX5_goes_0 8 rfl rfl)
theorem dX5_goes_9 : decode cX5_goes 9 = .ok (.iload_n 1, 1) := dk_27 (dk_at dksX5_goes_0 9 rfl rfl)
theorem dX5_goes_10 : decode cX5_goes 10 = .ok (.iconst 2, 1) := dk_5 (dk_at dksX5_goes_0 10 rfl rfl)
theorem dX5_goes_11 : decode cX5_goes 11 = .ok (.irem, 1) := dk_112 (dk_at dksX5_goes_0 11 rfl rfl)
theorem dX5_goes_12 : decode cX5_goes 12 = .ok (.ifCond .ne 7, 3) := dk_154 0 7 (dk_at dksX5_goes_0 12 rfl rfl)
theorem dX5_goes_15 : decode cX5_goes 15 = .ok (.iload_n 2, 1) := dk_28 (dk_at dksX5_goes_0 15 rfl rfl)
theorem dX5_goes_16 : decode cX5_goes 16 = .ok (.goto 5, 3) := dk_167 0 5 (dk_at dksX5_goes_0 16 rfl rfl)
theorem dX5_goes_19 : decode cX5_goes 19 = .ok (.iload_n 2, 1) := dk_28 (dk_at dksX5_goes_0 19 rfl rfl)
theorem dX5_goes_20 : decode cX5_goes 20 = .ok (.ineg, 1) := dk_116 (dk_at dksX5_goes_0 20 rfl rfl)
theorem dX5_goes_21 : decode cX5_goes 21 = .ok (.iadd, 1) := dk_96 (dk_at dksX5_goes_0 21 rfl rfl)
theorem dX5_goes_22 : decode cX5_goes 22 = .ok (.iastore, 1) := dk_79 (dk_at dksX5_goes_0 22 rfl rfl)
theorem dX5_goes_23 : decode cX5_goes 23 = .ok (.return_, 1) := dk_177 (dk_at dksX5_goes_0 23 rfl rfl)
abbrev cX5_supplied : ByteArray := prog_17_method_45_code
def yX5_supplied : MethodName := ⟨RX5, "supplied", "()I"⟩
def dkwX5_supplied_1 : List UInt8 := [132, 2, 1, 167, 255, 234, 27, 172]
abbrev dktX5_supplied_1 : List UInt8 := dkwX5_supplied_1 ++ []
def dkwX5_supplied_0 : List UInt8 := [3, 60, 3, 61, 28, 42, 182, 0, 95, 162, 0, 20, 27, 42, 180, 0, 9, 5, 28, 96, 46, 96, 60]
abbrev dktX5_supplied_0 : List UInt8 := dkwX5_supplied_0 ++ dktX5_supplied_1
theorem dksX5_supplied_0 : cX5_supplied.data.toList.drop 0 = dktX5_supplied_0 := by decide +kernel
theorem dksX5_supplied_1 : cX5_supplied.data.toList.drop 23 = dktX5_supplied_1 := dk_seg dksX5_supplied_0 23 rfl rfl
theorem dX5_supplied_0 : decode cX5_supplied 0 = .ok (.iconst 0, 1) := dk_3 (dk_at dksX5_supplied_0 0 rfl rfl)
theorem dX5_supplied_1 : decode cX5_supplied 1 = .ok (.istore_n 1, 1) := dk_60 (dk_at dksX5_supplied_0 1 rfl rfl)
theorem dX5_supplied_2 : decode cX5_supplied 2 = .ok (.iconst 0, 1) := dk_3 (dk_at dksX5_supplied_0 2 rfl rfl)
theorem dX5_supplied_3 : decode cX5_supplied 3 = .ok (.istore_n 2, 1) := dk_61 (dk_at dksX5_supplied_0 3 rfl rfl)
theorem dX5_supplied_4 : decode cX5_supplied 4 = .ok (.iload_n 2, 1) := dk_28 (dk_at dksX5_supplied_0 4 rfl rfl)
theorem dX5_supplied_5 : decode cX5_supplied 5 = .ok (.aload_n 0, 1) := dk_42 (dk_at dksX5_supplied_0 5 rfl rfl)
theorem dX5_supplied_6 : decode cX5_supplied 6 = .ok (.invokevirtual 95, 3) := dk_182 0 95 (dk_at dksX5_supplied_0 6 rfl rfl)
theorem dX5_supplied_9 : decode cX5_supplied 9 = .ok (.if_icmp .ge 20, 3) := dk_162 0 20 (dk_at dksX5_supplied_0 9 rfl rfl)
theorem dX5_supplied_12 : decode cX5_supplied 12 = .ok (.iload_n 1, 1) := dk_27 (dk_at dksX5_supplied_0 12 rfl rfl)
theorem dX5_supplied_13 : decode cX5_supplied 13 = .ok (.aload_n 0, 1) := dk_42 (dk_at dksX5_supplied_0 13 rfl rfl)
theorem dX5_supplied_14 : decode cX5_supplied 14 = .ok (.getfield 9, 3) := dk_180 0 9 (dk_at dksX5_supplied_0 14 rfl rfl)
theorem dX5_supplied_17 : decode cX5_supplied 17 = .ok (.iconst 2, 1) := dk_5 (dk_at dksX5_supplied_0 17 rfl rfl)
theorem dX5_supplied_18 : decode cX5_supplied 18 = .ok (.iload_n 2, 1) := dk_28 (dk_at dksX5_supplied_0 18 rfl rfl)
theorem dX5_supplied_19 : decode cX5_supplied 19 = .ok (.iadd, 1) := dk_96 (dk_at dksX5_supplied_0 19 rfl rfl)
theorem dX5_supplied_20 : decode cX5_supplied 20 = .ok (.iaload, 1) := dk_46 (dk_at dksX5_supplied_0 20 rfl rfl)
theorem dX5_supplied_21 : decode cX5_supplied 21 = .ok (.iadd, 1) := dk_96 (dk_at dksX5_supplied_0 21 rfl rfl)
theorem dX5_supplied_22 : decode cX5_supplied 22 = .ok (.istore_n 1, 1) := dk_60 (dk_at dksX5_supplied_0 22 rfl rfl)
theorem dX5_supplied_23 : decode cX5_supplied 23 = .ok (.iinc 2 1, 3) := dk_132 2 1 (dk_at dksX5_supplied_1 0 rfl rfl)
theorem dX5_supplied_26 : decode cX5_supplied 26 = .ok (.goto (-22), 3) := dk_167 255 234 (dk_at dksX5_supplied_1 3 rfl rfl)
theorem dX5_supplied_29 : decode cX5_supplied 29 = .ok (.iload_n 1, 1) := dk_27 (dk_at dksX5_supplied_1 6 rfl rfl)
theorem dX5_supplied_30 : decode cX5_supplied 30 = .ok (.ireturn, 1) := dk_172 (dk_at dksX5_supplied_1 7 rfl rfl)
abbrev cX5_prices : ByteArray := prog_17_method_47_code
def yX5_prices : MethodName := ⟨RX5, "prices", "()V"⟩
def dkwX5_prices_4 : List UInt8 := [33, 80, 4, 60, 132, 2, 1, 167, 255, 184, 167, 255, 173, 177]
abbrev dktX5_prices_4 : List UInt8 := dkwX5_prices_4 ++ []
def dkwX5_prices_3 : List UInt8 := [28, 3, 182, 0, 217, 47, 33, 148, 157, 0, 6, 167, 0, 17, 42, 180, 0, 65, 42, 28, 3, 182, 0, 217]
abbrev dktX5_prices_3 : List UInt8 := dkwX5_prices_3 ++ dktX5_prices_4
def dkwX5_prices_2 : List UInt8 := [182, 0, 217, 47, 42, 28, 182, 0, 224, 97, 66, 42, 28, 182, 0, 221, 153, 0, 36, 42, 180, 0, 65, 42]
abbrev dktX5_prices_2 : List UInt8 := dkwX5_prices_2 ++ dktX5_prices_3
def dkwX5_prices_1 : List UInt8 := [153, 0, 85, 3, 60, 3, 61, 28, 5, 42, 182, 0, 107, 104, 162, 0, 68, 42, 180, 0, 65, 42, 28, 4]
abbrev dktX5_prices_1 : List UInt8 := dkwX5_prices_1 ++ dktX5_prices_2
def dkwX5_prices_0 : List UInt8 := [3, 60, 27, 16, 8, 162, 0, 16, 42, 180, 0, 65, 27, 9, 80, 132, 1, 1, 167, 255, 240, 4, 60, 27]
abbrev dktX5_prices_0 : List UInt8 := dkwX5_prices_0 ++ dktX5_prices_1
theorem dksX5_prices_0 : cX5_prices.data.toList.drop 0 = dktX5_prices_0 := by decide +kernel
theorem dksX5_prices_1 : cX5_prices.data.toList.drop 24 = dktX5_prices_1 := dk_seg dksX5_prices_0 24 rfl rfl
theorem dksX5_prices_2 : cX5_prices.data.toList.drop 48 = dktX5_prices_2 := dk_seg dksX5_prices_1 24 rfl rfl
theorem dksX5_prices_3 : cX5_prices.data.toList.drop 72 = dktX5_prices_3 := dk_seg dksX5_prices_2 24 rfl rfl
theorem dksX5_prices_4 : cX5_prices.data.toList.drop 96 = dktX5_prices_4 := dk_seg dksX5_prices_3 24 rfl rfl
theorem dX5_prices_0 : decode cX5_prices 0 = .ok (.iconst 0, 1) := dk_3 (dk_at dksX5_prices_0 0 rfl rfl)
theorem dX5_prices_1 : decode cX5_prices 1 = .ok (.istore_n 1, 1) := dk_60 (dk_at dksX5_prices_0 1 rfl rfl)
theorem dX5_prices_2 : decode cX5_prices 2 = .ok (.iload_n 1, 1) := dk_27 (dk_at dksX5_prices_0 2 rfl rfl)
theorem dX5_prices_3 : decode cX5_prices 3 = .ok (.bipush 8, 2) := dk_16 8 (dk_at dksX5_prices_0 3 rfl rfl)
theorem dX5_prices_5 : decode cX5_prices 5 = .ok (.if_icmp .ge 16, 3) := dk_162 0 16 (dk_at dksX5_prices_0 5 rfl rfl)
theorem dX5_prices_8 : decode cX5_prices 8 = .ok (.aload_n 0, 1) := dk_42 (dk_at dksX5_prices_0 8 rfl rfl)
theorem dX5_prices_9 : decode cX5_prices 9 = .ok (.getfield 65, 3) := dk_180 0 65 (dk_at dksX5_prices_0 9 rfl rfl)
theorem dX5_prices_12 : decode cX5_prices 12 = .ok (.iload_n 1, 1) := dk_27 (dk_at dksX5_prices_0 12 rfl rfl)
theorem dX5_prices_13 : decode cX5_prices 13 = .ok (.lconst 0, 1) := dk_9 (dk_at dksX5_prices_0 13 rfl rfl)
theorem dX5_prices_14 : decode cX5_prices 14 = .ok (.lastore, 1) := dk_80 (dk_at dksX5_prices_0 14 rfl rfl)
theorem dX5_prices_15 : decode cX5_prices 15 = .ok (.iinc 1 1, 3) := dk_132 1 1 (dk_at dksX5_prices_0 15 rfl rfl)
theorem dX5_prices_18 : decode cX5_prices 18 = .ok (.goto (-16), 3) := dk_167 255 240 (dk_at dksX5_prices_0 18 rfl rfl)
theorem dX5_prices_21 : decode cX5_prices 21 = .ok (.iconst 1, 1) := dk_4 (dk_at dksX5_prices_0 21 rfl rfl)
theorem dX5_prices_22 : decode cX5_prices 22 = .ok (.istore_n 1, 1) := dk_60 (dk_at dksX5_prices_0 22 rfl rfl)
theorem dX5_prices_23 : decode cX5_prices 23 = .ok (.iload_n 1, 1) := dk_27 (dk_at dksX5_prices_0 23 rfl rfl)
theorem dX5_prices_24 : decode cX5_prices 24 = .ok (.ifCond .eq 85, 3) := dk_153 0 85 (dk_at dksX5_prices_1 0 rfl rfl)
theorem dX5_prices_27 : decode cX5_prices 27 = .ok (.iconst 0, 1) := dk_3 (dk_at dksX5_prices_1 3 rfl rfl)
theorem dX5_prices_28 : decode cX5_prices 28 = .ok (.istore_n 1, 1) := dk_60 (dk_at dksX5_prices_1 4 rfl rfl)
theorem dX5_prices_29 : decode cX5_prices 29 = .ok (.iconst 0, 1) := dk_3 (dk_at dksX5_prices_1 5 rfl rfl)
theorem dX5_prices_30 : decode cX5_prices 30 = .ok (.istore_n 2, 1) := dk_61 (dk_at dksX5_prices_1 6 rfl rfl)
theorem dX5_prices_31 : decode cX5_prices 31 = .ok (.iload_n 2, 1) := dk_28 (dk_at dksX5_prices_1 7 rfl rfl)
theorem dX5_prices_32 : decode cX5_prices 32 = .ok (.iconst 2, 1) := dk_5 (dk_at dksX5_prices_1 8 rfl rfl)
theorem dX5_prices_33 : decode cX5_prices 33 = .ok (.aload_n 0, 1) := dk_42 (dk_at dksX5_prices_1 9 rfl rfl)
theorem dX5_prices_34 : decode cX5_prices 34 = .ok (.invokevirtual 107, 3) := dk_182 0 107 (dk_at dksX5_prices_1 10 rfl rfl)
theorem dX5_prices_37 : decode cX5_prices 37 = .ok (.imul, 1) := dk_104 (dk_at dksX5_prices_1 13 rfl rfl)
theorem dX5_prices_38 : decode cX5_prices 38 = .ok (.if_icmp .ge 68, 3) := dk_162 0 68 (dk_at dksX5_prices_1 14 rfl rfl)
theorem dX5_prices_41 : decode cX5_prices 41 = .ok (.aload_n 0, 1) := dk_42 (dk_at dksX5_prices_1 17 rfl rfl)
theorem dX5_prices_42 : decode cX5_prices 42 = .ok (.getfield 65, 3) := dk_180 0 65 (dk_at dksX5_prices_1 18 rfl rfl)
theorem dX5_prices_45 : decode cX5_prices 45 = .ok (.aload_n 0, 1) := dk_42 (dk_at dksX5_prices_1 21 rfl rfl)
theorem dX5_prices_46 : decode cX5_prices 46 = .ok (.iload_n 2, 1) := dk_28 (dk_at dksX5_prices_1 22 rfl rfl)
theorem dX5_prices_47 : decode cX5_prices 47 = .ok (.iconst 1, 1) := dk_4 (dk_at dksX5_prices_1 23 rfl rfl)
theorem dX5_prices_48 : decode cX5_prices 48 = .ok (.invokevirtual 217, 3) := dk_182 0 217 (dk_at dksX5_prices_2 0 rfl rfl)
theorem dX5_prices_51 : decode cX5_prices 51 = .ok (.laload, 1) := dk_47 (dk_at dksX5_prices_2 3 rfl rfl)
theorem dX5_prices_52 : decode cX5_prices 52 = .ok (.aload_n 0, 1) := dk_42 (dk_at dksX5_prices_2 4 rfl rfl)
theorem dX5_prices_53 : decode cX5_prices 53 = .ok (.iload_n 2, 1) := dk_28 (dk_at dksX5_prices_2 5 rfl rfl)
theorem dX5_prices_54 : decode cX5_prices 54 = .ok (.invokevirtual 224, 3) := dk_182 0 224 (dk_at dksX5_prices_2 6 rfl rfl)
theorem dX5_prices_57 : decode cX5_prices 57 = .ok (.ladd, 1) := dk_97 (dk_at dksX5_prices_2 9 rfl rfl)
theorem dX5_prices_58 : decode cX5_prices 58 = .ok (.lstore_n 3, 1) := dk_66 (dk_at dksX5_prices_2 10 rfl rfl)
theorem dX5_prices_59 : decode cX5_prices 59 = .ok (.aload_n 0, 1) := dk_42 (dk_at dksX5_prices_2 11 rfl rfl)
theorem dX5_prices_60 : decode cX5_prices 60 = .ok (.iload_n 2, 1) := dk_28 (dk_at dksX5_prices_2 12 rfl rfl)
theorem dX5_prices_61 : decode cX5_prices 61 = .ok (.invokevirtual 221, 3) := dk_182 0 221 (dk_at dksX5_prices_2 13 rfl rfl)
theorem dX5_prices_64 : decode cX5_prices 64 = .ok (.ifCond .eq 36, 3) := dk_153 0 36 (dk_at dksX5_prices_2 16 rfl rfl)
theorem dX5_prices_67 : decode cX5_prices 67 = .ok (.aload_n 0, 1) := dk_42 (dk_at dksX5_prices_2 19 rfl rfl)
theorem dX5_prices_68 : decode cX5_prices 68 = .ok (.getfield 65, 3) := dk_180 0 65 (dk_at dksX5_prices_2 20 rfl rfl)
theorem dX5_prices_71 : decode cX5_prices 71 = .ok (.aload_n 0, 1) := dk_42 (dk_at dksX5_prices_2 23 rfl rfl)
theorem dX5_prices_72 : decode cX5_prices 72 = .ok (.iload_n 2, 1) := dk_28 (dk_at dksX5_prices_3 0 rfl rfl)
theorem dX5_prices_73 : decode cX5_prices 73 = .ok (.iconst 0, 1) := dk_3 (dk_at dksX5_prices_3 1 rfl rfl)
theorem dX5_prices_74 : decode cX5_prices 74 = .ok (.invokevirtual 217, 3) := dk_182 0 217 (dk_at dksX5_prices_3 2 rfl rfl)
theorem dX5_prices_77 : decode cX5_prices 77 = .ok (.laload, 1) := dk_47 (dk_at dksX5_prices_3 5 rfl rfl)
theorem dX5_prices_78 : decode cX5_prices 78 = .ok (.lload_n 3, 1) := dk_33 (dk_at dksX5_prices_3 6 rfl rfl)
theorem dX5_prices_79 : decode cX5_prices 79 = .ok (.lcmp, 1) := dk_148 (dk_at dksX5_prices_3 7 rfl rfl)
theorem dX5_prices_80 : decode cX5_prices 80 = .ok (.ifCond .gt 6, 3) := dk_157 0 6 (dk_at dksX5_prices_3 8 rfl rfl)
theorem dX5_prices_83 : decode cX5_prices 83 = .ok (.goto 17, 3) := dk_167 0 17 (dk_at dksX5_prices_3 11 rfl rfl)
theorem dX5_prices_86 : decode cX5_prices 86 = .ok (.aload_n 0, 1) := dk_42 (dk_at dksX5_prices_3 14 rfl rfl)
theorem dX5_prices_87 : decode cX5_prices 87 = .ok (.getfield 65, 3) := dk_180 0 65 (dk_at dksX5_prices_3 15 rfl rfl)
theorem dX5_prices_90 : decode cX5_prices 90 = .ok (.aload_n 0, 1) := dk_42 (dk_at dksX5_prices_3 18 rfl rfl)
theorem dX5_prices_91 : decode cX5_prices 91 = .ok (.iload_n 2, 1) := dk_28 (dk_at dksX5_prices_3 19 rfl rfl)
theorem dX5_prices_92 : decode cX5_prices 92 = .ok (.iconst 0, 1) := dk_3 (dk_at dksX5_prices_3 20 rfl rfl)
theorem dX5_prices_93 : decode cX5_prices 93 = .ok (.invokevirtual 217, 3) := dk_182 0 217 (dk_at dksX5_prices_3 21 rfl rfl)
theorem dX5_prices_96 : decode cX5_prices 96 = .ok (.lload_n 3, 1) := dk_33 (dk_at dksX5_prices_4 0 rfl rfl)
theorem dX5_prices_97 : decode cX5_prices 97 = .ok (.lastore, 1) := dk_80 (dk_at dksX5_prices_4 1 rfl rfl)
theorem dX5_prices_98 : decode cX5_prices 98 = .ok (.iconst 1, 1) := dk_4 (dk_at dksX5_prices_4 2 rfl rfl)
theorem dX5_prices_99 : decode cX5_prices 99 = .ok (.istore_n 1, 1) := dk_60 (dk_at dksX5_prices_4 3 rfl rfl)
theorem dX5_prices_100 : decode cX5_prices 100 = .ok (.iinc 2 1, 3) := dk_132 2 1 (dk_at dksX5_prices_4 4 rfl rfl)
theorem dX5_prices_103 : decode cX5_prices 103 = .ok (.goto (-72), 3) := dk_167 255 184 (dk_at dksX5_prices_4 7 rfl rfl)
theorem dX5_prices_106 : decode cX5_prices 106 = .ok (.goto (-83), 3) := dk_167 255 173 (dk_at dksX5_prices_4 10 rfl rfl)
theorem dX5_prices_109 : decode cX5_prices 109 = .ok (.return_, 1) := dk_177 (dk_at dksX5_prices_4 13 rfl rfl)
abbrev cX5_turns : ByteArray := prog_17_method_49_code
def yX5_turns : MethodName := ⟨RX5, "turns", "(I)Z"⟩
def dkwX5_turns_13 : List UInt8 := [182, 0, 231, 4, 172]
abbrev dktX5_turns_13 : List UInt8 := dkwX5_turns_13 ++ []
def dkwX5_turns_12 : List UInt8 := [180, 0, 52, 21, 4, 46, 4, 182, 0, 217, 54, 4, 167, 255, 220, 42, 5, 27, 104, 4, 96, 29]
abbrev dktX5_turns_12 : List UInt8 := dkwX5_turns_12 ++ dktX5_turns_13
def dkwX5_turns_11 : List UInt8 := [21, 4, 42, 27, 182, 0, 152, 159, 0, 32, 42, 42, 180, 0, 52, 21, 4, 46, 29, 182, 0, 231, 42, 42]
abbrev dktX5_turns_11 : List UInt8 := dkwX5_turns_11 ++ dktX5_turns_12
def dkwX5_turns_10 : List UInt8 := [42, 180, 0, 52, 21, 4, 46, 4, 182, 0, 217, 54, 4, 167, 255, 201, 42, 27, 182, 0, 156, 54, 4]
abbrev dktX5_turns_10 : List UInt8 := dkwX5_turns_10 ++ dktX5_turns_11
def dkwX5_turns_9 : List UInt8 := [182, 0, 221, 29, 162, 0, 17, 42, 42, 180, 0, 52, 21, 4, 46, 182, 0, 221, 167, 0, 4, 29, 62, 42]
abbrev dktX5_turns_9 : List UInt8 := dkwX5_turns_9 ++ dktX5_turns_10
def dkwX5_turns_8 : List UInt8 := [182, 0, 156, 54, 4, 21, 4, 42, 27, 182, 0, 152, 159, 0, 51, 42, 42, 180, 0, 52, 21, 4, 46]
abbrev dktX5_turns_8 : List UInt8 := dkwX5_turns_8 ++ dktX5_turns_9
def dkwX5_turns_7 : List UInt8 := [27, 104, 4, 96, 182, 0, 244, 154, 0, 5, 3, 172, 42, 5, 27, 104, 4, 96, 182, 0, 221, 62, 42, 27]
abbrev dktX5_turns_7 : List UInt8 := dkwX5_turns_7 ++ dktX5_turns_8
def dkwX5_turns_6 : List UInt8 := [132, 3, 1, 167, 255, 178, 167, 255, 150, 42, 180, 0, 55, 42, 27, 182, 0, 156, 51, 153, 0, 15, 42, 5]
abbrev dktX5_turns_6 : List UInt8 := dkwX5_turns_6 ++ dktX5_turns_7
def dkwX5_turns_5 : List UInt8 := [42, 29, 3, 182, 0, 217, 4, 84, 42, 180, 0, 52, 42, 29, 3, 182, 0, 217, 29, 79, 4, 61]
abbrev dktX5_turns_5 : List UInt8 := dkwX5_turns_5 ++ dktX5_turns_6
def dkwX5_turns_4 : List UInt8 := [153, 0, 46, 42, 180, 0, 55, 42, 29, 3, 182, 0, 217, 51, 153, 0, 6, 167, 0, 29, 42, 180, 0, 55]
abbrev dktX5_turns_4 : List UInt8 := dkwX5_turns_4 ++ dktX5_turns_5
def dkwX5_turns_3 : List UInt8 := [162, 0, 74, 42, 29, 182, 0, 244, 153, 0, 60, 42, 180, 0, 55, 42, 29, 4, 182, 0, 217, 51]
abbrev dktX5_turns_3 : List UInt8 := dkwX5_turns_3 ++ dktX5_turns_4
def dkwX5_turns_2 : List UInt8 := [182, 0, 156, 51, 154, 0, 95, 3, 61, 5, 27, 104, 5, 96, 62, 29, 5, 42, 182, 0, 107, 104]
abbrev dktX5_turns_2 : List UInt8 := dkwX5_turns_2 ++ dktX5_turns_3
def dkwX5_turns_1 : List UInt8 := [180, 0, 55, 42, 27, 182, 0, 152, 4, 84, 4, 61, 28, 153, 0, 108, 42, 180, 0, 55, 42, 27]
abbrev dktX5_turns_1 : List UInt8 := dkwX5_turns_1 ++ dktX5_turns_2
def dkwX5_turns_0 : List UInt8 := [3, 61, 28, 16, 8, 162, 0, 16, 42, 180, 0, 55, 28, 3, 84, 132, 2, 1, 167, 255, 240, 42]
abbrev dktX5_turns_0 : List UInt8 := dkwX5_turns_0 ++ dktX5_turns_1
theorem dksX5_turns_0 : cX5_turns.data.toList.drop 0 = dktX5_turns_0 := by decide +kernel
theorem dksX5_turns_1 : cX5_turns.data.toList.drop 22 = dktX5_turns_1 := dk_seg dksX5_turns_0 22 rfl rfl
theorem dksX5_turns_2 : cX5_turns.data.toList.drop 44 = dktX5_turns_2 := dk_seg dksX5_turns_1 22 rfl rfl
theorem dksX5_turns_3 : cX5_turns.data.toList.drop 66 = dktX5_turns_3 := dk_seg dksX5_turns_2 22 rfl rfl
theorem dksX5_turns_4 : cX5_turns.data.toList.drop 88 = dktX5_turns_4 := dk_seg dksX5_turns_3 22 rfl rfl
theorem dksX5_turns_5 : cX5_turns.data.toList.drop 112 = dktX5_turns_5 := dk_seg dksX5_turns_4 24 rfl rfl
theorem dksX5_turns_6 : cX5_turns.data.toList.drop 134 = dktX5_turns_6 := dk_seg dksX5_turns_5 22 rfl rfl
theorem dksX5_turns_7 : cX5_turns.data.toList.drop 158 = dktX5_turns_7 := dk_seg dksX5_turns_6 24 rfl rfl
theorem dksX5_turns_8 : cX5_turns.data.toList.drop 182 = dktX5_turns_8 := dk_seg dksX5_turns_7 24 rfl rfl
theorem dksX5_turns_9 : cX5_turns.data.toList.drop 205 = dktX5_turns_9 := dk_seg dksX5_turns_8 23 rfl rfl
theorem dksX5_turns_10 : cX5_turns.data.toList.drop 229 = dktX5_turns_10 := dk_seg dksX5_turns_9 24 rfl rfl
theorem dksX5_turns_11 : cX5_turns.data.toList.drop 252 = dktX5_turns_11 := dk_seg dksX5_turns_10 23 rfl rfl
theorem dksX5_turns_12 : cX5_turns.data.toList.drop 276 = dktX5_turns_12 := dk_seg dksX5_turns_11 24 rfl rfl
theorem dksX5_turns_13 : cX5_turns.data.toList.drop 298 = dktX5_turns_13 := dk_seg dksX5_turns_12 22 rfl rfl
theorem dX5_turns_0 : decode cX5_turns 0 = .ok (.iconst 0, 1) := dk_3 (dk_at dksX5_turns_0 0 rfl rfl)
theorem dX5_turns_1 : decode cX5_turns 1 = .ok (.istore_n 2, 1) := dk_61 (dk_at dksX5_turns_0 1 rfl rfl)
theorem dX5_turns_2 : decode cX5_turns 2 = .ok (.iload_n 2, 1) := dk_28 (dk_at dksX5_turns_0 2 rfl rfl)
theorem dX5_turns_3 : decode cX5_turns 3 = .ok (.bipush 8, 2) := dk_16 8 (dk_at dksX5_turns_0 3 rfl rfl)
theorem dX5_turns_5 : decode cX5_turns 5 = .ok (.if_icmp .ge 16, 3) := dk_162 0 16 (dk_at dksX5_turns_0 5 rfl rfl)
theorem dX5_turns_8 : decode cX5_turns 8 = .ok (.aload_n 0, 1) := dk_42 (dk_at dksX5_turns_0 8 rfl rfl)
theorem dX5_turns_9 : decode cX5_turns 9 = .ok (.getfield 55, 3) := dk_180 0 55 (dk_at dksX5_turns_0 9 rfl rfl)
theorem dX5_turns_12 : decode cX5_turns 12 = .ok (.iload_n 2, 1) := dk_28 (dk_at dksX5_turns_0 12 rfl rfl)
theorem dX5_turns_13 : decode cX5_turns 13 = .ok (.iconst 0, 1) := dk_3 (dk_at dksX5_turns_0 13 rfl rfl)
theorem dX5_turns_14 : decode cX5_turns 14 = .ok (.bastore, 1) := dk_84 (dk_at dksX5_turns_0 14 rfl rfl)
theorem dX5_turns_15 : decode cX5_turns 15 = .ok (.iinc 2 1, 3) := dk_132 2 1 (dk_at dksX5_turns_0 15 rfl rfl)
theorem dX5_turns_18 : decode cX5_turns 18 = .ok (.goto (-16), 3) := dk_167 255 240 (dk_at dksX5_turns_0 18 rfl rfl)
theorem dX5_turns_21 : decode cX5_turns 21 = .ok (.aload_n 0, 1) := dk_42 (dk_at dksX5_turns_0 21 rfl rfl)
theorem dX5_turns_22 : decode cX5_turns 22 = .ok (.getfield 55, 3) := dk_180 0 55 (dk_at dksX5_turns_1 0 rfl rfl)
theorem dX5_turns_25 : decode cX5_turns 25 = .ok (.aload_n 0, 1) := dk_42 (dk_at dksX5_turns_1 3 rfl rfl)
theorem dX5_turns_26 : decode cX5_turns 26 = .ok (.iload_n 1, 1) := dk_27 (dk_at dksX5_turns_1 4 rfl rfl)
theorem dX5_turns_27 : decode cX5_turns 27 = .ok (.invokevirtual 152, 3) := dk_182 0 152 (dk_at dksX5_turns_1 5 rfl rfl)
theorem dX5_turns_30 : decode cX5_turns 30 = .ok (.iconst 1, 1) := dk_4 (dk_at dksX5_turns_1 8 rfl rfl)
theorem dX5_turns_31 : decode cX5_turns 31 = .ok (.bastore, 1) := dk_84 (dk_at dksX5_turns_1 9 rfl rfl)
theorem dX5_turns_32 : decode cX5_turns 32 = .ok (.iconst 1, 1) := dk_4 (dk_at dksX5_turns_1 10 rfl rfl)
theorem dX5_turns_33 : decode cX5_turns 33 = .ok (.istore_n 2, 1) := dk_61 (dk_at dksX5_turns_1 11 rfl rfl)
theorem dX5_turns_34 : decode cX5_turns 34 = .ok (.iload_n 2, 1) := dk_28 (dk_at dksX5_turns_1 12 rfl rfl)
theorem dX5_turns_35 : decode cX5_turns 35 = .ok (.ifCond .eq 108, 3) := dk_153 0 108 (dk_at dksX5_turns_1 13 rfl rfl)
theorem dX5_turns_38 : decode cX5_turns 38 = .ok (.aload_n 0, 1) := dk_42 (dk_at dksX5_turns_1 16 rfl rfl)
theorem dX5_turns_39 : decode cX5_turns 39 = .ok (.getfield 55, 3) := dk_180 0 55 (dk_at dksX5_turns_1 17 rfl rfl)
theorem dX5_turns_42 : decode cX5_turns 42 = .ok (.aload_n 0, 1) := dk_42 (dk_at dksX5_turns_1 20 rfl rfl)
theorem dX5_turns_43 : decode cX5_turns 43 = .ok (.iload_n 1, 1) := dk_27 (dk_at dksX5_turns_1 21 rfl rfl)
theorem dX5_turns_44 : decode cX5_turns 44 = .ok (.invokevirtual 156, 3) := dk_182 0 156 (dk_at dksX5_turns_2 0 rfl rfl)
theorem dX5_turns_47 : decode cX5_turns 47 = .ok (.baload, 1) := dk_51 (dk_at dksX5_turns_2 3 rfl rfl)
theorem dX5_turns_48 : decode cX5_turns 48 = .ok (.ifCond .ne 95, 3) := dk_154 0 95 (dk_at dksX5_turns_2 4 rfl rfl)
theorem dX5_turns_51 : decode cX5_turns 51 = .ok (.iconst 0, 1) := dk_3 (dk_at dksX5_turns_2 7 rfl rfl)
theorem dX5_turns_52 : decode cX5_turns 52 = .ok (.istore_n 2, 1) := dk_61 (dk_at dksX5_turns_2 8 rfl rfl)
theorem dX5_turns_53 : decode cX5_turns 53 = .ok (.iconst 2, 1) := dk_5 (dk_at dksX5_turns_2 9 rfl rfl)
theorem dX5_turns_54 : decode cX5_turns 54 = .ok (.iload_n 1, 1) := dk_27 (dk_at dksX5_turns_2 10 rfl rfl)
theorem dX5_turns_55 : decode cX5_turns 55 = .ok (.imul, 1) := dk_104 (dk_at dksX5_turns_2 11 rfl rfl)
theorem dX5_turns_56 : decode cX5_turns 56 = .ok (.iconst 2, 1) := dk_5 (dk_at dksX5_turns_2 12 rfl rfl)
theorem dX5_turns_57 : decode cX5_turns 57 = .ok (.iadd, 1) := dk_96 (dk_at dksX5_turns_2 13 rfl rfl)
theorem dX5_turns_58 : decode cX5_turns 58 = .ok (.istore_n 3, 1) := dk_62 (dk_at dksX5_turns_2 14 rfl rfl)
theorem dX5_turns_59 : decode cX5_turns 59 = .ok (.iload_n 3, 1) := dk_29 (dk_at dksX5_turns_2 15 rfl rfl)
theorem dX5_turns_60 : decode cX5_turns 60 = .ok (.iconst 2, 1) := dk_5 (dk_at dksX5_turns_2 16 rfl rfl)
theorem dX5_turns_61 : decode cX5_turns 61 = .ok (.aload_n 0, 1) := dk_42 (dk_at dksX5_turns_2 17 rfl rfl)
theorem dX5_turns_62 : decode cX5_turns 62 = .ok (.invokevirtual 107, 3) := dk_182 0 107 (dk_at dksX5_turns_2 18 rfl rfl)
theorem dX5_turns_65 : decode cX5_turns 65 = .ok (.imul, 1) := dk_104 (dk_at dksX5_turns_2 21 rfl rfl)
theorem dX5_turns_66 : decode cX5_turns 66 = .ok (.if_icmp .ge 74, 3) := dk_162 0 74 (dk_at dksX5_turns_3 0 rfl rfl)
theorem dX5_turns_69 : decode cX5_turns 69 = .ok (.aload_n 0, 1) := dk_42 (dk_at dksX5_turns_3 3 rfl rfl)
theorem dX5_turns_70 : decode cX5_turns 70 = .ok (.iload_n 3, 1) := dk_29 (dk_at dksX5_turns_3 4 rfl rfl)
theorem dX5_turns_71 : decode cX5_turns 71 = .ok (.invokevirtual 244, 3) := dk_182 0 244 (dk_at dksX5_turns_3 5 rfl rfl)
theorem dX5_turns_74 : decode cX5_turns 74 = .ok (.ifCond .eq 60, 3) := dk_153 0 60 (dk_at dksX5_turns_3 8 rfl rfl)
theorem dX5_turns_77 : decode cX5_turns 77 = .ok (.aload_n 0, 1) := dk_42 (dk_at dksX5_turns_3 11 rfl rfl)
theorem dX5_turns_78 : decode cX5_turns 78 = .ok (.getfield 55, 3) := dk_180 0 55 (dk_at dksX5_turns_3 12 rfl rfl)
theorem dX5_turns_81 : decode cX5_turns 81 = .ok (.aload_n 0, 1) := dk_42 (dk_at dksX5_turns_3 15 rfl rfl)
theorem dX5_turns_82 : decode cX5_turns 82 = .ok (.iload_n 3, 1) := dk_29 (dk_at dksX5_turns_3 16 rfl rfl)
theorem dX5_turns_83 : decode cX5_turns 83 = .ok (.iconst 1, 1) := dk_4 (dk_at dksX5_turns_3 17 rfl rfl)
theorem dX5_turns_84 : decode cX5_turns 84 = .ok (.invokevirtual 217, 3) := dk_182 0 217 (dk_at dksX5_turns_3 18 rfl rfl)
theorem dX5_turns_87 : decode cX5_turns 87 = .ok (.baload, 1) := dk_51 (dk_at dksX5_turns_3 21 rfl rfl)
theorem dX5_turns_88 : decode cX5_turns 88 = .ok (.ifCond .eq 46, 3) := dk_153 0 46 (dk_at dksX5_turns_4 0 rfl rfl)
theorem dX5_turns_91 : decode cX5_turns 91 = .ok (.aload_n 0, 1) := dk_42 (dk_at dksX5_turns_4 3 rfl rfl)
theorem dX5_turns_92 : decode cX5_turns 92 = .ok (.getfield 55, 3) := dk_180 0 55 (dk_at dksX5_turns_4 4 rfl rfl)
theorem dX5_turns_95 : decode cX5_turns 95 = .ok (.aload_n 0, 1) := dk_42 (dk_at dksX5_turns_4 7 rfl rfl)
theorem dX5_turns_96 : decode cX5_turns 96 = .ok (.iload_n 3, 1) := dk_29 (dk_at dksX5_turns_4 8 rfl rfl)
theorem dX5_turns_97 : decode cX5_turns 97 = .ok (.iconst 0, 1) := dk_3 (dk_at dksX5_turns_4 9 rfl rfl)
theorem dX5_turns_98 : decode cX5_turns 98 = .ok (.invokevirtual 217, 3) := dk_182 0 217 (dk_at dksX5_turns_4 10 rfl rfl)
theorem dX5_turns_101 : decode cX5_turns 101 = .ok (.baload, 1) := dk_51 (dk_at dksX5_turns_4 13 rfl rfl)
theorem dX5_turns_102 : decode cX5_turns 102 = .ok (.ifCond .eq 6, 3) := dk_153 0 6 (dk_at dksX5_turns_4 14 rfl rfl)
theorem dX5_turns_105 : decode cX5_turns 105 = .ok (.goto 29, 3) := dk_167 0 29 (dk_at dksX5_turns_4 17 rfl rfl)
theorem dX5_turns_108 : decode cX5_turns 108 = .ok (.aload_n 0, 1) := dk_42 (dk_at dksX5_turns_4 20 rfl rfl)
theorem dX5_turns_109 : decode cX5_turns 109 = .ok (.getfield 55, 3) := dk_180 0 55 (dk_at dksX5_turns_4 21 rfl rfl)
theorem dX5_turns_112 : decode cX5_turns 112 = .ok (.aload_n 0, 1) := dk_42 (dk_at dksX5_turns_5 0 rfl rfl)
theorem dX5_turns_113 : decode cX5_turns 113 = .ok (.iload_n 3, 1) := dk_29 (dk_at dksX5_turns_5 1 rfl rfl)
theorem dX5_turns_114 : decode cX5_turns 114 = .ok (.iconst 0, 1) := dk_3 (dk_at dksX5_turns_5 2 rfl rfl)
theorem dX5_turns_115 : decode cX5_turns 115 = .ok (.invokevirtual 217, 3) := dk_182 0 217 (dk_at dksX5_turns_5 3 rfl rfl)
theorem dX5_turns_118 : decode cX5_turns 118 = .ok (.iconst 1, 1) := dk_4 (dk_at dksX5_turns_5 6 rfl rfl)
theorem dX5_turns_119 : decode cX5_turns 119 = .ok (.bastore, 1) := dk_84 (dk_at dksX5_turns_5 7 rfl rfl)
theorem dX5_turns_120 : decode cX5_turns 120 = .ok (.aload_n 0, 1) := dk_42 (dk_at dksX5_turns_5 8 rfl rfl)
theorem dX5_turns_121 : decode cX5_turns 121 = .ok (.getfield 52, 3) := dk_180 0 52 (dk_at dksX5_turns_5 9 rfl rfl)
theorem dX5_turns_124 : decode cX5_turns 124 = .ok (.aload_n 0, 1) := dk_42 (dk_at dksX5_turns_5 12 rfl rfl)
theorem dX5_turns_125 : decode cX5_turns 125 = .ok (.iload_n 3, 1) := dk_29 (dk_at dksX5_turns_5 13 rfl rfl)
theorem dX5_turns_126 : decode cX5_turns 126 = .ok (.iconst 0, 1) := dk_3 (dk_at dksX5_turns_5 14 rfl rfl)
theorem dX5_turns_127 : decode cX5_turns 127 = .ok (.invokevirtual 217, 3) := dk_182 0 217 (dk_at dksX5_turns_5 15 rfl rfl)
theorem dX5_turns_130 : decode cX5_turns 130 = .ok (.iload_n 3, 1) := dk_29 (dk_at dksX5_turns_5 18 rfl rfl)
theorem dX5_turns_131 : decode cX5_turns 131 = .ok (.iastore, 1) := dk_79 (dk_at dksX5_turns_5 19 rfl rfl)
theorem dX5_turns_132 : decode cX5_turns 132 = .ok (.iconst 1, 1) := dk_4 (dk_at dksX5_turns_5 20 rfl rfl)
theorem dX5_turns_133 : decode cX5_turns 133 = .ok (.istore_n 2, 1) := dk_61 (dk_at dksX5_turns_5 21 rfl rfl)
theorem dX5_turns_134 : decode cX5_turns 134 = .ok (.iinc 3 1, 3) := dk_132 3 1 (dk_at dksX5_turns_6 0 rfl rfl)
theorem dX5_turns_137 : decode cX5_turns 137 = .ok (.goto (-78), 3) := dk_167 255 178 (dk_at dksX5_turns_6 3 rfl rfl)
theorem dX5_turns_140 : decode cX5_turns 140 = .ok (.goto (-106), 3) := dk_167 255 150 (dk_at dksX5_turns_6 6 rfl rfl)
theorem dX5_turns_143 : decode cX5_turns 143 = .ok (.aload_n 0, 1) := dk_42 (dk_at dksX5_turns_6 9 rfl rfl)
theorem dX5_turns_144 : decode cX5_turns 144 = .ok (.getfield 55, 3) := dk_180 0 55 (dk_at dksX5_turns_6 10 rfl rfl)
theorem dX5_turns_147 : decode cX5_turns 147 = .ok (.aload_n 0, 1) := dk_42 (dk_at dksX5_turns_6 13 rfl rfl)
theorem dX5_turns_148 : decode cX5_turns 148 = .ok (.iload_n 1, 1) := dk_27 (dk_at dksX5_turns_6 14 rfl rfl)
theorem dX5_turns_149 : decode cX5_turns 149 = .ok (.invokevirtual 156, 3) := dk_182 0 156 (dk_at dksX5_turns_6 15 rfl rfl)
theorem dX5_turns_152 : decode cX5_turns 152 = .ok (.baload, 1) := dk_51 (dk_at dksX5_turns_6 18 rfl rfl)
theorem dX5_turns_153 : decode cX5_turns 153 = .ok (.ifCond .eq 15, 3) := dk_153 0 15 (dk_at dksX5_turns_6 19 rfl rfl)
theorem dX5_turns_156 : decode cX5_turns 156 = .ok (.aload_n 0, 1) := dk_42 (dk_at dksX5_turns_6 22 rfl rfl)
theorem dX5_turns_157 : decode cX5_turns 157 = .ok (.iconst 2, 1) := dk_5 (dk_at dksX5_turns_6 23 rfl rfl)
theorem dX5_turns_158 : decode cX5_turns 158 = .ok (.iload_n 1, 1) := dk_27 (dk_at dksX5_turns_7 0 rfl rfl)
theorem dX5_turns_159 : decode cX5_turns 159 = .ok (.imul, 1) := dk_104 (dk_at dksX5_turns_7 1 rfl rfl)
theorem dX5_turns_160 : decode cX5_turns 160 = .ok (.iconst 1, 1) := dk_4 (dk_at dksX5_turns_7 2 rfl rfl)
theorem dX5_turns_161 : decode cX5_turns 161 = .ok (.iadd, 1) := dk_96 (dk_at dksX5_turns_7 3 rfl rfl)
theorem dX5_turns_162 : decode cX5_turns 162 = .ok (.invokevirtual 244, 3) := dk_182 0 244 (dk_at dksX5_turns_7 4 rfl rfl)
theorem dX5_turns_165 : decode cX5_turns 165 = .ok (.ifCond .ne 5, 3) := dk_154 0 5 (dk_at dksX5_turns_7 7 rfl rfl)
theorem dX5_turns_168 : decode cX5_turns 168 = .ok (.iconst 0, 1) := dk_3 (dk_at dksX5_turns_7 10 rfl rfl)
theorem dX5_turns_169 : decode cX5_turns 169 = .ok (.ireturn, 1) := dk_172 (dk_at dksX5_turns_7 11 rfl rfl)
theorem dX5_turns_170 : decode cX5_turns 170 = .ok (.aload_n 0, 1) := dk_42 (dk_at dksX5_turns_7 12 rfl rfl)
theorem dX5_turns_171 : decode cX5_turns 171 = .ok (.iconst 2, 1) := dk_5 (dk_at dksX5_turns_7 13 rfl rfl)
theorem dX5_turns_172 : decode cX5_turns 172 = .ok (.iload_n 1, 1) := dk_27 (dk_at dksX5_turns_7 14 rfl rfl)
theorem dX5_turns_173 : decode cX5_turns 173 = .ok (.imul, 1) := dk_104 (dk_at dksX5_turns_7 15 rfl rfl)
theorem dX5_turns_174 : decode cX5_turns 174 = .ok (.iconst 1, 1) := dk_4 (dk_at dksX5_turns_7 16 rfl rfl)
theorem dX5_turns_175 : decode cX5_turns 175 = .ok (.iadd, 1) := dk_96 (dk_at dksX5_turns_7 17 rfl rfl)
theorem dX5_turns_176 : decode cX5_turns 176 = .ok (.invokevirtual 221, 3) := dk_182 0 221 (dk_at dksX5_turns_7 18 rfl rfl)
theorem dX5_turns_179 : decode cX5_turns 179 = .ok (.istore_n 3, 1) := dk_62 (dk_at dksX5_turns_7 21 rfl rfl)
theorem dX5_turns_180 : decode cX5_turns 180 = .ok (.aload_n 0, 1) := dk_42 (dk_at dksX5_turns_7 22 rfl rfl)
theorem dX5_turns_181 : decode cX5_turns 181 = .ok (.iload_n 1, 1) := dk_27 (dk_at dksX5_turns_7 23 rfl rfl)
theorem dX5_turns_182 : decode cX5_turns 182 = .ok (.invokevirtual 156, 3) := dk_182 0 156 (dk_at dksX5_turns_8 0 rfl rfl)
theorem dX5_turns_185 : decode cX5_turns 185 = .ok (.istore 4, 2) := dk_54 4 (dk_at dksX5_turns_8 3 rfl rfl)
theorem dX5_turns_187 : decode cX5_turns 187 = .ok (.iload 4, 2) := dk_21 4 (dk_at dksX5_turns_8 5 rfl rfl)
theorem dX5_turns_189 : decode cX5_turns 189 = .ok (.aload_n 0, 1) := dk_42 (dk_at dksX5_turns_8 7 rfl rfl)
theorem dX5_turns_190 : decode cX5_turns 190 = .ok (.iload_n 1, 1) := dk_27 (dk_at dksX5_turns_8 8 rfl rfl)
theorem dX5_turns_191 : decode cX5_turns 191 = .ok (.invokevirtual 152, 3) := dk_182 0 152 (dk_at dksX5_turns_8 9 rfl rfl)
theorem dX5_turns_194 : decode cX5_turns 194 = .ok (.if_icmp .eq 51, 3) := dk_159 0 51 (dk_at dksX5_turns_8 12 rfl rfl)
theorem dX5_turns_197 : decode cX5_turns 197 = .ok (.aload_n 0, 1) := dk_42 (dk_at dksX5_turns_8 15 rfl rfl)
theorem dX5_turns_198 : decode cX5_turns 198 = .ok (.aload_n 0, 1) := dk_42 (dk_at dksX5_turns_8 16 rfl rfl)
theorem dX5_turns_199 : decode cX5_turns 199 = .ok (.getfield 52, 3) := dk_180 0 52 (dk_at dksX5_turns_8 17 rfl rfl)
theorem dX5_turns_202 : decode cX5_turns 202 = .ok (.iload 4, 2) := dk_21 4 (dk_at dksX5_turns_8 20 rfl rfl)
theorem dX5_turns_204 : decode cX5_turns 204 = .ok (.iaload, 1) := dk_46 (dk_at dksX5_turns_8 22 rfl rfl)
theorem dX5_turns_205 : decode cX5_turns 205 = .ok (.invokevirtual 221, 3) := dk_182 0 221 (dk_at dksX5_turns_9 0 rfl rfl)
theorem dX5_turns_208 : decode cX5_turns 208 = .ok (.iload_n 3, 1) := dk_29 (dk_at dksX5_turns_9 3 rfl rfl)
theorem dX5_turns_209 : decode cX5_turns 209 = .ok (.if_icmp .ge 17, 3) := dk_162 0 17 (dk_at dksX5_turns_9 4 rfl rfl)
theorem dX5_turns_212 : decode cX5_turns 212 = .ok (.aload_n 0, 1) := dk_42 (dk_at dksX5_turns_9 7 rfl rfl)
theorem dX5_turns_213 : decode cX5_turns 213 = .ok (.aload_n 0, 1) := dk_42 (dk_at dksX5_turns_9 8 rfl rfl)
theorem dX5_turns_214 : decode cX5_turns 214 = .ok (.getfield 52, 3) := dk_180 0 52 (dk_at dksX5_turns_9 9 rfl rfl)
theorem dX5_turns_217 : decode cX5_turns 217 = .ok (.iload 4, 2) := dk_21 4 (dk_at dksX5_turns_9 12 rfl rfl)
theorem dX5_turns_219 : decode cX5_turns 219 = .ok (.iaload, 1) := dk_46 (dk_at dksX5_turns_9 14 rfl rfl)
theorem dX5_turns_220 : decode cX5_turns 220 = .ok (.invokevirtual 221, 3) := dk_182 0 221 (dk_at dksX5_turns_9 15 rfl rfl)
theorem dX5_turns_223 : decode cX5_turns 223 = .ok (.goto 4, 3) := dk_167 0 4 (dk_at dksX5_turns_9 18 rfl rfl)
theorem dX5_turns_226 : decode cX5_turns 226 = .ok (.iload_n 3, 1) := dk_29 (dk_at dksX5_turns_9 21 rfl rfl)
theorem dX5_turns_227 : decode cX5_turns 227 = .ok (.istore_n 3, 1) := dk_62 (dk_at dksX5_turns_9 22 rfl rfl)
theorem dX5_turns_228 : decode cX5_turns 228 = .ok (.aload_n 0, 1) := dk_42 (dk_at dksX5_turns_9 23 rfl rfl)
theorem dX5_turns_229 : decode cX5_turns 229 = .ok (.aload_n 0, 1) := dk_42 (dk_at dksX5_turns_10 0 rfl rfl)
theorem dX5_turns_230 : decode cX5_turns 230 = .ok (.getfield 52, 3) := dk_180 0 52 (dk_at dksX5_turns_10 1 rfl rfl)
theorem dX5_turns_233 : decode cX5_turns 233 = .ok (.iload 4, 2) := dk_21 4 (dk_at dksX5_turns_10 4 rfl rfl)
theorem dX5_turns_235 : decode cX5_turns 235 = .ok (.iaload, 1) := dk_46 (dk_at dksX5_turns_10 6 rfl rfl)
theorem dX5_turns_236 : decode cX5_turns 236 = .ok (.iconst 1, 1) := dk_4 (dk_at dksX5_turns_10 7 rfl rfl)
theorem dX5_turns_237 : decode cX5_turns 237 = .ok (.invokevirtual 217, 3) := dk_182 0 217 (dk_at dksX5_turns_10 8 rfl rfl)
theorem dX5_turns_240 : decode cX5_turns 240 = .ok (.istore 4, 2) := dk_54 4 (dk_at dksX5_turns_10 11 rfl rfl)
theorem dX5_turns_242 : decode cX5_turns 242 = .ok (.goto (-55), 3) := dk_167 255 201 (dk_at dksX5_turns_10 13 rfl rfl)
theorem dX5_turns_245 : decode cX5_turns 245 = .ok (.aload_n 0, 1) := dk_42 (dk_at dksX5_turns_10 16 rfl rfl)
theorem dX5_turns_246 : decode cX5_turns 246 = .ok (.iload_n 1, 1) := dk_27 (dk_at dksX5_turns_10 17 rfl rfl)
theorem dX5_turns_247 : decode cX5_turns 247 = .ok (.invokevirtual 156, 3) := dk_182 0 156 (dk_at dksX5_turns_10 18 rfl rfl)
theorem dX5_turns_250 : decode cX5_turns 250 = .ok (.istore 4, 2) := dk_54 4 (dk_at dksX5_turns_10 21 rfl rfl)
theorem dX5_turns_252 : decode cX5_turns 252 = .ok (.iload 4, 2) := dk_21 4 (dk_at dksX5_turns_11 0 rfl rfl)
theorem dX5_turns_254 : decode cX5_turns 254 = .ok (.aload_n 0, 1) := dk_42 (dk_at dksX5_turns_11 2 rfl rfl)
theorem dX5_turns_255 : decode cX5_turns 255 = .ok (.iload_n 1, 1) := dk_27 (dk_at dksX5_turns_11 3 rfl rfl)
theorem dX5_turns_256 : decode cX5_turns 256 = .ok (.invokevirtual 152, 3) := dk_182 0 152 (dk_at dksX5_turns_11 4 rfl rfl)
theorem dX5_turns_259 : decode cX5_turns 259 = .ok (.if_icmp .eq 32, 3) := dk_159 0 32 (dk_at dksX5_turns_11 7 rfl rfl)
theorem dX5_turns_262 : decode cX5_turns 262 = .ok (.aload_n 0, 1) := dk_42 (dk_at dksX5_turns_11 10 rfl rfl)
theorem dX5_turns_263 : decode cX5_turns 263 = .ok (.aload_n 0, 1) := dk_42 (dk_at dksX5_turns_11 11 rfl rfl)
theorem dX5_turns_264 : decode cX5_turns 264 = .ok (.getfield 52, 3) := dk_180 0 52 (dk_at dksX5_turns_11 12 rfl rfl)
theorem dX5_turns_267 : decode cX5_turns 267 = .ok (.iload 4, 2) := dk_21 4 (dk_at dksX5_turns_11 15 rfl rfl)
theorem dX5_turns_269 : decode cX5_turns 269 = .ok (.iaload, 1) := dk_46 (dk_at dksX5_turns_11 17 rfl rfl)
theorem dX5_turns_270 : decode cX5_turns 270 = .ok (.iload_n 3, 1) := dk_29 (dk_at dksX5_turns_11 18 rfl rfl)
theorem dX5_turns_271 : decode cX5_turns 271 = .ok (.invokevirtual 231, 3) := dk_182 0 231 (dk_at dksX5_turns_11 19 rfl rfl)
theorem dX5_turns_274 : decode cX5_turns 274 = .ok (.aload_n 0, 1) := dk_42 (dk_at dksX5_turns_11 22 rfl rfl)
theorem dX5_turns_275 : decode cX5_turns 275 = .ok (.aload_n 0, 1) := dk_42 (dk_at dksX5_turns_11 23 rfl rfl)
theorem dX5_turns_276 : decode cX5_turns 276 = .ok (.getfield 52, 3) := dk_180 0 52 (dk_at dksX5_turns_12 0 rfl rfl)
theorem dX5_turns_279 : decode cX5_turns 279 = .ok (.iload 4, 2) := dk_21 4 (dk_at dksX5_turns_12 3 rfl rfl)
theorem dX5_turns_281 : decode cX5_turns 281 = .ok (.iaload, 1) := dk_46 (dk_at dksX5_turns_12 5 rfl rfl)
theorem dX5_turns_282 : decode cX5_turns 282 = .ok (.iconst 1, 1) := dk_4 (dk_at dksX5_turns_12 6 rfl rfl)
theorem dX5_turns_283 : decode cX5_turns 283 = .ok (.invokevirtual 217, 3) := dk_182 0 217 (dk_at dksX5_turns_12 7 rfl rfl)
theorem dX5_turns_286 : decode cX5_turns 286 = .ok (.istore 4, 2) := dk_54 4 (dk_at dksX5_turns_12 10 rfl rfl)
theorem dX5_turns_288 : decode cX5_turns 288 = .ok (.goto (-36), 3) := dk_167 255 220 (dk_at dksX5_turns_12 12 rfl rfl)
theorem dX5_turns_291 : decode cX5_turns 291 = .ok (.aload_n 0, 1) := dk_42 (dk_at dksX5_turns_12 15 rfl rfl)
theorem dX5_turns_292 : decode cX5_turns 292 = .ok (.iconst 2, 1) := dk_5 (dk_at dksX5_turns_12 16 rfl rfl)
theorem dX5_turns_293 : decode cX5_turns 293 = .ok (.iload_n 1, 1) := dk_27 (dk_at dksX5_turns_12 17 rfl rfl)
theorem dX5_turns_294 : decode cX5_turns 294 = .ok (.imul, 1) := dk_104 (dk_at dksX5_turns_12 18 rfl rfl)
theorem dX5_turns_295 : decode cX5_turns 295 = .ok (.iconst 1, 1) := dk_4 (dk_at dksX5_turns_12 19 rfl rfl)
theorem dX5_turns_296 : decode cX5_turns 296 = .ok (.iadd, 1) := dk_96 (dk_at dksX5_turns_12 20 rfl rfl)
theorem dX5_turns_297 : decode cX5_turns 297 = .ok (.iload_n 3, 1) := dk_29 (dk_at dksX5_turns_12 21 rfl rfl)
theorem dX5_turns_298 : decode cX5_turns 298 = .ok (.invokevirtual 231, 3) := dk_182 0 231 (dk_at dksX5_turns_13 0 rfl rfl)
theorem dX5_turns_301 : decode cX5_turns 301 = .ok (.iconst 1, 1) := dk_4 (dk_at dksX5_turns_13 3 rfl rfl)
theorem dX5_turns_302 : decode cX5_turns 302 = .ok (.ireturn, 1) := dk_172 (dk_at dksX5_turns_13 4 rfl rfl)
abbrev cX5_isLevel : ByteArray := prog_17_method_48_code
def yX5_isLevel : MethodName := ⟨RX5, "isLevel", "(I)Z"⟩
def dkwX5_isLevel_1 : List UInt8 := [97, 42, 180, 0, 65, 42, 27, 3, 182, 0, 217, 47, 148, 154, 0, 7, 4, 167, 0, 4, 3, 172]
abbrev dktX5_isLevel_1 : List UInt8 := dkwX5_isLevel_1 ++ []
def dkwX5_isLevel_0 : List UInt8 := [42, 27, 182, 0, 221, 158, 0, 39, 42, 180, 0, 65, 42, 27, 4, 182, 0, 217, 47, 42, 27, 182, 0, 224]
abbrev dktX5_isLevel_0 : List UInt8 := dkwX5_isLevel_0 ++ dktX5_isLevel_1
theorem dksX5_isLevel_0 : cX5_isLevel.data.toList.drop 0 = dktX5_isLevel_0 := by decide +kernel
theorem dksX5_isLevel_1 : cX5_isLevel.data.toList.drop 24 = dktX5_isLevel_1 := dk_seg dksX5_isLevel_0 24 rfl rfl
theorem dX5_isLevel_0 : decode cX5_isLevel 0 = .ok (.aload_n 0, 1) := dk_42 (dk_at dksX5_isLevel_0 0 rfl rfl)
theorem dX5_isLevel_1 : decode cX5_isLevel 1 = .ok (.iload_n 1, 1) := dk_27 (dk_at dksX5_isLevel_0 1 rfl rfl)
theorem dX5_isLevel_2 : decode cX5_isLevel 2 = .ok (.invokevirtual 221, 3) := dk_182 0 221 (dk_at dksX5_isLevel_0 2 rfl rfl)
theorem dX5_isLevel_5 : decode cX5_isLevel 5 = .ok (.ifCond .le 39, 3) := dk_158 0 39 (dk_at dksX5_isLevel_0 5 rfl rfl)
theorem dX5_isLevel_8 : decode cX5_isLevel 8 = .ok (.aload_n 0, 1) := dk_42 (dk_at dksX5_isLevel_0 8 rfl rfl)
theorem dX5_isLevel_9 : decode cX5_isLevel 9 = .ok (.getfield 65, 3) := dk_180 0 65 (dk_at dksX5_isLevel_0 9 rfl rfl)
theorem dX5_isLevel_12 : decode cX5_isLevel 12 = .ok (.aload_n 0, 1) := dk_42 (dk_at dksX5_isLevel_0 12 rfl rfl)
theorem dX5_isLevel_13 : decode cX5_isLevel 13 = .ok (.iload_n 1, 1) := dk_27 (dk_at dksX5_isLevel_0 13 rfl rfl)
theorem dX5_isLevel_14 : decode cX5_isLevel 14 = .ok (.iconst 1, 1) := dk_4 (dk_at dksX5_isLevel_0 14 rfl rfl)
theorem dX5_isLevel_15 : decode cX5_isLevel 15 = .ok (.invokevirtual 217, 3) := dk_182 0 217 (dk_at dksX5_isLevel_0 15 rfl rfl)
theorem dX5_isLevel_18 : decode cX5_isLevel 18 = .ok (.laload, 1) := dk_47 (dk_at dksX5_isLevel_0 18 rfl rfl)
theorem dX5_isLevel_19 : decode cX5_isLevel 19 = .ok (.aload_n 0, 1) := dk_42 (dk_at dksX5_isLevel_0 19 rfl rfl)
theorem dX5_isLevel_20 : decode cX5_isLevel 20 = .ok (.iload_n 1, 1) := dk_27 (dk_at dksX5_isLevel_0 20 rfl rfl)
theorem dX5_isLevel_21 : decode cX5_isLevel 21 = .ok (.invokevirtual 224, 3) := dk_182 0 224 (dk_at dksX5_isLevel_0 21 rfl rfl)
theorem dX5_isLevel_24 : decode cX5_isLevel 24 = .ok (.ladd, 1) := dk_97 (dk_at dksX5_isLevel_1 0 rfl rfl)
theorem dX5_isLevel_25 : decode cX5_isLevel 25 = .ok (.aload_n 0, 1) := dk_42 (dk_at dksX5_isLevel_1 1 rfl rfl)
theorem dX5_isLevel_26 : decode cX5_isLevel 26 = .ok (.getfield 65, 3) := dk_180 0 65 (dk_at dksX5_isLevel_1 2 rfl rfl)
theorem dX5_isLevel_29 : decode cX5_isLevel 29 = .ok (.aload_n 0, 1) := dk_42 (dk_at dksX5_isLevel_1 5 rfl rfl)
theorem dX5_isLevel_30 : decode cX5_isLevel 30 = .ok (.iload_n 1, 1) := dk_27 (dk_at dksX5_isLevel_1 6 rfl rfl)
theorem dX5_isLevel_31 : decode cX5_isLevel 31 = .ok (.iconst 0, 1) := dk_3 (dk_at dksX5_isLevel_1 7 rfl rfl)
theorem dX5_isLevel_32 : decode cX5_isLevel 32 = .ok (.invokevirtual 217, 3) := dk_182 0 217 (dk_at dksX5_isLevel_1 8 rfl rfl)
theorem dX5_isLevel_35 : decode cX5_isLevel 35 = .ok (.laload, 1) := dk_47 (dk_at dksX5_isLevel_1 11 rfl rfl)
theorem dX5_isLevel_36 : decode cX5_isLevel 36 = .ok (.lcmp, 1) := dk_148 (dk_at dksX5_isLevel_1 12 rfl rfl)
theorem dX5_isLevel_37 : decode cX5_isLevel 37 = .ok (.ifCond .ne 7, 3) := dk_154 0 7 (dk_at dksX5_isLevel_1 13 rfl rfl)
theorem dX5_isLevel_40 : decode cX5_isLevel 40 = .ok (.iconst 1, 1) := dk_4 (dk_at dksX5_isLevel_1 16 rfl rfl)
theorem dX5_isLevel_41 : decode cX5_isLevel 41 = .ok (.goto 4, 3) := dk_167 0 4 (dk_at dksX5_isLevel_1 17 rfl rfl)
theorem dX5_isLevel_44 : decode cX5_isLevel 44 = .ok (.iconst 0, 1) := dk_3 (dk_at dksX5_isLevel_1 20 rfl rfl)
theorem dX5_isLevel_45 : decode cX5_isLevel 45 = .ok (.ireturn, 1) := dk_172 (dk_at dksX5_isLevel_1 21 rfl rfl)
abbrev cX5_totals : ByteArray := prog_17_method_53_code
def yX5_totals : MethodName := ⟨RX5, "totals", "()V"⟩
def dkwX5_totals_3 : List UInt8 := [31, 42, 180, 1, 4, 97, 64, 132, 4, 1, 167, 255, 183, 42, 31, 181, 1, 4, 42, 29, 181, 1, 0, 177]
abbrev dktX5_totals_3 : List UInt8 := dkwX5_totals_3 ++ []
def dkwX5_totals_2 : List UInt8 := [180, 1, 0, 154, 0, 14, 31, 42, 180, 1, 4, 184, 1, 8, 153, 0, 7, 4, 167, 0, 4, 3, 128, 62]
abbrev dktX5_totals_2 : List UInt8 := dkwX5_totals_2 ++ dktX5_totals_3
def dkwX5_totals_1 : List UInt8 := [181, 1, 0, 42, 42, 180, 0, 15, 21, 4, 47, 42, 180, 0, 43, 21, 4, 46, 182, 1, 12, 29, 42]
abbrev dktX5_totals_1 : List UInt8 := dkwX5_totals_1 ++ dktX5_totals_2
def dkwX5_totals_0 : List UInt8 := [9, 64, 3, 62, 3, 54, 4, 21, 4, 42, 182, 0, 107, 162, 0, 70, 42, 9, 181, 1, 4, 42, 3]
abbrev dktX5_totals_0 : List UInt8 := dkwX5_totals_0 ++ dktX5_totals_1
theorem dksX5_totals_0 : cX5_totals.data.toList.drop 0 = dktX5_totals_0 := by decide +kernel
theorem dksX5_totals_1 : cX5_totals.data.toList.drop 23 = dktX5_totals_1 := dk_seg dksX5_totals_0 23 rfl rfl
theorem dksX5_totals_2 : cX5_totals.data.toList.drop 46 = dktX5_totals_2 := dk_seg dksX5_totals_1 23 rfl rfl
theorem dksX5_totals_3 : cX5_totals.data.toList.drop 70 = dktX5_totals_3 := dk_seg dksX5_totals_2 24 rfl rfl
theorem dX5_totals_0 : decode cX5_totals 0 = .ok (.lconst 0, 1) := dk_9 (dk_at dksX5_totals_0 0 rfl rfl)
theorem dX5_totals_1 : decode cX5_totals 1 = .ok (.lstore_n 1, 1) := dk_64 (dk_at dksX5_totals_0 1 rfl rfl)
theorem dX5_totals_2 : decode cX5_totals 2 = .ok (.iconst 0, 1) := dk_3 (dk_at dksX5_totals_0 2 rfl rfl)
theorem dX5_totals_3 : decode cX5_totals 3 = .ok (.istore_n 3, 1) := dk_62 (dk_at dksX5_totals_0 3 rfl rfl)
theorem dX5_totals_4 : decode cX5_totals 4 = .ok (.iconst 0, 1) := dk_3 (dk_at dksX5_totals_0 4 rfl rfl)
theorem dX5_totals_5 : decode cX5_totals 5 = .ok (.istore 4, 2) := dk_54 4 (dk_at dksX5_totals_0 5 rfl rfl)
theorem dX5_totals_7 : decode cX5_totals 7 = .ok (.iload 4, 2) := dk_21 4 (dk_at dksX5_totals_0 7 rfl rfl)
theorem dX5_totals_9 : decode cX5_totals 9 = .ok (.aload_n 0, 1) := dk_42 (dk_at dksX5_totals_0 9 rfl rfl)
theorem dX5_totals_10 : decode cX5_totals 10 = .ok (.invokevirtual 107, 3) := dk_182 0 107 (dk_at dksX5_totals_0 10 rfl rfl)
theorem dX5_totals_13 : decode cX5_totals 13 = .ok (.if_icmp .ge 70, 3) := dk_162 0 70 (dk_at dksX5_totals_0 13 rfl rfl)
theorem dX5_totals_16 : decode cX5_totals 16 = .ok (.aload_n 0, 1) := dk_42 (dk_at dksX5_totals_0 16 rfl rfl)
theorem dX5_totals_17 : decode cX5_totals 17 = .ok (.lconst 0, 1) := dk_9 (dk_at dksX5_totals_0 17 rfl rfl)
theorem dX5_totals_18 : decode cX5_totals 18 = .ok (.putfield 260, 3) := dk_181 1 4 (dk_at dksX5_totals_0 18 rfl rfl)
theorem dX5_totals_21 : decode cX5_totals 21 = .ok (.aload_n 0, 1) := dk_42 (dk_at dksX5_totals_0 21 rfl rfl)
theorem dX5_totals_22 : decode cX5_totals 22 = .ok (.iconst 0, 1) := dk_3 (dk_at dksX5_totals_0 22 rfl rfl)
theorem dX5_totals_23 : decode cX5_totals 23 = .ok (.putfield 256, 3) := dk_181 1 0 (dk_at dksX5_totals_1 0 rfl rfl)
theorem dX5_totals_26 : decode cX5_totals 26 = .ok (.aload_n 0, 1) := dk_42 (dk_at dksX5_totals_1 3 rfl rfl)
theorem dX5_totals_27 : decode cX5_totals 27 = .ok (.aload_n 0, 1) := dk_42 (dk_at dksX5_totals_1 4 rfl rfl)
theorem dX5_totals_28 : decode cX5_totals 28 = .ok (.getfield 15, 3) := dk_180 0 15 (dk_at dksX5_totals_1 5 rfl rfl)
theorem dX5_totals_31 : decode cX5_totals 31 = .ok (.iload 4, 2) := dk_21 4 (dk_at dksX5_totals_1 8 rfl rfl)
theorem dX5_totals_33 : decode cX5_totals 33 = .ok (.laload, 1) := dk_47 (dk_at dksX5_totals_1 10 rfl rfl)
theorem dX5_totals_34 : decode cX5_totals 34 = .ok (.aload_n 0, 1) := dk_42 (dk_at dksX5_totals_1 11 rfl rfl)
theorem dX5_totals_35 : decode cX5_totals 35 = .ok (.getfield 43, 3) := dk_180 0 43 (dk_at dksX5_totals_1 12 rfl rfl)
theorem dX5_totals_38 : decode cX5_totals 38 = .ok (.iload 4, 2) := dk_21 4 (dk_at dksX5_totals_1 15 rfl rfl)
theorem dX5_totals_40 : decode cX5_totals 40 = .ok (.iaload, 1) := dk_46 (dk_at dksX5_totals_1 17 rfl rfl)
theorem dX5_totals_41 : decode cX5_totals 41 = .ok (.invokevirtual 268, 3) := dk_182 1 12 (dk_at dksX5_totals_1 18 rfl rfl)
theorem dX5_totals_44 : decode cX5_totals 44 = .ok (.iload_n 3, 1) := dk_29 (dk_at dksX5_totals_1 21 rfl rfl)
theorem dX5_totals_45 : decode cX5_totals 45 = .ok (.aload_n 0, 1) := dk_42 (dk_at dksX5_totals_1 22 rfl rfl)
theorem dX5_totals_46 : decode cX5_totals 46 = .ok (.getfield 256, 3) := dk_180 1 0 (dk_at dksX5_totals_2 0 rfl rfl)
theorem dX5_totals_49 : decode cX5_totals 49 = .ok (.ifCond .ne 14, 3) := dk_154 0 14 (dk_at dksX5_totals_2 3 rfl rfl)
theorem dX5_totals_52 : decode cX5_totals 52 = .ok (.lload_n 1, 1) := dk_31 (dk_at dksX5_totals_2 6 rfl rfl)
theorem dX5_totals_53 : decode cX5_totals 53 = .ok (.aload_n 0, 1) := dk_42 (dk_at dksX5_totals_2 7 rfl rfl)
theorem dX5_totals_54 : decode cX5_totals 54 = .ok (.getfield 260, 3) := dk_180 1 4 (dk_at dksX5_totals_2 8 rfl rfl)
theorem dX5_totals_57 : decode cX5_totals 57 = .ok (.invokestatic 264, 3) := dk_184 1 8 (dk_at dksX5_totals_2 11 rfl rfl)
theorem dX5_totals_60 : decode cX5_totals 60 = .ok (.ifCond .eq 7, 3) := dk_153 0 7 (dk_at dksX5_totals_2 14 rfl rfl)
theorem dX5_totals_63 : decode cX5_totals 63 = .ok (.iconst 1, 1) := dk_4 (dk_at dksX5_totals_2 17 rfl rfl)
theorem dX5_totals_64 : decode cX5_totals 64 = .ok (.goto 4, 3) := dk_167 0 4 (dk_at dksX5_totals_2 18 rfl rfl)
theorem dX5_totals_67 : decode cX5_totals 67 = .ok (.iconst 0, 1) := dk_3 (dk_at dksX5_totals_2 21 rfl rfl)
theorem dX5_totals_68 : decode cX5_totals 68 = .ok (.ior, 1) := dk_128 (dk_at dksX5_totals_2 22 rfl rfl)
theorem dX5_totals_69 : decode cX5_totals 69 = .ok (.istore_n 3, 1) := dk_62 (dk_at dksX5_totals_2 23 rfl rfl)
theorem dX5_totals_70 : decode cX5_totals 70 = .ok (.lload_n 1, 1) := dk_31 (dk_at dksX5_totals_3 0 rfl rfl)
theorem dX5_totals_71 : decode cX5_totals 71 = .ok (.aload_n 0, 1) := dk_42 (dk_at dksX5_totals_3 1 rfl rfl)
theorem dX5_totals_72 : decode cX5_totals 72 = .ok (.getfield 260, 3) := dk_180 1 4 (dk_at dksX5_totals_3 2 rfl rfl)
theorem dX5_totals_75 : decode cX5_totals 75 = .ok (.ladd, 1) := dk_97 (dk_at dksX5_totals_3 5 rfl rfl)
theorem dX5_totals_76 : decode cX5_totals 76 = .ok (.lstore_n 1, 1) := dk_64 (dk_at dksX5_totals_3 6 rfl rfl)
theorem dX5_totals_77 : decode cX5_totals 77 = .ok (.iinc 4 1, 3) := dk_132 4 1 (dk_at dksX5_totals_3 7 rfl rfl)
theorem dX5_totals_80 : decode cX5_totals 80 = .ok (.goto (-73), 3) := dk_167 255 183 (dk_at dksX5_totals_3 10 rfl rfl)
theorem dX5_totals_83 : decode cX5_totals 83 = .ok (.aload_n 0, 1) := dk_42 (dk_at dksX5_totals_3 13 rfl rfl)
theorem dX5_totals_84 : decode cX5_totals 84 = .ok (.lload_n 1, 1) := dk_31 (dk_at dksX5_totals_3 14 rfl rfl)
theorem dX5_totals_85 : decode cX5_totals 85 = .ok (.putfield 260, 3) := dk_181 1 4 (dk_at dksX5_totals_3 15 rfl rfl)
theorem dX5_totals_88 : decode cX5_totals 88 = .ok (.aload_n 0, 1) := dk_42 (dk_at dksX5_totals_3 18 rfl rfl)
theorem dX5_totals_89 : decode cX5_totals 89 = .ok (.iload_n 3, 1) := dk_29 (dk_at dksX5_totals_3 19 rfl rfl)
theorem dX5_totals_90 : decode cX5_totals 90 = .ok (.putfield 256, 3) := dk_181 1 0 (dk_at dksX5_totals_3 20 rfl rfl)
theorem dX5_totals_93 : decode cX5_totals 93 = .ok (.return_, 1) := dk_177 (dk_at dksX5_totals_3 23 rfl rfl)
abbrev cX5_adds : ByteArray := prog_17_method_52_code
def yX5_adds : MethodName := ⟨RX5, "adds", "(JI)V"⟩
def dkwX5_adds_1 : List UInt8 := [181, 1, 0, 42, 89, 180, 1, 4, 31, 97, 181, 1, 4, 132, 4, 1, 167, 255, 220, 177]
abbrev dktX5_adds_1 : List UInt8 := dkwX5_adds_1 ++ []
def dkwX5_adds_0 : List UInt8 := [3, 54, 4, 21, 4, 29, 162, 0, 36, 42, 89, 180, 1, 0, 42, 180, 1, 4, 31, 184, 1, 8, 128]
abbrev dktX5_adds_0 : List UInt8 := dkwX5_adds_0 ++ dktX5_adds_1
theorem dksX5_adds_0 : cX5_adds.data.toList.drop 0 = dktX5_adds_0 := by decide +kernel
theorem dksX5_adds_1 : cX5_adds.data.toList.drop 23 = dktX5_adds_1 := dk_seg dksX5_adds_0 23 rfl rfl
theorem dX5_adds_0 : decode cX5_adds 0 = .ok (.iconst 0, 1) := dk_3 (dk_at dksX5_adds_0 0 rfl rfl)
theorem dX5_adds_1 : decode cX5_adds 1 = .ok (.istore 4, 2) := dk_54 4 (dk_at dksX5_adds_0 1 rfl rfl)
theorem dX5_adds_3 : decode cX5_adds 3 = .ok (.iload 4, 2) := dk_21 4 (dk_at dksX5_adds_0 3 rfl rfl)
theorem dX5_adds_5 : decode cX5_adds 5 = .ok (.iload_n 3, 1) := dk_29 (dk_at dksX5_adds_0 5 rfl rfl)
theorem dX5_adds_6 : decode cX5_adds 6 = .ok (.if_icmp .ge 36, 3) := dk_162 0 36 (dk_at dksX5_adds_0 6 rfl rfl)
theorem dX5_adds_9 : decode cX5_adds 9 = .ok (.aload_n 0, 1) := dk_42 (dk_at dksX5_adds_0 9 rfl rfl)
theorem dX5_adds_10 : decode cX5_adds 10 = .ok (.dup, 1) := dk_89 (dk_at dksX5_adds_0 10 rfl rfl)
theorem dX5_adds_11 : decode cX5_adds 11 = .ok (.getfield 256, 3) := dk_180 1 0 (dk_at dksX5_adds_0 11 rfl rfl)
theorem dX5_adds_14 : decode cX5_adds 14 = .ok (.aload_n 0, 1) := dk_42 (dk_at dksX5_adds_0 14 rfl rfl)
theorem dX5_adds_15 : decode cX5_adds 15 = .ok (.getfield 260, 3) := dk_180 1 4 (dk_at dksX5_adds_0 15 rfl rfl)
theorem dX5_adds_18 : decode cX5_adds 18 = .ok (.lload_n 1, 1) := dk_31 (dk_at dksX5_adds_0 18 rfl rfl)
theorem dX5_adds_19 : decode cX5_adds 19 = .ok (.invokestatic 264, 3) := dk_184 1 8 (dk_at dksX5_adds_0 19 rfl rfl)
theorem dX5_adds_22 : decode cX5_adds 22 = .ok (.ior, 1) := dk_128 (dk_at dksX5_adds_0 22 rfl rfl)
theorem dX5_adds_23 : decode cX5_adds 23 = .ok (.putfield 256, 3) := dk_181 1 0 (dk_at dksX5_adds_1 0 rfl rfl)
theorem dX5_adds_26 : decode cX5_adds 26 = .ok (.aload_n 0, 1) := dk_42 (dk_at dksX5_adds_1 3 rfl rfl)
theorem dX5_adds_27 : decode cX5_adds 27 = .ok (.dup, 1) := dk_89 (dk_at dksX5_adds_1 4 rfl rfl)
theorem dX5_adds_28 : decode cX5_adds 28 = .ok (.getfield 260, 3) := dk_180 1 4 (dk_at dksX5_adds_1 5 rfl rfl)
theorem dX5_adds_31 : decode cX5_adds 31 = .ok (.lload_n 1, 1) := dk_31 (dk_at dksX5_adds_1 8 rfl rfl)
theorem dX5_adds_32 : decode cX5_adds 32 = .ok (.ladd, 1) := dk_97 (dk_at dksX5_adds_1 9 rfl rfl)
theorem dX5_adds_33 : decode cX5_adds 33 = .ok (.putfield 260, 3) := dk_181 1 4 (dk_at dksX5_adds_1 10 rfl rfl)
theorem dX5_adds_36 : decode cX5_adds 36 = .ok (.iinc 4 1, 3) := dk_132 4 1 (dk_at dksX5_adds_1 13 rfl rfl)
theorem dX5_adds_39 : decode cX5_adds 39 = .ok (.goto (-36), 3) := dk_167 255 220 (dk_at dksX5_adds_1 16 rfl rfl)
theorem dX5_adds_42 : decode cX5_adds 42 = .ok (.return_, 1) := dk_177 (dk_at dksX5_adds_1 19 rfl rfl)
abbrev cX5_isBeyond : ByteArray := prog_17_method_51_code
def yX5_isBeyond : MethodName := ⟨RX5, "isBeyond", "(JJ)Z"⟩
def dkwX5_isBeyond_2 : List UInt8 := [156, 0, 7, 4, 167, 0, 4, 3, 159, 0, 7, 4, 167, 0, 4, 3, 172]
abbrev dktX5_isBeyond_2 : List UInt8 := dkwX5_isBeyond_2 ++ []
def dkwX5_isBeyond_1 : List UInt8 := [167, 0, 4, 3, 160, 0, 33, 22, 4, 9, 148, 156, 0, 7, 4, 167, 0, 4, 3, 30, 9, 148]
abbrev dktX5_isBeyond_1 : List UInt8 := dkwX5_isBeyond_1 ++ dktX5_isBeyond_2
def dkwX5_isBeyond_0 : List UInt8 := [30, 32, 97, 55, 4, 30, 9, 148, 156, 0, 7, 4, 167, 0, 4, 3, 32, 9, 148, 156, 0, 7, 4]
abbrev dktX5_isBeyond_0 : List UInt8 := dkwX5_isBeyond_0 ++ dktX5_isBeyond_1
theorem dksX5_isBeyond_0 : cX5_isBeyond.data.toList.drop 0 = dktX5_isBeyond_0 := by decide +kernel
theorem dksX5_isBeyond_1 : cX5_isBeyond.data.toList.drop 23 = dktX5_isBeyond_1 := dk_seg dksX5_isBeyond_0 23 rfl rfl
theorem dksX5_isBeyond_2 : cX5_isBeyond.data.toList.drop 45 = dktX5_isBeyond_2 := dk_seg dksX5_isBeyond_1 22 rfl rfl
theorem dX5_isBeyond_0 : decode cX5_isBeyond 0 = .ok (.lload_n 0, 1) := dk_30 (dk_at dksX5_isBeyond_0 0 rfl rfl)
theorem dX5_isBeyond_1 : decode cX5_isBeyond 1 = .ok (.lload_n 2, 1) := dk_32 (dk_at dksX5_isBeyond_0 1 rfl rfl)
theorem dX5_isBeyond_2 : decode cX5_isBeyond 2 = .ok (.ladd, 1) := dk_97 (dk_at dksX5_isBeyond_0 2 rfl rfl)
theorem dX5_isBeyond_3 : decode cX5_isBeyond 3 = .ok (.lstore 4, 2) := dk_55 4 (dk_at dksX5_isBeyond_0 3 rfl rfl)
theorem dX5_isBeyond_5 : decode cX5_isBeyond 5 = .ok (.lload_n 0, 1) := dk_30 (dk_at dksX5_isBeyond_0 5 rfl rfl)
theorem dX5_isBeyond_6 : decode cX5_isBeyond 6 = .ok (.lconst 0, 1) := dk_9 (dk_at dksX5_isBeyond_0 6 rfl rfl)
theorem dX5_isBeyond_7 : decode cX5_isBeyond 7 = .ok (.lcmp, 1) := dk_148 (dk_at dksX5_isBeyond_0 7 rfl rfl)
theorem dX5_isBeyond_8 : decode cX5_isBeyond 8 = .ok (.ifCond .ge 7, 3) := dk_156 0 7 (dk_at dksX5_isBeyond_0 8 rfl rfl)
theorem dX5_isBeyond_11 : decode cX5_isBeyond 11 = .ok (.iconst 1, 1) := dk_4 (dk_at dksX5_isBeyond_0 11 rfl rfl)
theorem dX5_isBeyond_12 : decode cX5_isBeyond 12 = .ok (.goto 4, 3) := dk_167 0 4 (dk_at dksX5_isBeyond_0 12 rfl rfl)
theorem dX5_isBeyond_15 : decode cX5_isBeyond 15 = .ok (.iconst 0, 1) := dk_3 (dk_at dksX5_isBeyond_0 15 rfl rfl)
theorem dX5_isBeyond_16 : decode cX5_isBeyond 16 = .ok (.lload_n 2, 1) := dk_32 (dk_at dksX5_isBeyond_0 16 rfl rfl)
theorem dX5_isBeyond_17 : decode cX5_isBeyond 17 = .ok (.lconst 0, 1) := dk_9 (dk_at dksX5_isBeyond_0 17 rfl rfl)
theorem dX5_isBeyond_18 : decode cX5_isBeyond 18 = .ok (.lcmp, 1) := dk_148 (dk_at dksX5_isBeyond_0 18 rfl rfl)
theorem dX5_isBeyond_19 : decode cX5_isBeyond 19 = .ok (.ifCond .ge 7, 3) := dk_156 0 7 (dk_at dksX5_isBeyond_0 19 rfl rfl)
theorem dX5_isBeyond_22 : decode cX5_isBeyond 22 = .ok (.iconst 1, 1) := dk_4 (dk_at dksX5_isBeyond_0 22 rfl rfl)
theorem dX5_isBeyond_23 : decode cX5_isBeyond 23 = .ok (.goto 4, 3) := dk_167 0 4 (dk_at dksX5_isBeyond_1 0 rfl rfl)
theorem dX5_isBeyond_26 : decode cX5_isBeyond 26 = .ok (.iconst 0, 1) := dk_3 (dk_at dksX5_isBeyond_1 3 rfl rfl)
theorem dX5_isBeyond_27 : decode cX5_isBeyond 27 = .ok (.if_icmp .ne 33, 3) := dk_160 0 33 (dk_at dksX5_isBeyond_1 4 rfl rfl)
theorem dX5_isBeyond_30 : decode cX5_isBeyond 30 = .ok (.lload 4, 2) := dk_22 4 (dk_at dksX5_isBeyond_1 7 rfl rfl)
theorem dX5_isBeyond_32 : decode cX5_isBeyond 32 = .ok (.lconst 0, 1) := dk_9 (dk_at dksX5_isBeyond_1 9 rfl rfl)
theorem dX5_isBeyond_33 : decode cX5_isBeyond 33 = .ok (.lcmp, 1) := dk_148 (dk_at dksX5_isBeyond_1 10 rfl rfl)
theorem dX5_isBeyond_34 : decode cX5_isBeyond 34 = .ok (.ifCond .ge 7, 3) := dk_156 0 7 (dk_at dksX5_isBeyond_1 11 rfl rfl)
theorem dX5_isBeyond_37 : decode cX5_isBeyond 37 = .ok (.iconst 1, 1) := dk_4 (dk_at dksX5_isBeyond_1 14 rfl rfl)
theorem dX5_isBeyond_38 : decode cX5_isBeyond 38 = .ok (.goto 4, 3) := dk_167 0 4 (dk_at dksX5_isBeyond_1 15 rfl rfl)
theorem dX5_isBeyond_41 : decode cX5_isBeyond 41 = .ok (.iconst 0, 1) := dk_3 (dk_at dksX5_isBeyond_1 18 rfl rfl)
theorem dX5_isBeyond_42 : decode cX5_isBeyond 42 = .ok (.lload_n 0, 1) := dk_30 (dk_at dksX5_isBeyond_1 19 rfl rfl)
theorem dX5_isBeyond_43 : decode cX5_isBeyond 43 = .ok (.lconst 0, 1) := dk_9 (dk_at dksX5_isBeyond_1 20 rfl rfl)
theorem dX5_isBeyond_44 : decode cX5_isBeyond 44 = .ok (.lcmp, 1) := dk_148 (dk_at dksX5_isBeyond_1 21 rfl rfl)
theorem dX5_isBeyond_45 : decode cX5_isBeyond 45 = .ok (.ifCond .ge 7, 3) := dk_156 0 7 (dk_at dksX5_isBeyond_2 0 rfl rfl)
theorem dX5_isBeyond_48 : decode cX5_isBeyond 48 = .ok (.iconst 1, 1) := dk_4 (dk_at dksX5_isBeyond_2 3 rfl rfl)
theorem dX5_isBeyond_49 : decode cX5_isBeyond 49 = .ok (.goto 4, 3) := dk_167 0 4 (dk_at dksX5_isBeyond_2 4 rfl rfl)
theorem dX5_isBeyond_52 : decode cX5_isBeyond 52 = .ok (.iconst 0, 1) := dk_3 (dk_at dksX5_isBeyond_2 7 rfl rfl)
theorem dX5_isBeyond_53 : decode cX5_isBeyond 53 = .ok (.if_icmp .eq 7, 3) := dk_159 0 7 (dk_at dksX5_isBeyond_2 8 rfl rfl)
theorem dX5_isBeyond_56 : decode cX5_isBeyond 56 = .ok (.iconst 1, 1) := dk_4 (dk_at dksX5_isBeyond_2 11 rfl rfl)
theorem dX5_isBeyond_57 : decode cX5_isBeyond 57 = .ok (.goto 4, 3) := dk_167 0 4 (dk_at dksX5_isBeyond_2 12 rfl rfl)
theorem dX5_isBeyond_60 : decode cX5_isBeyond 60 = .ok (.iconst 0, 1) := dk_3 (dk_at dksX5_isBeyond_2 15 rfl rfl)
theorem dX5_isBeyond_61 : decode cX5_isBeyond 61 = .ok (.ireturn, 1) := dk_172 (dk_at dksX5_isBeyond_2 16 rfl rfl)
abbrev cX5_flow : ByteArray := prog_17_method_56_code
def yX5_flow : MethodName := ⟨RX5, "flow", "(I)I"⟩
def dkwX5_flow_1 : List UInt8 := [167, 0, 5, 16, 253, 172]
abbrev dktX5_flow_1 : List UInt8 := dkwX5_flow_1 ++ []
def dkwX5_flow_0 : List UInt8 := [42, 27, 182, 0, 149, 154, 0, 5, 2, 172, 42, 182, 1, 16, 153, 0, 12, 42, 180, 0, 43, 27, 46]
abbrev dktX5_flow_0 : List UInt8 := dkwX5_flow_0 ++ dktX5_flow_1
theorem dksX5_flow_0 : cX5_flow.data.toList.drop 0 = dktX5_flow_0 := by decide +kernel
theorem dksX5_flow_1 : cX5_flow.data.toList.drop 23 = dktX5_flow_1 := dk_seg dksX5_flow_0 23 rfl rfl
theorem dX5_flow_0 : decode cX5_flow 0 = .ok (.aload_n 0, 1) := dk_42 (dk_at dksX5_flow_0 0 rfl rfl)
theorem dX5_flow_1 : decode cX5_flow 1 = .ok (.iload_n 1, 1) := dk_27 (dk_at dksX5_flow_0 1 rfl rfl)
theorem dX5_flow_2 : decode cX5_flow 2 = .ok (.invokevirtual 149, 3) := dk_182 0 149 (dk_at dksX5_flow_0 2 rfl rfl)
theorem dX5_flow_5 : decode cX5_flow 5 = .ok (.ifCond .ne 5, 3) := dk_154 0 5 (dk_at dksX5_flow_0 5 rfl rfl)
theorem dX5_flow_8 : decode cX5_flow 8 = .ok (.iconst (-1), 1) := dk_2 (dk_at dksX5_flow_0 8 rfl rfl)
theorem dX5_flow_9 : decode cX5_flow 9 = .ok (.ireturn, 1) := dk_172 (dk_at dksX5_flow_0 9 rfl rfl)
theorem dX5_flow_10 : decode cX5_flow 10 = .ok (.aload_n 0, 1) := dk_42 (dk_at dksX5_flow_0 10 rfl rfl)
theorem dX5_flow_11 : decode cX5_flow 11 = .ok (.invokevirtual 272, 3) := dk_182 1 16 (dk_at dksX5_flow_0 11 rfl rfl)
theorem dX5_flow_14 : decode cX5_flow 14 = .ok (.ifCond .eq 12, 3) := dk_153 0 12 (dk_at dksX5_flow_0 14 rfl rfl)
theorem dX5_flow_17 : decode cX5_flow 17 = .ok (.aload_n 0, 1) := dk_42 (dk_at dksX5_flow_0 17 rfl rfl)
theorem dX5_flow_18 : decode cX5_flow 18 = .ok (.getfield 43, 3) := dk_180 0 43 (dk_at dksX5_flow_0 18 rfl rfl)
theorem dX5_flow_21 : decode cX5_flow 21 = .ok (.iload_n 1, 1) := dk_27 (dk_at dksX5_flow_0 21 rfl rfl)
theorem dX5_flow_22 : decode cX5_flow 22 = .ok (.iaload, 1) := dk_46 (dk_at dksX5_flow_0 22 rfl rfl)
theorem dX5_flow_23 : decode cX5_flow 23 = .ok (.goto 5, 3) := dk_167 0 5 (dk_at dksX5_flow_1 0 rfl rfl)
theorem dX5_flow_26 : decode cX5_flow 26 = .ok (.bipush (-3), 2) := dk_16 253 (dk_at dksX5_flow_1 3 rfl rfl)
theorem dX5_flow_28 : decode cX5_flow 28 = .ok (.ireturn, 1) := dk_172 (dk_at dksX5_flow_1 5 rfl rfl)
abbrev cX5_total : ByteArray := prog_17_method_57_code
def yX5_total : MethodName := ⟨RX5, "total", "()J"⟩
def dkwX5_total_0 : List UInt8 := [42, 182, 1, 22, 153, 0, 10, 42, 180, 1, 4, 167, 0, 6, 20, 0, 169, 173]
abbrev dktX5_total_0 : List UInt8 := dkwX5_total_0 ++ []
theorem dksX5_total_0 : cX5_total.data.toList.drop 0 = dktX5_total_0 := by decide +kernel
theorem dX5_total_0 : decode cX5_total 0 = .ok (.aload_n 0, 1) := dk_42 (dk_at dksX5_total_0 0 rfl rfl)
theorem dX5_total_1 : decode cX5_total 1 = .ok (.invokevirtual 278, 3) := dk_182 1 22 (dk_at dksX5_total_0 1 rfl rfl)
theorem dX5_total_4 : decode cX5_total 4 = .ok (.ifCond .eq 10, 3) := dk_153 0 10 (dk_at dksX5_total_0 4 rfl rfl)
theorem dX5_total_7 : decode cX5_total 7 = .ok (.aload_n 0, 1) := dk_42 (dk_at dksX5_total_0 7 rfl rfl)
theorem dX5_total_8 : decode cX5_total 8 = .ok (.getfield 260, 3) := dk_180 1 4 (dk_at dksX5_total_0 8 rfl rfl)
theorem dX5_total_11 : decode cX5_total 11 = .ok (.goto 6, 3) := dk_167 0 6 (dk_at dksX5_total_0 11 rfl rfl)
theorem dX5_total_14 : decode cX5_total 14 = .ok (.ldc2_w 169, 3) := dk_20 0 169 (dk_at dksX5_total_0 14 rfl rfl)
theorem dX5_total_17 : decode cX5_total 17 = .ok (.lreturn, 1) := dk_173 (dk_at dksX5_total_0 17 rfl rfl)
abbrev cX5_isTotal : ByteArray := prog_17_method_54_code
def yX5_isTotal : MethodName := ⟨RX5, "isTotal", "()Z"⟩
def dkwX5_isTotal_1 : List UInt8 := [3, 172]
abbrev dktX5_isTotal_1 : List UInt8 := dkwX5_isTotal_1 ++ []
def dkwX5_isTotal_0 : List UInt8 := [42, 182, 1, 16, 154, 0, 5, 3, 172, 42, 182, 1, 19, 42, 180, 1, 0, 154, 0, 7, 4, 167, 0, 4]
abbrev dktX5_isTotal_0 : List UInt8 := dkwX5_isTotal_0 ++ dktX5_isTotal_1
theorem dksX5_isTotal_0 : cX5_isTotal.data.toList.drop 0 = dktX5_isTotal_0 := by decide +kernel
theorem dksX5_isTotal_1 : cX5_isTotal.data.toList.drop 24 = dktX5_isTotal_1 := dk_seg dksX5_isTotal_0 24 rfl rfl
theorem dX5_isTotal_0 : decode cX5_isTotal 0 = .ok (.aload_n 0, 1) := dk_42 (dk_at dksX5_isTotal_0 0 rfl rfl)
theorem dX5_isTotal_1 : decode cX5_isTotal 1 = .ok (.invokevirtual 272, 3) := dk_182 1 16 (dk_at dksX5_isTotal_0 1 rfl rfl)
theorem dX5_isTotal_4 : decode cX5_isTotal 4 = .ok (.ifCond .ne 5, 3) := dk_154 0 5 (dk_at dksX5_isTotal_0 4 rfl rfl)
theorem dX5_isTotal_7 : decode cX5_isTotal 7 = .ok (.iconst 0, 1) := dk_3 (dk_at dksX5_isTotal_0 7 rfl rfl)
theorem dX5_isTotal_8 : decode cX5_isTotal 8 = .ok (.ireturn, 1) := dk_172 (dk_at dksX5_isTotal_0 8 rfl rfl)
theorem dX5_isTotal_9 : decode cX5_isTotal 9 = .ok (.aload_n 0, 1) := dk_42 (dk_at dksX5_isTotal_0 9 rfl rfl)
theorem dX5_isTotal_10 : decode cX5_isTotal 10 = .ok (.invokevirtual 275, 3) := dk_182 1 19 (dk_at dksX5_isTotal_0 10 rfl rfl)
theorem dX5_isTotal_13 : decode cX5_isTotal 13 = .ok (.aload_n 0, 1) := dk_42 (dk_at dksX5_isTotal_0 13 rfl rfl)
theorem dX5_isTotal_14 : decode cX5_isTotal 14 = .ok (.getfield 256, 3) := dk_180 1 0 (dk_at dksX5_isTotal_0 14 rfl rfl)
theorem dX5_isTotal_17 : decode cX5_isTotal 17 = .ok (.ifCond .ne 7, 3) := dk_154 0 7 (dk_at dksX5_isTotal_0 17 rfl rfl)
theorem dX5_isTotal_20 : decode cX5_isTotal 20 = .ok (.iconst 1, 1) := dk_4 (dk_at dksX5_isTotal_0 20 rfl rfl)
theorem dX5_isTotal_21 : decode cX5_isTotal 21 = .ok (.goto 4, 3) := dk_167 0 4 (dk_at dksX5_isTotal_0 21 rfl rfl)
theorem dX5_isTotal_24 : decode cX5_isTotal 24 = .ok (.iconst 0, 1) := dk_3 (dk_at dksX5_isTotal_1 0 rfl rfl)
theorem dX5_isTotal_25 : decode cX5_isTotal 25 = .ok (.ireturn, 1) := dk_172 (dk_at dksX5_isTotal_1 1 rfl rfl)
abbrev cX5_price : ByteArray := prog_17_method_58_code
def yX5_price : MethodName := ⟨RX5, "price", "(I)J"⟩
def dkwX5_price_2 : List UInt8 := [47, 173]
abbrev dktX5_price_2 : List UInt8 := dkwX5_price_2 ++ []
def dkwX5_price_1 : List UInt8 := [42, 180, 0, 49, 27, 47, 20, 0, 215, 148, 154, 0, 9, 20, 0, 169, 167, 0, 9, 42, 180, 0, 49, 27]
abbrev dktX5_price_1 : List UInt8 := dkwX5_price_1 ++ dktX5_price_2
def dkwX5_price_0 : List UInt8 := [42, 27, 182, 0, 103, 153, 0, 10, 42, 182, 1, 16, 154, 0, 7, 20, 0, 169, 173, 42, 3, 182, 0, 228]
abbrev dktX5_price_0 : List UInt8 := dkwX5_price_0 ++ dktX5_price_1
theorem dksX5_price_0 : cX5_price.data.toList.drop 0 = dktX5_price_0 := by decide +kernel
theorem dksX5_price_1 : cX5_price.data.toList.drop 24 = dktX5_price_1 := dk_seg dksX5_price_0 24 rfl rfl
theorem dksX5_price_2 : cX5_price.data.toList.drop 48 = dktX5_price_2 := dk_seg dksX5_price_1 24 rfl rfl
theorem dX5_price_0 : decode cX5_price 0 = .ok (.aload_n 0, 1) := dk_42 (dk_at dksX5_price_0 0 rfl rfl)
theorem dX5_price_1 : decode cX5_price 1 = .ok (.iload_n 1, 1) := dk_27 (dk_at dksX5_price_0 1 rfl rfl)
theorem dX5_price_2 : decode cX5_price 2 = .ok (.invokevirtual 103, 3) := dk_182 0 103 (dk_at dksX5_price_0 2 rfl rfl)
theorem dX5_price_5 : decode cX5_price 5 = .ok (.ifCond .eq 10, 3) := dk_153 0 10 (dk_at dksX5_price_0 5 rfl rfl)
theorem dX5_price_8 : decode cX5_price 8 = .ok (.aload_n 0, 1) := dk_42 (dk_at dksX5_price_0 8 rfl rfl)
theorem dX5_price_9 : decode cX5_price 9 = .ok (.invokevirtual 272, 3) := dk_182 1 16 (dk_at dksX5_price_0 9 rfl rfl)
theorem dX5_price_12 : decode cX5_price 12 = .ok (.ifCond .ne 7, 3) := dk_154 0 7 (dk_at dksX5_price_0 12 rfl rfl)
theorem dX5_price_15 : decode cX5_price 15 = .ok (.ldc2_w 169, 3) := dk_20 0 169 (dk_at dksX5_price_0 15 rfl rfl)
theorem dX5_price_18 : decode cX5_price 18 = .ok (.lreturn, 1) := dk_173 (dk_at dksX5_price_0 18 rfl rfl)
theorem dX5_price_19 : decode cX5_price 19 = .ok (.aload_n 0, 1) := dk_42 (dk_at dksX5_price_0 19 rfl rfl)
theorem dX5_price_20 : decode cX5_price 20 = .ok (.iconst 0, 1) := dk_3 (dk_at dksX5_price_0 20 rfl rfl)
theorem dX5_price_21 : decode cX5_price 21 = .ok (.invokevirtual 228, 3) := dk_182 0 228 (dk_at dksX5_price_0 21 rfl rfl)
theorem dX5_price_24 : decode cX5_price 24 = .ok (.aload_n 0, 1) := dk_42 (dk_at dksX5_price_1 0 rfl rfl)
theorem dX5_price_25 : decode cX5_price 25 = .ok (.getfield 49, 3) := dk_180 0 49 (dk_at dksX5_price_1 1 rfl rfl)
theorem dX5_price_28 : decode cX5_price 28 = .ok (.iload_n 1, 1) := dk_27 (dk_at dksX5_price_1 4 rfl rfl)
theorem dX5_price_29 : decode cX5_price 29 = .ok (.laload, 1) := dk_47 (dk_at dksX5_price_1 5 rfl rfl)
theorem dX5_price_30 : decode cX5_price 30 = .ok (.ldc2_w 215, 3) := dk_20 0 215 (dk_at dksX5_price_1 6 rfl rfl)
theorem dX5_price_33 : decode cX5_price 33 = .ok (.lcmp, 1) := dk_148 (dk_at dksX5_price_1 9 rfl rfl)
theorem dX5_price_34 : decode cX5_price 34 = .ok (.ifCond .ne 9, 3) := dk_154 0 9 (dk_at dksX5_price_1 10 rfl rfl)
theorem dX5_price_37 : decode cX5_price 37 = .ok (.ldc2_w 169, 3) := dk_20 0 169 (dk_at dksX5_price_1 13 rfl rfl)
theorem dX5_price_40 : decode cX5_price 40 = .ok (.goto 9, 3) := dk_167 0 9 (dk_at dksX5_price_1 16 rfl rfl)
theorem dX5_price_43 : decode cX5_price 43 = .ok (.aload_n 0, 1) := dk_42 (dk_at dksX5_price_1 19 rfl rfl)
theorem dX5_price_44 : decode cX5_price 44 = .ok (.getfield 49, 3) := dk_180 0 49 (dk_at dksX5_price_1 20 rfl rfl)
theorem dX5_price_47 : decode cX5_price 47 = .ok (.iload_n 1, 1) := dk_27 (dk_at dksX5_price_1 23 rfl rfl)
theorem dX5_price_48 : decode cX5_price 48 = .ok (.laload, 1) := dk_47 (dk_at dksX5_price_2 0 rfl rfl)
theorem dX5_price_49 : decode cX5_price 49 = .ok (.lreturn, 1) := dk_173 (dk_at dksX5_price_2 1 rfl rfl)
abbrev cX5_reduced : ByteArray := prog_17_method_59_code
def yX5_reduced : MethodName := ⟨RX5, "reduced", "(I)J"⟩
def dkwX5_reduced_3 : List UInt8 := [180, 0, 49, 42, 27, 182, 0, 152, 47, 97, 42, 180, 0, 49, 42, 27, 182, 0, 156, 47, 101, 173]
abbrev dktX5_reduced_3 : List UInt8 := dkwX5_reduced_3 ++ []
def dkwX5_reduced_2 : List UInt8 := [182, 0, 156, 47, 20, 0, 215, 148, 154, 0, 9, 20, 0, 169, 167, 0, 31, 42, 180, 0, 15, 27, 47, 42]
abbrev dktX5_reduced_2 : List UInt8 := dkwX5_reduced_2 ++ dktX5_reduced_3
def dkwX5_reduced_1 : List UInt8 := [42, 180, 0, 49, 42, 27, 182, 0, 152, 47, 20, 0, 215, 148, 153, 0, 20, 42, 180, 0, 49, 42, 27]
abbrev dktX5_reduced_1 : List UInt8 := dkwX5_reduced_1 ++ dktX5_reduced_2
def dkwX5_reduced_0 : List UInt8 := [42, 27, 182, 0, 149, 153, 0, 10, 42, 182, 1, 16, 154, 0, 7, 20, 0, 169, 173, 42, 3, 182, 0, 228]
abbrev dktX5_reduced_0 : List UInt8 := dkwX5_reduced_0 ++ dktX5_reduced_1
theorem dksX5_reduced_0 : cX5_reduced.data.toList.drop 0 = dktX5_reduced_0 := by decide +kernel
theorem dksX5_reduced_1 : cX5_reduced.data.toList.drop 24 = dktX5_reduced_1 := dk_seg dksX5_reduced_0 24 rfl rfl
theorem dksX5_reduced_2 : cX5_reduced.data.toList.drop 47 = dktX5_reduced_2 := dk_seg dksX5_reduced_1 23 rfl rfl
theorem dksX5_reduced_3 : cX5_reduced.data.toList.drop 71 = dktX5_reduced_3 := dk_seg dksX5_reduced_2 24 rfl rfl
theorem dX5_reduced_0 : decode cX5_reduced 0 = .ok (.aload_n 0, 1) := dk_42 (dk_at dksX5_reduced_0 0 rfl rfl)
theorem dX5_reduced_1 : decode cX5_reduced 1 = .ok (.iload_n 1, 1) := dk_27 (dk_at dksX5_reduced_0 1 rfl rfl)
theorem dX5_reduced_2 : decode cX5_reduced 2 = .ok (.invokevirtual 149, 3) := dk_182 0 149 (dk_at dksX5_reduced_0 2 rfl rfl)
theorem dX5_reduced_5 : decode cX5_reduced 5 = .ok (.ifCond .eq 10, 3) := dk_153 0 10 (dk_at dksX5_reduced_0 5 rfl rfl)
theorem dX5_reduced_8 : decode cX5_reduced 8 = .ok (.aload_n 0, 1) := dk_42 (dk_at dksX5_reduced_0 8 rfl rfl)
theorem dX5_reduced_9 : decode cX5_reduced 9 = .ok (.invokevirtual 272, 3) := dk_182 1 16 (dk_at dksX5_reduced_0 9 rfl rfl)
theorem dX5_reduced_12 : decode cX5_reduced 12 = .ok (.ifCond .ne 7, 3) := dk_154 0 7 (dk_at dksX5_reduced_0 12 rfl rfl)
theorem dX5_reduced_15 : decode cX5_reduced 15 = .ok (.ldc2_w 169, 3) := dk_20 0 169 (dk_at dksX5_reduced_0 15 rfl rfl)
theorem dX5_reduced_18 : decode cX5_reduced 18 = .ok (.lreturn, 1) := dk_173 (dk_at dksX5_reduced_0 18 rfl rfl)
theorem dX5_reduced_19 : decode cX5_reduced 19 = .ok (.aload_n 0, 1) := dk_42 (dk_at dksX5_reduced_0 19 rfl rfl)
theorem dX5_reduced_20 : decode cX5_reduced 20 = .ok (.iconst 0, 1) := dk_3 (dk_at dksX5_reduced_0 20 rfl rfl)
theorem dX5_reduced_21 : decode cX5_reduced 21 = .ok (.invokevirtual 228, 3) := dk_182 0 228 (dk_at dksX5_reduced_0 21 rfl rfl)
theorem dX5_reduced_24 : decode cX5_reduced 24 = .ok (.aload_n 0, 1) := dk_42 (dk_at dksX5_reduced_1 0 rfl rfl)
theorem dX5_reduced_25 : decode cX5_reduced 25 = .ok (.getfield 49, 3) := dk_180 0 49 (dk_at dksX5_reduced_1 1 rfl rfl)
theorem dX5_reduced_28 : decode cX5_reduced 28 = .ok (.aload_n 0, 1) := dk_42 (dk_at dksX5_reduced_1 4 rfl rfl)
theorem dX5_reduced_29 : decode cX5_reduced 29 = .ok (.iload_n 1, 1) := dk_27 (dk_at dksX5_reduced_1 5 rfl rfl)
theorem dX5_reduced_30 : decode cX5_reduced 30 = .ok (.invokevirtual 152, 3) := dk_182 0 152 (dk_at dksX5_reduced_1 6 rfl rfl)
theorem dX5_reduced_33 : decode cX5_reduced 33 = .ok (.laload, 1) := dk_47 (dk_at dksX5_reduced_1 9 rfl rfl)
theorem dX5_reduced_34 : decode cX5_reduced 34 = .ok (.ldc2_w 215, 3) := dk_20 0 215 (dk_at dksX5_reduced_1 10 rfl rfl)
theorem dX5_reduced_37 : decode cX5_reduced 37 = .ok (.lcmp, 1) := dk_148 (dk_at dksX5_reduced_1 13 rfl rfl)
theorem dX5_reduced_38 : decode cX5_reduced 38 = .ok (.ifCond .eq 20, 3) := dk_153 0 20 (dk_at dksX5_reduced_1 14 rfl rfl)
theorem dX5_reduced_41 : decode cX5_reduced 41 = .ok (.aload_n 0, 1) := dk_42 (dk_at dksX5_reduced_1 17 rfl rfl)
theorem dX5_reduced_42 : decode cX5_reduced 42 = .ok (.getfield 49, 3) := dk_180 0 49 (dk_at dksX5_reduced_1 18 rfl rfl)
theorem dX5_reduced_45 : decode cX5_reduced 45 = .ok (.aload_n 0, 1) := dk_42 (dk_at dksX5_reduced_1 21 rfl rfl)
theorem dX5_reduced_46 : decode cX5_reduced 46 = .ok (.iload_n 1, 1) := dk_27 (dk_at dksX5_reduced_1 22 rfl rfl)
theorem dX5_reduced_47 : decode cX5_reduced 47 = .ok (.invokevirtual 156, 3) := dk_182 0 156 (dk_at dksX5_reduced_2 0 rfl rfl)
theorem dX5_reduced_50 : decode cX5_reduced 50 = .ok (.laload, 1) := dk_47 (dk_at dksX5_reduced_2 3 rfl rfl)
theorem dX5_reduced_51 : decode cX5_reduced 51 = .ok (.ldc2_w 215, 3) := dk_20 0 215 (dk_at dksX5_reduced_2 4 rfl rfl)
theorem dX5_reduced_54 : decode cX5_reduced 54 = .ok (.lcmp, 1) := dk_148 (dk_at dksX5_reduced_2 7 rfl rfl)
theorem dX5_reduced_55 : decode cX5_reduced 55 = .ok (.ifCond .ne 9, 3) := dk_154 0 9 (dk_at dksX5_reduced_2 8 rfl rfl)
theorem dX5_reduced_58 : decode cX5_reduced 58 = .ok (.ldc2_w 169, 3) := dk_20 0 169 (dk_at dksX5_reduced_2 11 rfl rfl)
theorem dX5_reduced_61 : decode cX5_reduced 61 = .ok (.goto 31, 3) := dk_167 0 31 (dk_at dksX5_reduced_2 14 rfl rfl)
theorem dX5_reduced_64 : decode cX5_reduced 64 = .ok (.aload_n 0, 1) := dk_42 (dk_at dksX5_reduced_2 17 rfl rfl)
theorem dX5_reduced_65 : decode cX5_reduced 65 = .ok (.getfield 15, 3) := dk_180 0 15 (dk_at dksX5_reduced_2 18 rfl rfl)
theorem dX5_reduced_68 : decode cX5_reduced 68 = .ok (.iload_n 1, 1) := dk_27 (dk_at dksX5_reduced_2 21 rfl rfl)
theorem dX5_reduced_69 : decode cX5_reduced 69 = .ok (.laload, 1) := dk_47 (dk_at dksX5_reduced_2 22 rfl rfl)
theorem dX5_reduced_70 : decode cX5_reduced 70 = .ok (.aload_n 0, 1) := dk_42 (dk_at dksX5_reduced_2 23 rfl rfl)
theorem dX5_reduced_71 : decode cX5_reduced 71 = .ok (.getfield 49, 3) := dk_180 0 49 (dk_at dksX5_reduced_3 0 rfl rfl)
theorem dX5_reduced_74 : decode cX5_reduced 74 = .ok (.aload_n 0, 1) := dk_42 (dk_at dksX5_reduced_3 3 rfl rfl)
theorem dX5_reduced_75 : decode cX5_reduced 75 = .ok (.iload_n 1, 1) := dk_27 (dk_at dksX5_reduced_3 4 rfl rfl)
theorem dX5_reduced_76 : decode cX5_reduced 76 = .ok (.invokevirtual 152, 3) := dk_182 0 152 (dk_at dksX5_reduced_3 5 rfl rfl)
theorem dX5_reduced_79 : decode cX5_reduced 79 = .ok (.laload, 1) := dk_47 (dk_at dksX5_reduced_3 8 rfl rfl)
theorem dX5_reduced_80 : decode cX5_reduced 80 = .ok (.ladd, 1) := dk_97 (dk_at dksX5_reduced_3 9 rfl rfl)
theorem dX5_reduced_81 : decode cX5_reduced 81 = .ok (.aload_n 0, 1) := dk_42 (dk_at dksX5_reduced_3 10 rfl rfl)
theorem dX5_reduced_82 : decode cX5_reduced 82 = .ok (.getfield 49, 3) := dk_180 0 49 (dk_at dksX5_reduced_3 11 rfl rfl)
theorem dX5_reduced_85 : decode cX5_reduced 85 = .ok (.aload_n 0, 1) := dk_42 (dk_at dksX5_reduced_3 14 rfl rfl)
theorem dX5_reduced_86 : decode cX5_reduced 86 = .ok (.iload_n 1, 1) := dk_27 (dk_at dksX5_reduced_3 15 rfl rfl)
theorem dX5_reduced_87 : decode cX5_reduced 87 = .ok (.invokevirtual 156, 3) := dk_182 0 156 (dk_at dksX5_reduced_3 16 rfl rfl)
theorem dX5_reduced_90 : decode cX5_reduced 90 = .ok (.laload, 1) := dk_47 (dk_at dksX5_reduced_3 19 rfl rfl)
theorem dX5_reduced_91 : decode cX5_reduced 91 = .ok (.lsub, 1) := dk_101 (dk_at dksX5_reduced_3 20 rfl rfl)
theorem dX5_reduced_92 : decode cX5_reduced 92 = .ok (.lreturn, 1) := dk_173 (dk_at dksX5_reduced_3 21 rfl rfl)
abbrev cX5_dear : ByteArray := prog_17_method_60_code
def yX5_dear : MethodName := ⟨RX5, "dear", "(I)I"⟩
def dkwX5_dear_5 : List UInt8 := [167, 255, 175, 2, 172]
abbrev dktX5_dear_5 : List UInt8 := dkwX5_dear_5 ++ []
def dkwX5_dear_4 : List UInt8 := [162, 0, 6, 132, 3, 1, 132, 4, 1, 167, 255, 201, 29, 27, 160, 0, 5, 28, 172, 132, 2, 1]
abbrev dktX5_dear_4 : List UInt8 := dkwX5_dear_4 ++ dktX5_dear_5
def dkwX5_dear_3 : List UInt8 := [148, 155, 0, 26, 42, 180, 0, 49, 21, 4, 47, 42, 180, 0, 49, 28, 47, 148, 154, 0, 12, 21, 4, 28]
abbrev dktX5_dear_3 : List UInt8 := dkwX5_dear_3 ++ dktX5_dear_4
def dkwX5_dear_2 : List UInt8 := [54, 4, 21, 4, 42, 182, 0, 95, 162, 0, 52, 42, 180, 0, 49, 21, 4, 47, 42, 180, 0, 49, 28, 47]
abbrev dktX5_dear_2 : List UInt8 := dkwX5_dear_2 ++ dktX5_dear_3
def dkwX5_dear_1 : List UInt8 := [154, 0, 6, 16, 253, 172, 42, 3, 182, 0, 228, 3, 61, 28, 42, 182, 0, 95, 162, 0, 79, 3, 62, 3]
abbrev dktX5_dear_1 : List UInt8 := dkwX5_dear_1 ++ dktX5_dear_2
def dkwX5_dear_0 : List UInt8 := [27, 133, 9, 42, 182, 0, 95, 4, 100, 133, 184, 0, 99, 154, 0, 5, 2, 172, 42, 182, 1, 16]
abbrev dktX5_dear_0 : List UInt8 := dkwX5_dear_0 ++ dktX5_dear_1
theorem dksX5_dear_0 : cX5_dear.data.toList.drop 0 = dktX5_dear_0 := by decide +kernel
theorem dksX5_dear_1 : cX5_dear.data.toList.drop 22 = dktX5_dear_1 := dk_seg dksX5_dear_0 22 rfl rfl
theorem dksX5_dear_2 : cX5_dear.data.toList.drop 46 = dktX5_dear_2 := dk_seg dksX5_dear_1 24 rfl rfl
theorem dksX5_dear_3 : cX5_dear.data.toList.drop 70 = dktX5_dear_3 := dk_seg dksX5_dear_2 24 rfl rfl
theorem dksX5_dear_4 : cX5_dear.data.toList.drop 94 = dktX5_dear_4 := dk_seg dksX5_dear_3 24 rfl rfl
theorem dksX5_dear_5 : cX5_dear.data.toList.drop 116 = dktX5_dear_5 := dk_seg dksX5_dear_4 22 rfl rfl
theorem dX5_dear_0 : decode cX5_dear 0 = .ok (.iload_n 1, 1) := dk_27 (dk_at dksX5_dear_0 0 rfl rfl)
theorem dX5_dear_1 : decode cX5_dear 1 = .ok (.i2l, 1) := dk_133 (dk_at dksX5_dear_0 1 rfl rfl)
theorem dX5_dear_2 : decode cX5_dear 2 = .ok (.lconst 0, 1) := dk_9 (dk_at dksX5_dear_0 2 rfl rfl)
theorem dX5_dear_3 : decode cX5_dear 3 = .ok (.aload_n 0, 1) := dk_42 (dk_at dksX5_dear_0 3 rfl rfl)
theorem dX5_dear_4 : decode cX5_dear 4 = .ok (.invokevirtual 95, 3) := dk_182 0 95 (dk_at dksX5_dear_0 4 rfl rfl)
theorem dX5_dear_7 : decode cX5_dear 7 = .ok (.iconst 1, 1) := dk_4 (dk_at dksX5_dear_0 7 rfl rfl)
theorem dX5_dear_8 : decode cX5_dear 8 = .ok (.isub, 1) := dk_100 (dk_at dksX5_dear_0 8 rfl rfl)
theorem dX5_dear_9 : decode cX5_dear 9 = .ok (.i2l, 1) := dk_133 (dk_at dksX5_dear_0 9 rfl rfl)
theorem dX5_dear_10 : decode cX5_dear 10 = .ok (.invokestatic 99, 3) := dk_184 0 99 (dk_at dksX5_dear_0 10 rfl rfl)
theorem dX5_dear_13 : decode cX5_dear 13 = .ok (.ifCond .ne 5, 3) := dk_154 0 5 (dk_at dksX5_dear_0 13 rfl rfl)
theorem dX5_dear_16 : decode cX5_dear 16 = .ok (.iconst (-1), 1) := dk_2 (dk_at dksX5_dear_0 16 rfl rfl)
theorem dX5_dear_17 : decode cX5_dear 17 = .ok (.ireturn, 1) := dk_172 (dk_at dksX5_dear_0 17 rfl rfl)
theorem dX5_dear_18 : decode cX5_dear 18 = .ok (.aload_n 0, 1) := dk_42 (dk_at dksX5_dear_0 18 rfl rfl)
theorem dX5_dear_19 : decode cX5_dear 19 = .ok (.invokevirtual 272, 3) := dk_182 1 16 (dk_at dksX5_dear_0 19 rfl rfl)
theorem dX5_dear_22 : decode cX5_dear 22 = .ok (.ifCond .ne 6, 3) := dk_154 0 6 (dk_at dksX5_dear_1 0 rfl rfl)
theorem dX5_dear_25 : decode cX5_dear 25 = .ok (.bipush (-3), 2) := dk_16 253 (dk_at dksX5_dear_1 3 rfl rfl)
theorem dX5_dear_27 : decode cX5_dear 27 = .ok (.ireturn, 1) := dk_172 (dk_at dksX5_dear_1 5 rfl rfl)
theorem dX5_dear_28 : decode cX5_dear 28 = .ok (.aload_n 0, 1) := dk_42 (dk_at dksX5_dear_1 6 rfl rfl)
theorem dX5_dear_29 : decode cX5_dear 29 = .ok (.iconst 0, 1) := dk_3 (dk_at dksX5_dear_1 7 rfl rfl)
theorem dX5_dear_30 : decode cX5_dear 30 = .ok (.invokevirtual 228, 3) := dk_182 0 228 (dk_at dksX5_dear_1 8 rfl rfl)
theorem dX5_dear_33 : decode cX5_dear 33 = .ok (.iconst 0, 1) := dk_3 (dk_at dksX5_dear_1 11 rfl rfl)
theorem dX5_dear_34 : decode cX5_dear 34 = .ok (.istore_n 2, 1) := dk_61 (dk_at dksX5_dear_1 12 rfl rfl)
theorem dX5_dear_35 : decode cX5_dear 35 = .ok (.iload_n 2, 1) := dk_28 (dk_at dksX5_dear_1 13 rfl rfl)
theorem dX5_dear_36 : decode cX5_dear 36 = .ok (.aload_n 0, 1) := dk_42 (dk_at dksX5_dear_1 14 rfl rfl)
theorem dX5_dear_37 : decode cX5_dear 37 = .ok (.invokevirtual 95, 3) := dk_182 0 95 (dk_at dksX5_dear_1 15 rfl rfl)
theorem dX5_dear_40 : decode cX5_dear 40 = .ok (.if_icmp .ge 79, 3) := dk_162 0 79 (dk_at dksX5_dear_1 18 rfl rfl)
theorem dX5_dear_43 : decode cX5_dear 43 = .ok (.iconst 0, 1) := dk_3 (dk_at dksX5_dear_1 21 rfl rfl)
theorem dX5_dear_44 : decode cX5_dear 44 = .ok (.istore_n 3, 1) := dk_62 (dk_at dksX5_dear_1 22 rfl rfl)
theorem dX5_dear_45 : decode cX5_dear 45 = .ok (.iconst 0, 1) := dk_3 (dk_at dksX5_dear_1 23 rfl rfl)
theorem dX5_dear_46 : decode cX5_dear 46 = .ok (.istore 4, 2) := dk_54 4 (dk_at dksX5_dear_2 0 rfl rfl)
theorem dX5_dear_48 : decode cX5_dear 48 = .ok (.iload 4, 2) := dk_21 4 (dk_at dksX5_dear_2 2 rfl rfl)
theorem dX5_dear_50 : decode cX5_dear 50 = .ok (.aload_n 0, 1) := dk_42 (dk_at dksX5_dear_2 4 rfl rfl)
theorem dX5_dear_51 : decode cX5_dear 51 = .ok (.invokevirtual 95, 3) := dk_182 0 95 (dk_at dksX5_dear_2 5 rfl rfl)
theorem dX5_dear_54 : decode cX5_dear 54 = .ok (.if_icmp .ge 52, 3) := dk_162 0 52 (dk_at dksX5_dear_2 8 rfl rfl)
theorem dX5_dear_57 : decode cX5_dear 57 = .ok (.aload_n 0, 1) := dk_42 (dk_at dksX5_dear_2 11 rfl rfl)
theorem dX5_dear_58 : decode cX5_dear 58 = .ok (.getfield 49, 3) := dk_180 0 49 (dk_at dksX5_dear_2 12 rfl rfl)
theorem dX5_dear_61 : decode cX5_dear 61 = .ok (.iload 4, 2) := dk_21 4 (dk_at dksX5_dear_2 15 rfl rfl)
theorem dX5_dear_63 : decode cX5_dear 63 = .ok (.laload, 1) := dk_47 (dk_at dksX5_dear_2 17 rfl rfl)
theorem dX5_dear_64 : decode cX5_dear 64 = .ok (.aload_n 0, 1) := dk_42 (dk_at dksX5_dear_2 18 rfl rfl)
theorem dX5_dear_65 : decode cX5_dear 65 = .ok (.getfield 49, 3) := dk_180 0 49 (dk_at dksX5_dear_2 19 rfl rfl)
theorem dX5_dear_68 : decode cX5_dear 68 = .ok (.iload_n 2, 1) := dk_28 (dk_at dksX5_dear_2 22 rfl rfl)
theorem dX5_dear_69 : decode cX5_dear 69 = .ok (.laload, 1) := dk_47 (dk_at dksX5_dear_2 23 rfl rfl)
theorem dX5_dear_70 : decode cX5_dear 70 = .ok (.lcmp, 1) := dk_148 (dk_at dksX5_dear_3 0 rfl rfl)
theorem dX5_dear_71 : decode cX5_dear 71 = .ok (.ifCond .lt 26, 3) := dk_155 0 26 (dk_at dksX5_dear_3 1 rfl rfl)
theorem dX5_dear_74 : decode cX5_dear 74 = .ok (.aload_n 0, 1) := dk_42 (dk_at dksX5_dear_3 4 rfl rfl)
theorem dX5_dear_75 : decode cX5_dear 75 = .ok (.getfield 49, 3) := dk_180 0 49 (dk_at dksX5_dear_3 5 rfl rfl)
theorem dX5_dear_78 : decode cX5_dear 78 = .ok (.iload 4, 2) := dk_21 4 (dk_at dksX5_dear_3 8 rfl rfl)
theorem dX5_dear_80 : decode cX5_dear 80 = .ok (.laload, 1) := dk_47 (dk_at dksX5_dear_3 10 rfl rfl)
theorem dX5_dear_81 : decode cX5_dear 81 = .ok (.aload_n 0, 1) := dk_42 (dk_at dksX5_dear_3 11 rfl rfl)
theorem dX5_dear_82 : decode cX5_dear 82 = .ok (.getfield 49, 3) := dk_180 0 49 (dk_at dksX5_dear_3 12 rfl rfl)
theorem dX5_dear_85 : decode cX5_dear 85 = .ok (.iload_n 2, 1) := dk_28 (dk_at dksX5_dear_3 15 rfl rfl)
theorem dX5_dear_86 : decode cX5_dear 86 = .ok (.laload, 1) := dk_47 (dk_at dksX5_dear_3 16 rfl rfl)
theorem dX5_dear_87 : decode cX5_dear 87 = .ok (.lcmp, 1) := dk_148 (dk_at dksX5_dear_3 17 rfl rfl)
theorem dX5_dear_88 : decode cX5_dear 88 = .ok (.ifCond .ne 12, 3) := dk_154 0 12 (dk_at dksX5_dear_3 18 rfl rfl)
theorem dX5_dear_91 : decode cX5_dear 91 = .ok (.iload 4, 2) := dk_21 4 (dk_at dksX5_dear_3 21 rfl rfl)
theorem dX5_dear_93 : decode cX5_dear 93 = .ok (.iload_n 2, 1) := dk_28 (dk_at dksX5_dear_3 23 rfl rfl)
theorem dX5_dear_94 : decode cX5_dear 94 = .ok (.if_icmp .ge 6, 3) := dk_162 0 6 (dk_at dksX5_dear_4 0 rfl rfl)
theorem dX5_dear_97 : decode cX5_dear 97 = .ok (.iinc 3 1, 3) := dk_132 3 1 (dk_at dksX5_dear_4 3 rfl rfl)
theorem dX5_dear_100 : decode cX5_dear 100 = .ok (.iinc 4 1, 3) := dk_132 4 1 (dk_at dksX5_dear_4 6 rfl rfl)
theorem dX5_dear_103 : decode cX5_dear 103 = .ok (.goto (-55), 3) := dk_167 255 201 (dk_at dksX5_dear_4 9 rfl rfl)
theorem dX5_dear_106 : decode cX5_dear 106 = .ok (.iload_n 3, 1) := dk_29 (dk_at dksX5_dear_4 12 rfl rfl)
theorem dX5_dear_107 : decode cX5_dear 107 = .ok (.iload_n 1, 1) := dk_27 (dk_at dksX5_dear_4 13 rfl rfl)
theorem dX5_dear_108 : decode cX5_dear 108 = .ok (.if_icmp .ne 5, 3) := dk_160 0 5 (dk_at dksX5_dear_4 14 rfl rfl)
theorem dX5_dear_111 : decode cX5_dear 111 = .ok (.iload_n 2, 1) := dk_28 (dk_at dksX5_dear_4 17 rfl rfl)
theorem dX5_dear_112 : decode cX5_dear 112 = .ok (.ireturn, 1) := dk_172 (dk_at dksX5_dear_4 18 rfl rfl)
theorem dX5_dear_113 : decode cX5_dear 113 = .ok (.iinc 2 1, 3) := dk_132 2 1 (dk_at dksX5_dear_4 19 rfl rfl)
theorem dX5_dear_116 : decode cX5_dear 116 = .ok (.goto (-81), 3) := dk_167 255 175 (dk_at dksX5_dear_5 0 rfl rfl)
theorem dX5_dear_119 : decode cX5_dear 119 = .ok (.iconst (-1), 1) := dk_2 (dk_at dksX5_dear_5 3 rfl rfl)
theorem dX5_dear_120 : decode cX5_dear 120 = .ok (.ireturn, 1) := dk_172 (dk_at dksX5_dear_5 4 rfl rfl)
abbrev cX5_cut : ByteArray := prog_17_method_61_code
def yX5_cut : MethodName := ⟨RX5, "cut", "()I"⟩
def dkwX5_cut_7 : List UInt8 := [167, 255, 102, 16, 251, 172]
abbrev dktX5_cut_7 : List UInt8 := dkwX5_cut_7 ++ []
def dkwX5_cut_6 : List UInt8 := [182, 0, 159, 167, 0, 4, 3, 96, 61, 132, 3, 1, 167, 255, 164, 28, 158, 0, 5, 27, 172, 132, 1, 1]
abbrev dktX5_cut_6 : List UInt8 := dkwX5_cut_6 ++ dktX5_cut_7
def dkwX5_cut_5 : List UInt8 := [154, 0, 12, 42, 29, 182, 0, 162, 116, 167, 0, 22, 21, 5, 153, 0, 16, 21, 4, 154, 0, 11, 42, 29]
abbrev dktX5_cut_5 : List UInt8 := dkwX5_cut_5 ++ dktX5_cut_6
def dkwX5_cut_4 : List UInt8 := [122, 4, 126, 4, 160, 0, 7, 4, 167, 0, 4, 3, 54, 5, 28, 21, 4, 153, 0, 17, 21, 5]
abbrev dktX5_cut_4 : List UInt8 := dkwX5_cut_4 ++ dktX5_cut_5
def dkwX5_cut_3 : List UInt8 := [29, 182, 0, 152, 122, 4, 126, 4, 160, 0, 7, 4, 167, 0, 4, 3, 54, 4, 27, 42, 29, 182, 0, 156]
abbrev dktX5_cut_3 : List UInt8 := dkwX5_cut_3 ++ dktX5_cut_4
def dkwX5_cut_2 : List UInt8 := [5, 29, 96, 46, 96, 61, 132, 3, 1, 167, 255, 225, 3, 62, 29, 42, 182, 0, 107, 162, 0, 90, 27, 42]
abbrev dktX5_cut_2 : List UInt8 := dkwX5_cut_2 ++ dktX5_cut_3
def dkwX5_cut_1 : List UInt8 := [3, 62, 29, 42, 182, 0, 95, 162, 0, 29, 27, 29, 122, 4, 126, 4, 160, 0, 14, 28, 42, 180, 0, 9]
abbrev dktX5_cut_1 : List UInt8 := dkwX5_cut_1 ++ dktX5_cut_2
def dkwX5_cut_0 : List UInt8 := [42, 182, 0, 241, 153, 0, 6, 16, 253, 172, 3, 60, 27, 4, 42, 182, 0, 95, 120, 162, 0, 150, 3, 61]
abbrev dktX5_cut_0 : List UInt8 := dkwX5_cut_0 ++ dktX5_cut_1
theorem dksX5_cut_0 : cX5_cut.data.toList.drop 0 = dktX5_cut_0 := by decide +kernel
theorem dksX5_cut_1 : cX5_cut.data.toList.drop 24 = dktX5_cut_1 := dk_seg dksX5_cut_0 24 rfl rfl
theorem dksX5_cut_2 : cX5_cut.data.toList.drop 48 = dktX5_cut_2 := dk_seg dksX5_cut_1 24 rfl rfl
theorem dksX5_cut_3 : cX5_cut.data.toList.drop 72 = dktX5_cut_3 := dk_seg dksX5_cut_2 24 rfl rfl
theorem dksX5_cut_4 : cX5_cut.data.toList.drop 96 = dktX5_cut_4 := dk_seg dksX5_cut_3 24 rfl rfl
theorem dksX5_cut_5 : cX5_cut.data.toList.drop 118 = dktX5_cut_5 := dk_seg dksX5_cut_4 22 rfl rfl
theorem dksX5_cut_6 : cX5_cut.data.toList.drop 142 = dktX5_cut_6 := dk_seg dksX5_cut_5 24 rfl rfl
theorem dksX5_cut_7 : cX5_cut.data.toList.drop 166 = dktX5_cut_7 := dk_seg dksX5_cut_6 24 rfl rfl
theorem dX5_cut_0 : decode cX5_cut 0 = .ok (.aload_n 0, 1) := dk_42 (dk_at dksX5_cut_0 0 rfl rfl)
theorem dX5_cut_1 : decode cX5_cut 1 = .ok (.invokevirtual 241, 3) := dk_182 0 241 (dk_at dksX5_cut_0 1 rfl rfl)
theorem dX5_cut_4 : decode cX5_cut 4 = .ok (.ifCond .eq 6, 3) := dk_153 0 6 (dk_at dksX5_cut_0 4 rfl rfl)
theorem dX5_cut_7 : decode cX5_cut 7 = .ok (.bipush (-3), 2) := dk_16 253 (dk_at dksX5_cut_0 7 rfl rfl)
theorem dX5_cut_9 : decode cX5_cut 9 = .ok (.ireturn, 1) := dk_172 (dk_at dksX5_cut_0 9 rfl rfl)
theorem dX5_cut_10 : decode cX5_cut 10 = .ok (.iconst 0, 1) := dk_3 (dk_at dksX5_cut_0 10 rfl rfl)
theorem dX5_cut_11 : decode cX5_cut 11 = .ok (.istore_n 1, 1) := dk_60 (dk_at dksX5_cut_0 11 rfl rfl)
theorem dX5_cut_12 : decode cX5_cut 12 = .ok (.iload_n 1, 1) := dk_27 (dk_at dksX5_cut_0 12 rfl rfl)
theorem dX5_cut_13 : decode cX5_cut 13 = .ok (.iconst 1, 1) := dk_4 (dk_at dksX5_cut_0 13 rfl rfl)
theorem dX5_cut_14 : decode cX5_cut 14 = .ok (.aload_n 0, 1) := dk_42 (dk_at dksX5_cut_0 14 rfl rfl)
theorem dX5_cut_15 : decode cX5_cut 15 = .ok (.invokevirtual 95, 3) := dk_182 0 95 (dk_at dksX5_cut_0 15 rfl rfl)
theorem dX5_cut_18 : decode cX5_cut 18 = .ok (.ishl, 1) := dk_120 (dk_at dksX5_cut_0 18 rfl rfl)
theorem dX5_cut_19 : decode cX5_cut 19 = .ok (.if_icmp .ge 150, 3) := dk_162 0 150 (dk_at dksX5_cut_0 19 rfl rfl)
theorem dX5_cut_22 : decode cX5_cut 22 = .ok (.iconst 0, 1) := dk_3 (dk_at dksX5_cut_0 22 rfl rfl)
theorem dX5_cut_23 : decode cX5_cut 23 = .ok (.istore_n 2, 1) := dk_61 (dk_at dksX5_cut_0 23 rfl rfl)
theorem dX5_cut_24 : decode cX5_cut 24 = .ok (.iconst 0, 1) := dk_3 (dk_at dksX5_cut_1 0 rfl rfl)
theorem dX5_cut_25 : decode cX5_cut 25 = .ok (.istore_n 3, 1) := dk_62 (dk_at dksX5_cut_1 1 rfl rfl)
theorem dX5_cut_26 : decode cX5_cut 26 = .ok (.iload_n 3, 1) := dk_29 (dk_at dksX5_cut_1 2 rfl rfl)
theorem dX5_cut_27 : decode cX5_cut 27 = .ok (.aload_n 0, 1) := dk_42 (dk_at dksX5_cut_1 3 rfl rfl)
theorem dX5_cut_28 : decode cX5_cut 28 = .ok (.invokevirtual 95, 3) := dk_182 0 95 (dk_at dksX5_cut_1 4 rfl rfl)
theorem dX5_cut_31 : decode cX5_cut 31 = .ok (.if_icmp .ge 29, 3) := dk_162 0 29 (dk_at dksX5_cut_1 7 rfl rfl)
theorem dX5_cut_34 : decode cX5_cut 34 = .ok (.iload_n 1, 1) := dk_27 (dk_at dksX5_cut_1 10 rfl rfl)
theorem dX5_cut_35 : decode cX5_cut 35 = .ok (.iload_n 3, 1) := dk_29 (dk_at dksX5_cut_1 11 rfl rfl)
theorem dX5_cut_36 : decode cX5_cut 36 = .ok (.ishr, 1) := dk_122 (dk_at dksX5_cut_1 12 rfl rfl)
theorem dX5_cut_37 : decode cX5_cut 37 = .ok (.iconst 1, 1) := dk_4 (dk_at dksX5_cut_1 13 rfl rfl)
theorem dX5_cut_38 : decode cX5_cut 38 = .ok (.iand, 1) := dk_126 (dk_at dksX5_cut_1 14 rfl rfl)
theorem dX5_cut_39 : decode cX5_cut 39 = .ok (.iconst 1, 1) := dk_4 (dk_at dksX5_cut_1 15 rfl rfl)
theorem dX5_cut_40 : decode cX5_cut 40 = .ok (.if_icmp .ne 14, 3) := dk_160 0 14 (dk_at dksX5_cut_1 16 rfl rfl)
theorem dX5_cut_43 : decode cX5_cut 43 = .ok (.iload_n 2, 1) := dk_28 (dk_at dksX5_cut_1 19 rfl rfl)
theorem dX5_cut_44 : decode cX5_cut 44 = .ok (.aload_n 0, 1) := dk_42 (dk_at dksX5_cut_1 20 rfl rfl)
theorem dX5_cut_45 : decode cX5_cut 45 = .ok (.getfield 9, 3) := dk_180 0 9 (dk_at dksX5_cut_1 21 rfl rfl)
theorem dX5_cut_48 : decode cX5_cut 48 = .ok (.iconst 2, 1) := dk_5 (dk_at dksX5_cut_2 0 rfl rfl)
theorem dX5_cut_49 : decode cX5_cut 49 = .ok (.iload_n 3, 1) := dk_29 (dk_at dksX5_cut_2 1 rfl rfl)
theorem dX5_cut_50 : decode cX5_cut 50 = .ok (.iadd, 1) := dk_96 (dk_at dksX5_cut_2 2 rfl rfl)
theorem dX5_cut_51 : decode cX5_cut 51 = .ok (.iaload, 1) := dk_46 (dk_at dksX5_cut_2 3 rfl rfl)
theorem dX5_cut_52 : decode cX5_cut 52 = .ok (.iadd, 1) := dk_96 (dk_at dksX5_cut_2 4 rfl rfl)
theorem dX5_cut_53 : decode cX5_cut 53 = .ok (.istore_n 2, 1) := dk_61 (dk_at dksX5_cut_2 5 rfl rfl)
theorem dX5_cut_54 : decode cX5_cut 54 = .ok (.iinc 3 1, 3) := dk_132 3 1 (dk_at dksX5_cut_2 6 rfl rfl)
theorem dX5_cut_57 : decode cX5_cut 57 = .ok (.goto (-31), 3) := dk_167 255 225 (dk_at dksX5_cut_2 9 rfl rfl)
theorem dX5_cut_60 : decode cX5_cut 60 = .ok (.iconst 0, 1) := dk_3 (dk_at dksX5_cut_2 12 rfl rfl)
theorem dX5_cut_61 : decode cX5_cut 61 = .ok (.istore_n 3, 1) := dk_62 (dk_at dksX5_cut_2 13 rfl rfl)
theorem dX5_cut_62 : decode cX5_cut 62 = .ok (.iload_n 3, 1) := dk_29 (dk_at dksX5_cut_2 14 rfl rfl)
theorem dX5_cut_63 : decode cX5_cut 63 = .ok (.aload_n 0, 1) := dk_42 (dk_at dksX5_cut_2 15 rfl rfl)
theorem dX5_cut_64 : decode cX5_cut 64 = .ok (.invokevirtual 107, 3) := dk_182 0 107 (dk_at dksX5_cut_2 16 rfl rfl)
theorem dX5_cut_67 : decode cX5_cut 67 = .ok (.if_icmp .ge 90, 3) := dk_162 0 90 (dk_at dksX5_cut_2 19 rfl rfl)
theorem dX5_cut_70 : decode cX5_cut 70 = .ok (.iload_n 1, 1) := dk_27 (dk_at dksX5_cut_2 22 rfl rfl)
theorem dX5_cut_71 : decode cX5_cut 71 = .ok (.aload_n 0, 1) := dk_42 (dk_at dksX5_cut_2 23 rfl rfl)
theorem dX5_cut_72 : decode cX5_cut 72 = .ok (.iload_n 3, 1) := dk_29 (dk_at dksX5_cut_3 0 rfl rfl)
theorem dX5_cut_73 : decode cX5_cut 73 = .ok (.invokevirtual 152, 3) := dk_182 0 152 (dk_at dksX5_cut_3 1 rfl rfl)
theorem dX5_cut_76 : decode cX5_cut 76 = .ok (.ishr, 1) := dk_122 (dk_at dksX5_cut_3 4 rfl rfl)
theorem dX5_cut_77 : decode cX5_cut 77 = .ok (.iconst 1, 1) := dk_4 (dk_at dksX5_cut_3 5 rfl rfl)
theorem dX5_cut_78 : decode cX5_cut 78 = .ok (.iand, 1) := dk_126 (dk_at dksX5_cut_3 6 rfl rfl)
theorem dX5_cut_79 : decode cX5_cut 79 = .ok (.iconst 1, 1) := dk_4 (dk_at dksX5_cut_3 7 rfl rfl)
theorem dX5_cut_80 : decode cX5_cut 80 = .ok (.if_icmp .ne 7, 3) := dk_160 0 7 (dk_at dksX5_cut_3 8 rfl rfl)
theorem dX5_cut_83 : decode cX5_cut 83 = .ok (.iconst 1, 1) := dk_4 (dk_at dksX5_cut_3 11 rfl rfl)
theorem dX5_cut_84 : decode cX5_cut 84 = .ok (.goto 4, 3) := dk_167 0 4 (dk_at dksX5_cut_3 12 rfl rfl)
theorem dX5_cut_87 : decode cX5_cut 87 = .ok (.iconst 0, 1) := dk_3 (dk_at dksX5_cut_3 15 rfl rfl)
theorem dX5_cut_88 : decode cX5_cut 88 = .ok (.istore 4, 2) := dk_54 4 (dk_at dksX5_cut_3 16 rfl rfl)
theorem dX5_cut_90 : decode cX5_cut 90 = .ok (.iload_n 1, 1) := dk_27 (dk_at dksX5_cut_3 18 rfl rfl)
theorem dX5_cut_91 : decode cX5_cut 91 = .ok (.aload_n 0, 1) := dk_42 (dk_at dksX5_cut_3 19 rfl rfl)
theorem dX5_cut_92 : decode cX5_cut 92 = .ok (.iload_n 3, 1) := dk_29 (dk_at dksX5_cut_3 20 rfl rfl)
theorem dX5_cut_93 : decode cX5_cut 93 = .ok (.invokevirtual 156, 3) := dk_182 0 156 (dk_at dksX5_cut_3 21 rfl rfl)
theorem dX5_cut_96 : decode cX5_cut 96 = .ok (.ishr, 1) := dk_122 (dk_at dksX5_cut_4 0 rfl rfl)
theorem dX5_cut_97 : decode cX5_cut 97 = .ok (.iconst 1, 1) := dk_4 (dk_at dksX5_cut_4 1 rfl rfl)
theorem dX5_cut_98 : decode cX5_cut 98 = .ok (.iand, 1) := dk_126 (dk_at dksX5_cut_4 2 rfl rfl)
theorem dX5_cut_99 : decode cX5_cut 99 = .ok (.iconst 1, 1) := dk_4 (dk_at dksX5_cut_4 3 rfl rfl)
theorem dX5_cut_100 : decode cX5_cut 100 = .ok (.if_icmp .ne 7, 3) := dk_160 0 7 (dk_at dksX5_cut_4 4 rfl rfl)
theorem dX5_cut_103 : decode cX5_cut 103 = .ok (.iconst 1, 1) := dk_4 (dk_at dksX5_cut_4 7 rfl rfl)
theorem dX5_cut_104 : decode cX5_cut 104 = .ok (.goto 4, 3) := dk_167 0 4 (dk_at dksX5_cut_4 8 rfl rfl)
theorem dX5_cut_107 : decode cX5_cut 107 = .ok (.iconst 0, 1) := dk_3 (dk_at dksX5_cut_4 11 rfl rfl)
theorem dX5_cut_108 : decode cX5_cut 108 = .ok (.istore 5, 2) := dk_54 5 (dk_at dksX5_cut_4 12 rfl rfl)
theorem dX5_cut_110 : decode cX5_cut 110 = .ok (.iload_n 2, 1) := dk_28 (dk_at dksX5_cut_4 14 rfl rfl)
theorem dX5_cut_111 : decode cX5_cut 111 = .ok (.iload 4, 2) := dk_21 4 (dk_at dksX5_cut_4 15 rfl rfl)
theorem dX5_cut_113 : decode cX5_cut 113 = .ok (.ifCond .eq 17, 3) := dk_153 0 17 (dk_at dksX5_cut_4 17 rfl rfl)
theorem dX5_cut_116 : decode cX5_cut 116 = .ok (.iload 5, 2) := dk_21 5 (dk_at dksX5_cut_4 20 rfl rfl)
theorem dX5_cut_118 : decode cX5_cut 118 = .ok (.ifCond .ne 12, 3) := dk_154 0 12 (dk_at dksX5_cut_5 0 rfl rfl)
theorem dX5_cut_121 : decode cX5_cut 121 = .ok (.aload_n 0, 1) := dk_42 (dk_at dksX5_cut_5 3 rfl rfl)
theorem dX5_cut_122 : decode cX5_cut 122 = .ok (.iload_n 3, 1) := dk_29 (dk_at dksX5_cut_5 4 rfl rfl)
theorem dX5_cut_123 : decode cX5_cut 123 = .ok (.invokevirtual 162, 3) := dk_182 0 162 (dk_at dksX5_cut_5 5 rfl rfl)
theorem dX5_cut_126 : decode cX5_cut 126 = .ok (.ineg, 1) := dk_116 (dk_at dksX5_cut_5 8 rfl rfl)
theorem dX5_cut_127 : decode cX5_cut 127 = .ok (.goto 22, 3) := dk_167 0 22 (dk_at dksX5_cut_5 9 rfl rfl)
theorem dX5_cut_130 : decode cX5_cut 130 = .ok (.iload 5, 2) := dk_21 5 (dk_at dksX5_cut_5 12 rfl rfl)
theorem dX5_cut_132 : decode cX5_cut 132 = .ok (.ifCond .eq 16, 3) := dk_153 0 16 (dk_at dksX5_cut_5 14 rfl rfl)
theorem dX5_cut_135 : decode cX5_cut 135 = .ok (.iload 4, 2) := dk_21 4 (dk_at dksX5_cut_5 17 rfl rfl)
theorem dX5_cut_137 : decode cX5_cut 137 = .ok (.ifCond .ne 11, 3) := dk_154 0 11 (dk_at dksX5_cut_5 19 rfl rfl)
theorem dX5_cut_140 : decode cX5_cut 140 = .ok (.aload_n 0, 1) := dk_42 (dk_at dksX5_cut_5 22 rfl rfl)
theorem dX5_cut_141 : decode cX5_cut 141 = .ok (.iload_n 3, 1) := dk_29 (dk_at dksX5_cut_5 23 rfl rfl)
theorem dX5_cut_142 : decode cX5_cut 142 = .ok (.invokevirtual 159, 3) := dk_182 0 159 (dk_at dksX5_cut_6 0 rfl rfl)
theorem dX5_cut_145 : decode cX5_cut 145 = .ok (.goto 4, 3) := dk_167 0 4 (dk_at dksX5_cut_6 3 rfl rfl)
theorem dX5_cut_148 : decode cX5_cut 148 = .ok (.iconst 0, 1) := dk_3 (dk_at dksX5_cut_6 6 rfl rfl)
theorem dX5_cut_149 : decode cX5_cut 149 = .ok (.iadd, 1) := dk_96 (dk_at dksX5_cut_6 7 rfl rfl)
theorem dX5_cut_150 : decode cX5_cut 150 = .ok (.istore_n 2, 1) := dk_61 (dk_at dksX5_cut_6 8 rfl rfl)
theorem dX5_cut_151 : decode cX5_cut 151 = .ok (.iinc 3 1, 3) := dk_132 3 1 (dk_at dksX5_cut_6 9 rfl rfl)
theorem dX5_cut_154 : decode cX5_cut 154 = .ok (.goto (-92), 3) := dk_167 255 164 (dk_at dksX5_cut_6 12 rfl rfl)
theorem dX5_cut_157 : decode cX5_cut 157 = .ok (.iload_n 2, 1) := dk_28 (dk_at dksX5_cut_6 15 rfl rfl)
theorem dX5_cut_158 : decode cX5_cut 158 = .ok (.ifCond .le 5, 3) := dk_158 0 5 (dk_at dksX5_cut_6 16 rfl rfl)
theorem dX5_cut_161 : decode cX5_cut 161 = .ok (.iload_n 1, 1) := dk_27 (dk_at dksX5_cut_6 19 rfl rfl)
theorem dX5_cut_162 : decode cX5_cut 162 = .ok (.ireturn, 1) := dk_172 (dk_at dksX5_cut_6 20 rfl rfl)
theorem dX5_cut_163 : decode cX5_cut 163 = .ok (.iinc 1 1, 3) := dk_132 1 1 (dk_at dksX5_cut_6 21 rfl rfl)
theorem dX5_cut_166 : decode cX5_cut 166 = .ok (.goto (-154), 3) := dk_167 255 102 (dk_at dksX5_cut_7 0 rfl rfl)
theorem dX5_cut_169 : decode cX5_cut 169 = .ok (.bipush (-5), 2) := dk_16 251 (dk_at dksX5_cut_7 3 rfl rfl)
theorem dX5_cut_171 : decode cX5_cut 171 = .ok (.ireturn, 1) := dk_172 (dk_at dksX5_cut_7 5 rfl rfl)
abbrev cX5_step : ByteArray := prog_17_method_63_code
def yX5_step : MethodName := ⟨RX5, "step", "(II)I"⟩
def dkwX5_step_1 : List UInt8 := [167, 0, 5, 16, 253, 172]
abbrev dktX5_step_1 : List UInt8 := dkwX5_step_1 ++ []
def dkwX5_step_0 : List UInt8 := [42, 27, 28, 182, 0, 137, 154, 0, 5, 2, 172, 42, 182, 1, 16, 153, 0, 12, 42, 27, 28, 182, 1, 25]
abbrev dktX5_step_0 : List UInt8 := dkwX5_step_0 ++ dktX5_step_1
theorem dksX5_step_0 : cX5_step.data.toList.drop 0 = dktX5_step_0 := by decide +kernel
theorem dksX5_step_1 : cX5_step.data.toList.drop 24 = dktX5_step_1 := dk_seg dksX5_step_0 24 rfl rfl
theorem dX5_step_0 : decode cX5_step 0 = .ok (.aload_n 0, 1) := dk_42 (dk_at dksX5_step_0 0 rfl rfl)
theorem dX5_step_1 : decode cX5_step 1 = .ok (.iload_n 1, 1) := dk_27 (dk_at dksX5_step_0 1 rfl rfl)
theorem dX5_step_2 : decode cX5_step 2 = .ok (.iload_n 2, 1) := dk_28 (dk_at dksX5_step_0 2 rfl rfl)
theorem dX5_step_3 : decode cX5_step 3 = .ok (.invokevirtual 137, 3) := dk_182 0 137 (dk_at dksX5_step_0 3 rfl rfl)
theorem dX5_step_6 : decode cX5_step 6 = .ok (.ifCond .ne 5, 3) := dk_154 0 5 (dk_at dksX5_step_0 6 rfl rfl)
theorem dX5_step_9 : decode cX5_step 9 = .ok (.iconst (-1), 1) := dk_2 (dk_at dksX5_step_0 9 rfl rfl)
theorem dX5_step_10 : decode cX5_step 10 = .ok (.ireturn, 1) := dk_172 (dk_at dksX5_step_0 10 rfl rfl)
theorem dX5_step_11 : decode cX5_step 11 = .ok (.aload_n 0, 1) := dk_42 (dk_at dksX5_step_0 11 rfl rfl)
theorem dX5_step_12 : decode cX5_step 12 = .ok (.invokevirtual 272, 3) := dk_182 1 16 (dk_at dksX5_step_0 12 rfl rfl)
theorem dX5_step_15 : decode cX5_step 15 = .ok (.ifCond .eq 12, 3) := dk_153 0 12 (dk_at dksX5_step_0 15 rfl rfl)
theorem dX5_step_18 : decode cX5_step 18 = .ok (.aload_n 0, 1) := dk_42 (dk_at dksX5_step_0 18 rfl rfl)
theorem dX5_step_19 : decode cX5_step 19 = .ok (.iload_n 1, 1) := dk_27 (dk_at dksX5_step_0 19 rfl rfl)
theorem dX5_step_20 : decode cX5_step 20 = .ok (.iload_n 2, 1) := dk_28 (dk_at dksX5_step_0 20 rfl rfl)
theorem dX5_step_21 : decode cX5_step 21 = .ok (.invokevirtual 281, 3) := dk_182 1 25 (dk_at dksX5_step_0 21 rfl rfl)
theorem dX5_step_24 : decode cX5_step 24 = .ok (.goto 5, 3) := dk_167 0 5 (dk_at dksX5_step_1 0 rfl rfl)
theorem dX5_step_27 : decode cX5_step 27 = .ok (.bipush (-3), 2) := dk_16 253 (dk_at dksX5_step_1 3 rfl rfl)
theorem dX5_step_29 : decode cX5_step 29 = .ok (.ireturn, 1) := dk_172 (dk_at dksX5_step_1 5 rfl rfl)
abbrev cX5_cheapest : ByteArray := prog_17_method_62_code
def yX5_cheapest : MethodName := ⟨RX5, "cheapest", "(II)I"⟩
def dkwX5_cheapest_3 : List UInt8 := [132, 4, 1, 167, 255, 189, 29, 172]
abbrev dktX5_cheapest_3 : List UInt8 := dkwX5_cheapest_3 ++ []
def dkwX5_cheapest_2 : List UInt8 := [29, 155, 0, 18, 42, 21, 4, 182, 0, 224, 42, 29, 182, 0, 224, 148, 156, 0, 6, 21, 4, 62]
abbrev dktX5_cheapest_2 : List UInt8 := dkwX5_cheapest_2 ++ dktX5_cheapest_3
def dkwX5_cheapest_1 : List UInt8 := [27, 160, 0, 45, 42, 21, 4, 3, 182, 0, 217, 28, 160, 0, 34, 42, 21, 4, 182, 0, 221, 158, 0, 25]
abbrev dktX5_cheapest_1 : List UInt8 := dkwX5_cheapest_1 ++ dktX5_cheapest_2
def dkwX5_cheapest_0 : List UInt8 := [16, 251, 62, 3, 54, 4, 21, 4, 5, 42, 182, 0, 107, 104, 162, 0, 62, 42, 21, 4, 4, 182, 0, 217]
abbrev dktX5_cheapest_0 : List UInt8 := dkwX5_cheapest_0 ++ dktX5_cheapest_1
theorem dksX5_cheapest_0 : cX5_cheapest.data.toList.drop 0 = dktX5_cheapest_0 := by decide +kernel
theorem dksX5_cheapest_1 : cX5_cheapest.data.toList.drop 24 = dktX5_cheapest_1 := dk_seg dksX5_cheapest_0 24 rfl rfl
theorem dksX5_cheapest_2 : cX5_cheapest.data.toList.drop 48 = dktX5_cheapest_2 := dk_seg dksX5_cheapest_1 24 rfl rfl
theorem dksX5_cheapest_3 : cX5_cheapest.data.toList.drop 70 = dktX5_cheapest_3 := dk_seg dksX5_cheapest_2 22 rfl rfl
theorem dX5_cheapest_0 : decode cX5_cheapest 0 = .ok (.bipush (-5), 2) := dk_16 251 (dk_at dksX5_cheapest_0 0 rfl rfl)
theorem dX5_cheapest_2 : decode cX5_cheapest 2 = .ok (.istore_n 3, 1) := dk_62 (dk_at dksX5_cheapest_0 2 rfl rfl)
theorem dX5_cheapest_3 : decode cX5_cheapest 3 = .ok (.iconst 0, 1) := dk_3 (dk_at dksX5_cheapest_0 3 rfl rfl)
theorem dX5_cheapest_4 : decode cX5_cheapest 4 = .ok (.istore 4, 2) := dk_54 4 (dk_at dksX5_cheapest_0 4 rfl rfl)
theorem dX5_cheapest_6 : decode cX5_cheapest 6 = .ok (.iload 4, 2) := dk_21 4 (dk_at dksX5_cheapest_0 6 rfl rfl)
theorem dX5_cheapest_8 : decode cX5_cheapest 8 = .ok (.iconst 2, 1) := dk_5 (dk_at dksX5_cheapest_0 8 rfl rfl)
theorem dX5_cheapest_9 : decode cX5_cheapest 9 = .ok (.aload_n 0, 1) := dk_42 (dk_at dksX5_cheapest_0 9 rfl rfl)
theorem dX5_cheapest_10 : decode cX5_cheapest 10 = .ok (.invokevirtual 107, 3) := dk_182 0 107 (dk_at dksX5_cheapest_0 10 rfl rfl)
theorem dX5_cheapest_13 : decode cX5_cheapest 13 = .ok (.imul, 1) := dk_104 (dk_at dksX5_cheapest_0 13 rfl rfl)
theorem dX5_cheapest_14 : decode cX5_cheapest 14 = .ok (.if_icmp .ge 62, 3) := dk_162 0 62 (dk_at dksX5_cheapest_0 14 rfl rfl)
theorem dX5_cheapest_17 : decode cX5_cheapest 17 = .ok (.aload_n 0, 1) := dk_42 (dk_at dksX5_cheapest_0 17 rfl rfl)
theorem dX5_cheapest_18 : decode cX5_cheapest 18 = .ok (.iload 4, 2) := dk_21 4 (dk_at dksX5_cheapest_0 18 rfl rfl)
theorem dX5_cheapest_20 : decode cX5_cheapest 20 = .ok (.iconst 1, 1) := dk_4 (dk_at dksX5_cheapest_0 20 rfl rfl)
theorem dX5_cheapest_21 : decode cX5_cheapest 21 = .ok (.invokevirtual 217, 3) := dk_182 0 217 (dk_at dksX5_cheapest_0 21 rfl rfl)
theorem dX5_cheapest_24 : decode cX5_cheapest 24 = .ok (.iload_n 1, 1) := dk_27 (dk_at dksX5_cheapest_1 0 rfl rfl)
theorem dX5_cheapest_25 : decode cX5_cheapest 25 = .ok (.if_icmp .ne 45, 3) := dk_160 0 45 (dk_at dksX5_cheapest_1 1 rfl rfl)
theorem dX5_cheapest_28 : decode cX5_cheapest 28 = .ok (.aload_n 0, 1) := dk_42 (dk_at dksX5_cheapest_1 4 rfl rfl)
theorem dX5_cheapest_29 : decode cX5_cheapest 29 = .ok (.iload 4, 2) := dk_21 4 (dk_at dksX5_cheapest_1 5 rfl rfl)
theorem dX5_cheapest_31 : decode cX5_cheapest 31 = .ok (.iconst 0, 1) := dk_3 (dk_at dksX5_cheapest_1 7 rfl rfl)
theorem dX5_cheapest_32 : decode cX5_cheapest 32 = .ok (.invokevirtual 217, 3) := dk_182 0 217 (dk_at dksX5_cheapest_1 8 rfl rfl)
theorem dX5_cheapest_35 : decode cX5_cheapest 35 = .ok (.iload_n 2, 1) := dk_28 (dk_at dksX5_cheapest_1 11 rfl rfl)
theorem dX5_cheapest_36 : decode cX5_cheapest 36 = .ok (.if_icmp .ne 34, 3) := dk_160 0 34 (dk_at dksX5_cheapest_1 12 rfl rfl)
theorem dX5_cheapest_39 : decode cX5_cheapest 39 = .ok (.aload_n 0, 1) := dk_42 (dk_at dksX5_cheapest_1 15 rfl rfl)
theorem dX5_cheapest_40 : decode cX5_cheapest 40 = .ok (.iload 4, 2) := dk_21 4 (dk_at dksX5_cheapest_1 16 rfl rfl)
theorem dX5_cheapest_42 : decode cX5_cheapest 42 = .ok (.invokevirtual 221, 3) := dk_182 0 221 (dk_at dksX5_cheapest_1 18 rfl rfl)
theorem dX5_cheapest_45 : decode cX5_cheapest 45 = .ok (.ifCond .le 25, 3) := dk_158 0 25 (dk_at dksX5_cheapest_1 21 rfl rfl)
theorem dX5_cheapest_48 : decode cX5_cheapest 48 = .ok (.iload_n 3, 1) := dk_29 (dk_at dksX5_cheapest_2 0 rfl rfl)
theorem dX5_cheapest_49 : decode cX5_cheapest 49 = .ok (.ifCond .lt 18, 3) := dk_155 0 18 (dk_at dksX5_cheapest_2 1 rfl rfl)
theorem dX5_cheapest_52 : decode cX5_cheapest 52 = .ok (.aload_n 0, 1) := dk_42 (dk_at dksX5_cheapest_2 4 rfl rfl)
theorem dX5_cheapest_53 : decode cX5_cheapest 53 = .ok (.iload 4, 2) := dk_21 4 (dk_at dksX5_cheapest_2 5 rfl rfl)
theorem dX5_cheapest_55 : decode cX5_cheapest 55 = .ok (.invokevirtual 224, 3) := dk_182 0 224 (dk_at dksX5_cheapest_2 7 rfl rfl)
theorem dX5_cheapest_58 : decode cX5_cheapest 58 = .ok (.aload_n 0, 1) := dk_42 (dk_at dksX5_cheapest_2 10 rfl rfl)
theorem dX5_cheapest_59 : decode cX5_cheapest 59 = .ok (.iload_n 3, 1) := dk_29 (dk_at dksX5_cheapest_2 11 rfl rfl)
theorem dX5_cheapest_60 : decode cX5_cheapest 60 = .ok (.invokevirtual 224, 3) := dk_182 0 224 (dk_at dksX5_cheapest_2 12 rfl rfl)
theorem dX5_cheapest_63 : decode cX5_cheapest 63 = .ok (.lcmp, 1) := dk_148 (dk_at dksX5_cheapest_2 15 rfl rfl)
theorem dX5_cheapest_64 : decode cX5_cheapest 64 = .ok (.ifCond .ge 6, 3) := dk_156 0 6 (dk_at dksX5_cheapest_2 16 rfl rfl)
theorem dX5_cheapest_67 : decode cX5_cheapest 67 = .ok (.iload 4, 2) := dk_21 4 (dk_at dksX5_cheapest_2 19 rfl rfl)
theorem dX5_cheapest_69 : decode cX5_cheapest 69 = .ok (.istore_n 3, 1) := dk_62 (dk_at dksX5_cheapest_2 21 rfl rfl)
theorem dX5_cheapest_70 : decode cX5_cheapest 70 = .ok (.iinc 4 1, 3) := dk_132 4 1 (dk_at dksX5_cheapest_3 0 rfl rfl)
theorem dX5_cheapest_73 : decode cX5_cheapest 73 = .ok (.goto (-67), 3) := dk_167 255 189 (dk_at dksX5_cheapest_3 3 rfl rfl)
theorem dX5_cheapest_76 : decode cX5_cheapest 76 = .ok (.iload_n 3, 1) := dk_29 (dk_at dksX5_cheapest_3 6 rfl rfl)
theorem dX5_cheapest_77 : decode cX5_cheapest 77 = .ok (.ireturn, 1) := dk_172 (dk_at dksX5_cheapest_3 7 rfl rfl)
abbrev cX5_wider : ByteArray := prog_17_method_67_code
def yX5_wider : MethodName := ⟨RX5, "wider", "(II)J"⟩
def dkwX5_wider_3 : List UInt8 := [66, 42, 182, 1, 39, 33, 173]
abbrev dktX5_wider_3 : List UInt8 := dkwX5_wider_3 ++ []
def dkwX5_wider_2 : List UInt8 := [42, 182, 1, 22, 153, 0, 17, 42, 180, 1, 29, 42, 180, 1, 4, 184, 1, 35, 167, 0, 6, 20, 0, 169]
abbrev dktX5_wider_2 : List UInt8 := dkwX5_wider_2 ++ dktX5_wider_3
def dkwX5_wider_1 : List UInt8 := [154, 0, 7, 20, 0, 169, 173, 42, 180, 0, 9, 16, 10, 7, 27, 104, 96, 6, 96, 92, 46, 28, 96, 79]
abbrev dktX5_wider_1 : List UInt8 := dkwX5_wider_1 ++ dktX5_wider_2
def dkwX5_wider_0 : List UInt8 := [42, 27, 182, 0, 149, 153, 0, 22, 28, 133, 10, 20, 0, 131, 184, 0, 99, 153, 0, 10, 42, 182, 1, 32]
abbrev dktX5_wider_0 : List UInt8 := dkwX5_wider_0 ++ dktX5_wider_1
theorem dksX5_wider_0 : cX5_wider.data.toList.drop 0 = dktX5_wider_0 := by decide +kernel
theorem dksX5_wider_1 : cX5_wider.data.toList.drop 24 = dktX5_wider_1 := dk_seg dksX5_wider_0 24 rfl rfl
theorem dksX5_wider_2 : cX5_wider.data.toList.drop 48 = dktX5_wider_2 := dk_seg dksX5_wider_1 24 rfl rfl
theorem dksX5_wider_3 : cX5_wider.data.toList.drop 72 = dktX5_wider_3 := dk_seg dksX5_wider_2 24 rfl rfl
theorem dX5_wider_0 : decode cX5_wider 0 = .ok (.aload_n 0, 1) := dk_42 (dk_at dksX5_wider_0 0 rfl rfl)
theorem dX5_wider_1 : decode cX5_wider 1 = .ok (.iload_n 1, 1) := dk_27 (dk_at dksX5_wider_0 1 rfl rfl)
theorem dX5_wider_2 : decode cX5_wider 2 = .ok (.invokevirtual 149, 3) := dk_182 0 149 (dk_at dksX5_wider_0 2 rfl rfl)
theorem dX5_wider_5 : decode cX5_wider 5 = .ok (.ifCond .eq 22, 3) := dk_153 0 22 (dk_at dksX5_wider_0 5 rfl rfl)
theorem dX5_wider_8 : decode cX5_wider 8 = .ok (.iload_n 2, 1) := dk_28 (dk_at dksX5_wider_0 8 rfl rfl)
theorem dX5_wider_9 : decode cX5_wider 9 = .ok (.i2l, 1) := dk_133 (dk_at dksX5_wider_0 9 rfl rfl)
theorem dX5_wider_10 : decode cX5_wider 10 = .ok (.lconst 1, 1) := dk_10 (dk_at dksX5_wider_0 10 rfl rfl)
theorem dX5_wider_11 : decode cX5_wider 11 = .ok (.ldc2_w 131, 3) := dk_20 0 131 (dk_at dksX5_wider_0 11 rfl rfl)
theorem dX5_wider_14 : decode cX5_wider 14 = .ok (.invokestatic 99, 3) := dk_184 0 99 (dk_at dksX5_wider_0 14 rfl rfl)
theorem dX5_wider_17 : decode cX5_wider 17 = .ok (.ifCond .eq 10, 3) := dk_153 0 10 (dk_at dksX5_wider_0 17 rfl rfl)
theorem dX5_wider_20 : decode cX5_wider 20 = .ok (.aload_n 0, 1) := dk_42 (dk_at dksX5_wider_0 20 rfl rfl)
theorem dX5_wider_21 : decode cX5_wider 21 = .ok (.invokevirtual 288, 3) := dk_182 1 32 (dk_at dksX5_wider_0 21 rfl rfl)
theorem dX5_wider_24 : decode cX5_wider 24 = .ok (.ifCond .ne 7, 3) := dk_154 0 7 (dk_at dksX5_wider_1 0 rfl rfl)
theorem dX5_wider_27 : decode cX5_wider 27 = .ok (.ldc2_w 169, 3) := dk_20 0 169 (dk_at dksX5_wider_1 3 rfl rfl)
theorem dX5_wider_30 : decode cX5_wider 30 = .ok (.lreturn, 1) := dk_173 (dk_at dksX5_wider_1 6 rfl rfl)
theorem dX5_wider_31 : decode cX5_wider 31 = .ok (.aload_n 0, 1) := dk_42 (dk_at dksX5_wider_1 7 rfl rfl)
theorem dX5_wider_32 : decode cX5_wider 32 = .ok (.getfield 9, 3) := dk_180 0 9 (dk_at dksX5_wider_1 8 rfl rfl)
theorem dX5_wider_35 : decode cX5_wider 35 = .ok (.bipush 10, 2) := dk_16 10 (dk_at dksX5_wider_1 11 rfl rfl)
theorem dX5_wider_37 : decode cX5_wider 37 = .ok (.iconst 4, 1) := dk_7 (dk_at dksX5_wider_1 13 rfl rfl)
theorem dX5_wider_38 : decode cX5_wider 38 = .ok (.iload_n 1, 1) := dk_27 (dk_at dksX5_wider_1 14 rfl rfl)
theorem dX5_wider_39 : decode cX5_wider 39 = .ok (.imul, 1) := dk_104 (dk_at dksX5_wider_1 15 rfl rfl)
theorem dX5_wider_40 : decode cX5_wider 40 = .ok (.iadd, 1) := dk_96 (dk_at dksX5_wider_1 16 rfl rfl)
theorem dX5_wider_41 : decode cX5_wider 41 = .ok (.iconst 3, 1) := dk_6 (dk_at dksX5_wider_1 17 rfl rfl)
theorem dX5_wider_42 : decode cX5_wider 42 = .ok (.iadd, 1) := dk_96 (dk_at dksX5_wider_1 18 rfl rfl)
theorem dX5_wider_43 : decode cX5_wider 43 = .ok (.dup2, 1) := dk_92 (dk_at dksX5_wider_1 19 rfl rfl)
theorem dX5_wider_44 : decode cX5_wider 44 = .ok (.iaload, 1) := dk_46 (dk_at dksX5_wider_1 20 rfl rfl)
theorem dX5_wider_45 : decode cX5_wider 45 = .ok (.iload_n 2, 1) := dk_28 (dk_at dksX5_wider_1 21 rfl rfl)
theorem dX5_wider_46 : decode cX5_wider 46 = .ok (.iadd, 1) := dk_96 (dk_at dksX5_wider_1 22 rfl rfl)
theorem dX5_wider_47 : decode cX5_wider 47 = .ok (.iastore, 1) := dk_79 (dk_at dksX5_wider_1 23 rfl rfl)
theorem dX5_wider_48 : decode cX5_wider 48 = .ok (.aload_n 0, 1) := dk_42 (dk_at dksX5_wider_2 0 rfl rfl)
theorem dX5_wider_49 : decode cX5_wider 49 = .ok (.invokevirtual 278, 3) := dk_182 1 22 (dk_at dksX5_wider_2 1 rfl rfl)
theorem dX5_wider_52 : decode cX5_wider 52 = .ok (.ifCond .eq 17, 3) := dk_153 0 17 (dk_at dksX5_wider_2 4 rfl rfl)
theorem dX5_wider_55 : decode cX5_wider 55 = .ok (.aload_n 0, 1) := dk_42 (dk_at dksX5_wider_2 7 rfl rfl)
theorem dX5_wider_56 : decode cX5_wider 56 = .ok (.getfield 285, 3) := dk_180 1 29 (dk_at dksX5_wider_2 8 rfl rfl)
theorem dX5_wider_59 : decode cX5_wider 59 = .ok (.aload_n 0, 1) := dk_42 (dk_at dksX5_wider_2 11 rfl rfl)
theorem dX5_wider_60 : decode cX5_wider 60 = .ok (.getfield 260, 3) := dk_180 1 4 (dk_at dksX5_wider_2 12 rfl rfl)
theorem dX5_wider_63 : decode cX5_wider 63 = .ok (.invokestatic 291, 3) := dk_184 1 35 (dk_at dksX5_wider_2 15 rfl rfl)
theorem dX5_wider_66 : decode cX5_wider 66 = .ok (.goto 6, 3) := dk_167 0 6 (dk_at dksX5_wider_2 18 rfl rfl)
theorem dX5_wider_69 : decode cX5_wider 69 = .ok (.ldc2_w 169, 3) := dk_20 0 169 (dk_at dksX5_wider_2 21 rfl rfl)
theorem dX5_wider_72 : decode cX5_wider 72 = .ok (.lstore_n 3, 1) := dk_66 (dk_at dksX5_wider_3 0 rfl rfl)
theorem dX5_wider_73 : decode cX5_wider 73 = .ok (.aload_n 0, 1) := dk_42 (dk_at dksX5_wider_3 1 rfl rfl)
theorem dX5_wider_74 : decode cX5_wider 74 = .ok (.invokevirtual 295, 3) := dk_182 1 39 (dk_at dksX5_wider_3 2 rfl rfl)
theorem dX5_wider_77 : decode cX5_wider 77 = .ok (.lload_n 3, 1) := dk_33 (dk_at dksX5_wider_3 5 rfl rfl)
theorem dX5_wider_78 : decode cX5_wider 78 = .ok (.lreturn, 1) := dk_173 (dk_at dksX5_wider_3 6 rfl rfl)
abbrev cX5_thinks : ByteArray := prog_17_method_64_code
def yX5_thinks : MethodName := ⟨RX5, "thinks", "()Z"⟩
def dkwX5_thinks_1 : List UInt8 := [184, 0, 114, 42, 180, 0, 15, 3, 42, 180, 0, 71, 3, 184, 0, 118, 27, 172]
abbrev dktX5_thinks_1 : List UInt8 := dkwX5_thinks_1 ++ []
def dkwX5_thinks_0 : List UInt8 := [42, 182, 1, 22, 60, 42, 42, 180, 1, 4, 181, 1, 29, 42, 180, 0, 9, 3, 42, 180, 0, 68, 3]
abbrev dktX5_thinks_0 : List UInt8 := dkwX5_thinks_0 ++ dktX5_thinks_1
theorem dksX5_thinks_0 : cX5_thinks.data.toList.drop 0 = dktX5_thinks_0 := by decide +kernel
theorem dksX5_thinks_1 : cX5_thinks.data.toList.drop 23 = dktX5_thinks_1 := dk_seg dksX5_thinks_0 23 rfl rfl
theorem dX5_thinks_0 : decode cX5_thinks 0 = .ok (.aload_n 0, 1) := dk_42 (dk_at dksX5_thinks_0 0 rfl rfl)
theorem dX5_thinks_1 : decode cX5_thinks 1 = .ok (.invokevirtual 278, 3) := dk_182 1 22 (dk_at dksX5_thinks_0 1 rfl rfl)
theorem dX5_thinks_4 : decode cX5_thinks 4 = .ok (.istore_n 1, 1) := dk_60 (dk_at dksX5_thinks_0 4 rfl rfl)
theorem dX5_thinks_5 : decode cX5_thinks 5 = .ok (.aload_n 0, 1) := dk_42 (dk_at dksX5_thinks_0 5 rfl rfl)
theorem dX5_thinks_6 : decode cX5_thinks 6 = .ok (.aload_n 0, 1) := dk_42 (dk_at dksX5_thinks_0 6 rfl rfl)
theorem dX5_thinks_7 : decode cX5_thinks 7 = .ok (.getfield 260, 3) := dk_180 1 4 (dk_at dksX5_thinks_0 7 rfl rfl)
theorem dX5_thinks_10 : decode cX5_thinks 10 = .ok (.putfield 285, 3) := dk_181 1 29 (dk_at dksX5_thinks_0 10 rfl rfl)
theorem dX5_thinks_13 : decode cX5_thinks 13 = .ok (.aload_n 0, 1) := dk_42 (dk_at dksX5_thinks_0 13 rfl rfl)
theorem dX5_thinks_14 : decode cX5_thinks 14 = .ok (.getfield 9, 3) := dk_180 0 9 (dk_at dksX5_thinks_0 14 rfl rfl)
theorem dX5_thinks_17 : decode cX5_thinks 17 = .ok (.iconst 0, 1) := dk_3 (dk_at dksX5_thinks_0 17 rfl rfl)
theorem dX5_thinks_18 : decode cX5_thinks 18 = .ok (.aload_n 0, 1) := dk_42 (dk_at dksX5_thinks_0 18 rfl rfl)
theorem dX5_thinks_19 : decode cX5_thinks 19 = .ok (.getfield 68, 3) := dk_180 0 68 (dk_at dksX5_thinks_0 19 rfl rfl)
theorem dX5_thinks_22 : decode cX5_thinks 22 = .ok (.iconst 0, 1) := dk_3 (dk_at dksX5_thinks_0 22 rfl rfl)
theorem dX5_thinks_23 : decode cX5_thinks 23 = .ok (.invokestatic 114, 3) := dk_184 0 114 (dk_at dksX5_thinks_1 0 rfl rfl)
theorem dX5_thinks_26 : decode cX5_thinks 26 = .ok (.aload_n 0, 1) := dk_42 (dk_at dksX5_thinks_1 3 rfl rfl)
theorem dX5_thinks_27 : decode cX5_thinks 27 = .ok (.getfield 15, 3) := dk_180 0 15 (dk_at dksX5_thinks_1 4 rfl rfl)
theorem dX5_thinks_30 : decode cX5_thinks 30 = .ok (.iconst 0, 1) := dk_3 (dk_at dksX5_thinks_1 7 rfl rfl)
theorem dX5_thinks_31 : decode cX5_thinks 31 = .ok (.aload_n 0, 1) := dk_42 (dk_at dksX5_thinks_1 8 rfl rfl)
theorem dX5_thinks_32 : decode cX5_thinks 32 = .ok (.getfield 71, 3) := dk_180 0 71 (dk_at dksX5_thinks_1 9 rfl rfl)
theorem dX5_thinks_35 : decode cX5_thinks 35 = .ok (.iconst 0, 1) := dk_3 (dk_at dksX5_thinks_1 12 rfl rfl)
theorem dX5_thinks_36 : decode cX5_thinks 36 = .ok (.invokestatic 118, 3) := dk_184 0 118 (dk_at dksX5_thinks_1 13 rfl rfl)
theorem dX5_thinks_39 : decode cX5_thinks 39 = .ok (.iload_n 1, 1) := dk_27 (dk_at dksX5_thinks_1 16 rfl rfl)
theorem dX5_thinks_40 : decode cX5_thinks 40 = .ok (.ireturn, 1) := dk_172 (dk_at dksX5_thinks_1 17 rfl rfl)
abbrev cX5_more : ByteArray := prog_17_method_66_code
def yX5_more : MethodName := ⟨RX5, "more", "(JJ)J"⟩
def dkwX5_more_2 : List UInt8 := [156, 0, 7, 4, 167, 0, 4, 3, 159, 0, 9, 20, 0, 169, 167, 0, 5, 22, 4, 173]
abbrev dktX5_more_2 : List UInt8 := dkwX5_more_2 ++ []
def dkwX5_more_1 : List UInt8 := [167, 0, 4, 3, 159, 0, 35, 22, 4, 9, 148, 156, 0, 7, 4, 167, 0, 4, 3, 30, 9, 148]
abbrev dktX5_more_1 : List UInt8 := dkwX5_more_1 ++ dktX5_more_2
def dkwX5_more_0 : List UInt8 := [30, 32, 101, 55, 4, 30, 9, 148, 156, 0, 7, 4, 167, 0, 4, 3, 32, 9, 148, 156, 0, 7, 4]
abbrev dktX5_more_0 : List UInt8 := dkwX5_more_0 ++ dktX5_more_1
theorem dksX5_more_0 : cX5_more.data.toList.drop 0 = dktX5_more_0 := by decide +kernel
theorem dksX5_more_1 : cX5_more.data.toList.drop 23 = dktX5_more_1 := dk_seg dksX5_more_0 23 rfl rfl
theorem dksX5_more_2 : cX5_more.data.toList.drop 45 = dktX5_more_2 := dk_seg dksX5_more_1 22 rfl rfl
theorem dX5_more_0 : decode cX5_more 0 = .ok (.lload_n 0, 1) := dk_30 (dk_at dksX5_more_0 0 rfl rfl)
theorem dX5_more_1 : decode cX5_more 1 = .ok (.lload_n 2, 1) := dk_32 (dk_at dksX5_more_0 1 rfl rfl)
theorem dX5_more_2 : decode cX5_more 2 = .ok (.lsub, 1) := dk_101 (dk_at dksX5_more_0 2 rfl rfl)
theorem dX5_more_3 : decode cX5_more 3 = .ok (.lstore 4, 2) := dk_55 4 (dk_at dksX5_more_0 3 rfl rfl)
theorem dX5_more_5 : decode cX5_more 5 = .ok (.lload_n 0, 1) := dk_30 (dk_at dksX5_more_0 5 rfl rfl)
theorem dX5_more_6 : decode cX5_more 6 = .ok (.lconst 0, 1) := dk_9 (dk_at dksX5_more_0 6 rfl rfl)
theorem dX5_more_7 : decode cX5_more 7 = .ok (.lcmp, 1) := dk_148 (dk_at dksX5_more_0 7 rfl rfl)
theorem dX5_more_8 : decode cX5_more 8 = .ok (.ifCond .ge 7, 3) := dk_156 0 7 (dk_at dksX5_more_0 8 rfl rfl)
theorem dX5_more_11 : decode cX5_more 11 = .ok (.iconst 1, 1) := dk_4 (dk_at dksX5_more_0 11 rfl rfl)
theorem dX5_more_12 : decode cX5_more 12 = .ok (.goto 4, 3) := dk_167 0 4 (dk_at dksX5_more_0 12 rfl rfl)
theorem dX5_more_15 : decode cX5_more 15 = .ok (.iconst 0, 1) := dk_3 (dk_at dksX5_more_0 15 rfl rfl)
theorem dX5_more_16 : decode cX5_more 16 = .ok (.lload_n 2, 1) := dk_32 (dk_at dksX5_more_0 16 rfl rfl)
theorem dX5_more_17 : decode cX5_more 17 = .ok (.lconst 0, 1) := dk_9 (dk_at dksX5_more_0 17 rfl rfl)
theorem dX5_more_18 : decode cX5_more 18 = .ok (.lcmp, 1) := dk_148 (dk_at dksX5_more_0 18 rfl rfl)
theorem dX5_more_19 : decode cX5_more 19 = .ok (.ifCond .ge 7, 3) := dk_156 0 7 (dk_at dksX5_more_0 19 rfl rfl)
theorem dX5_more_22 : decode cX5_more 22 = .ok (.iconst 1, 1) := dk_4 (dk_at dksX5_more_0 22 rfl rfl)
theorem dX5_more_23 : decode cX5_more 23 = .ok (.goto 4, 3) := dk_167 0 4 (dk_at dksX5_more_1 0 rfl rfl)
theorem dX5_more_26 : decode cX5_more 26 = .ok (.iconst 0, 1) := dk_3 (dk_at dksX5_more_1 3 rfl rfl)
theorem dX5_more_27 : decode cX5_more 27 = .ok (.if_icmp .eq 35, 3) := dk_159 0 35 (dk_at dksX5_more_1 4 rfl rfl)
theorem dX5_more_30 : decode cX5_more 30 = .ok (.lload 4, 2) := dk_22 4 (dk_at dksX5_more_1 7 rfl rfl)
theorem dX5_more_32 : decode cX5_more 32 = .ok (.lconst 0, 1) := dk_9 (dk_at dksX5_more_1 9 rfl rfl)
theorem dX5_more_33 : decode cX5_more 33 = .ok (.lcmp, 1) := dk_148 (dk_at dksX5_more_1 10 rfl rfl)
theorem dX5_more_34 : decode cX5_more 34 = .ok (.ifCond .ge 7, 3) := dk_156 0 7 (dk_at dksX5_more_1 11 rfl rfl)
theorem dX5_more_37 : decode cX5_more 37 = .ok (.iconst 1, 1) := dk_4 (dk_at dksX5_more_1 14 rfl rfl)
theorem dX5_more_38 : decode cX5_more 38 = .ok (.goto 4, 3) := dk_167 0 4 (dk_at dksX5_more_1 15 rfl rfl)
theorem dX5_more_41 : decode cX5_more 41 = .ok (.iconst 0, 1) := dk_3 (dk_at dksX5_more_1 18 rfl rfl)
theorem dX5_more_42 : decode cX5_more 42 = .ok (.lload_n 0, 1) := dk_30 (dk_at dksX5_more_1 19 rfl rfl)
theorem dX5_more_43 : decode cX5_more 43 = .ok (.lconst 0, 1) := dk_9 (dk_at dksX5_more_1 20 rfl rfl)
theorem dX5_more_44 : decode cX5_more 44 = .ok (.lcmp, 1) := dk_148 (dk_at dksX5_more_1 21 rfl rfl)
theorem dX5_more_45 : decode cX5_more 45 = .ok (.ifCond .ge 7, 3) := dk_156 0 7 (dk_at dksX5_more_2 0 rfl rfl)
theorem dX5_more_48 : decode cX5_more 48 = .ok (.iconst 1, 1) := dk_4 (dk_at dksX5_more_2 3 rfl rfl)
theorem dX5_more_49 : decode cX5_more 49 = .ok (.goto 4, 3) := dk_167 0 4 (dk_at dksX5_more_2 4 rfl rfl)
theorem dX5_more_52 : decode cX5_more 52 = .ok (.iconst 0, 1) := dk_3 (dk_at dksX5_more_2 7 rfl rfl)
theorem dX5_more_53 : decode cX5_more 53 = .ok (.if_icmp .eq 9, 3) := dk_159 0 9 (dk_at dksX5_more_2 8 rfl rfl)
theorem dX5_more_56 : decode cX5_more 56 = .ok (.ldc2_w 169, 3) := dk_20 0 169 (dk_at dksX5_more_2 11 rfl rfl)
theorem dX5_more_59 : decode cX5_more 59 = .ok (.goto 5, 3) := dk_167 0 5 (dk_at dksX5_more_2 14 rfl rfl)
theorem dX5_more_62 : decode cX5_more 62 = .ok (.lload 4, 2) := dk_22 4 (dk_at dksX5_more_2 17 rfl rfl)
theorem dX5_more_64 : decode cX5_more 64 = .ok (.lreturn, 1) := dk_173 (dk_at dksX5_more_2 19 rfl rfl)
abbrev cX5_thinksNoMore : ByteArray := prog_17_method_65_code
def yX5_thinksNoMore : MethodName := ⟨RX5, "thinksNoMore", "()V"⟩
def dkwX5_thinksNoMore_1 : List UInt8 := [184, 0, 118, 177]
abbrev dktX5_thinksNoMore_1 : List UInt8 := dkwX5_thinksNoMore_1 ++ []
def dkwX5_thinksNoMore_0 : List UInt8 := [42, 180, 0, 68, 3, 42, 180, 0, 9, 3, 184, 0, 114, 42, 180, 0, 71, 3, 42, 180, 0, 15, 3]
abbrev dktX5_thinksNoMore_0 : List UInt8 := dkwX5_thinksNoMore_0 ++ dktX5_thinksNoMore_1
theorem dksX5_thinksNoMore_0 : cX5_thinksNoMore.data.toList.drop 0 = dktX5_thinksNoMore_0 := by decide +kernel
theorem dksX5_thinksNoMore_1 : cX5_thinksNoMore.data.toList.drop 23 = dktX5_thinksNoMore_1 := dk_seg dksX5_thinksNoMore_0 23 rfl rfl
theorem dX5_thinksNoMore_0 : decode cX5_thinksNoMore 0 = .ok (.aload_n 0, 1) := dk_42 (dk_at dksX5_thinksNoMore_0 0 rfl rfl)
theorem dX5_thinksNoMore_1 : decode cX5_thinksNoMore 1 = .ok (.getfield 68, 3) := dk_180 0 68 (dk_at dksX5_thinksNoMore_0 1 rfl rfl)
theorem dX5_thinksNoMore_4 : decode cX5_thinksNoMore 4 = .ok (.iconst 0, 1) := dk_3 (dk_at dksX5_thinksNoMore_0 4 rfl rfl)
theorem dX5_thinksNoMore_5 : decode cX5_thinksNoMore 5 = .ok (.aload_n 0, 1) := dk_42 (dk_at dksX5_thinksNoMore_0 5 rfl rfl)
theorem dX5_thinksNoMore_6 : decode cX5_thinksNoMore 6 = .ok (.getfield 9, 3) := dk_180 0 9 (dk_at dksX5_thinksNoMore_0 6 rfl rfl)
theorem dX5_thinksNoMore_9 : decode cX5_thinksNoMore 9 = .ok (.iconst 0, 1) := dk_3 (dk_at dksX5_thinksNoMore_0 9 rfl rfl)
theorem dX5_thinksNoMore_10 : decode cX5_thinksNoMore 10 = .ok (.invokestatic 114, 3) := dk_184 0 114 (dk_at dksX5_thinksNoMore_0 10 rfl rfl)
theorem dX5_thinksNoMore_13 : decode cX5_thinksNoMore 13 = .ok (.aload_n 0, 1) := dk_42 (dk_at dksX5_thinksNoMore_0 13 rfl rfl)
theorem dX5_thinksNoMore_14 : decode cX5_thinksNoMore 14 = .ok (.getfield 71, 3) := dk_180 0 71 (dk_at dksX5_thinksNoMore_0 14 rfl rfl)
theorem dX5_thinksNoMore_17 : decode cX5_thinksNoMore 17 = .ok (.iconst 0, 1) := dk_3 (dk_at dksX5_thinksNoMore_0 17 rfl rfl)
theorem dX5_thinksNoMore_18 : decode cX5_thinksNoMore 18 = .ok (.aload_n 0, 1) := dk_42 (dk_at dksX5_thinksNoMore_0 18 rfl rfl)
theorem dX5_thinksNoMore_19 : decode cX5_thinksNoMore 19 = .ok (.getfield 15, 3) := dk_180 0 15 (dk_at dksX5_thinksNoMore_0 19 rfl rfl)
theorem dX5_thinksNoMore_22 : decode cX5_thinksNoMore 22 = .ok (.iconst 0, 1) := dk_3 (dk_at dksX5_thinksNoMore_0 22 rfl rfl)
theorem dX5_thinksNoMore_23 : decode cX5_thinksNoMore 23 = .ok (.invokestatic 118, 3) := dk_184 0 118 (dk_at dksX5_thinksNoMore_1 0 rfl rfl)
theorem dX5_thinksNoMore_26 : decode cX5_thinksNoMore 26 = .ok (.return_, 1) := dk_177 (dk_at dksX5_thinksNoMore_1 3 rfl rfl)
abbrev cX5_without : ByteArray := prog_17_method_68_code
def yX5_without : MethodName := ⟨RX5, "without", "(I)J"⟩
def dkwX5_without_2 : List UInt8 := [65, 42, 182, 1, 39, 32, 173]
abbrev dktX5_without_2 : List UInt8 := dkwX5_without_2 ++ []
def dkwX5_without_1 : List UInt8 := [42, 182, 1, 22, 153, 0, 17, 42, 180, 1, 4, 42, 180, 1, 29, 184, 1, 35, 167, 0, 6, 20, 0, 169]
abbrev dktX5_without_1 : List UInt8 := dkwX5_without_1 ++ dktX5_without_2
def dkwX5_without_0 : List UInt8 := [42, 27, 182, 0, 149, 153, 0, 10, 42, 182, 1, 32, 154, 0, 7, 20, 0, 169, 173, 42, 27, 182, 0, 165]
abbrev dktX5_without_0 : List UInt8 := dkwX5_without_0 ++ dktX5_without_1
theorem dksX5_without_0 : cX5_without.data.toList.drop 0 = dktX5_without_0 := by decide +kernel
theorem dksX5_without_1 : cX5_without.data.toList.drop 24 = dktX5_without_1 := dk_seg dksX5_without_0 24 rfl rfl
theorem dksX5_without_2 : cX5_without.data.toList.drop 48 = dktX5_without_2 := dk_seg dksX5_without_1 24 rfl rfl
theorem dX5_without_0 : decode cX5_without 0 = .ok (.aload_n 0, 1) := dk_42 (dk_at dksX5_without_0 0 rfl rfl)
theorem dX5_without_1 : decode cX5_without 1 = .ok (.iload_n 1, 1) := dk_27 (dk_at dksX5_without_0 1 rfl rfl)
theorem dX5_without_2 : decode cX5_without 2 = .ok (.invokevirtual 149, 3) := dk_182 0 149 (dk_at dksX5_without_0 2 rfl rfl)
theorem dX5_without_5 : decode cX5_without 5 = .ok (.ifCond .eq 10, 3) := dk_153 0 10 (dk_at dksX5_without_0 5 rfl rfl)
theorem dX5_without_8 : decode cX5_without 8 = .ok (.aload_n 0, 1) := dk_42 (dk_at dksX5_without_0 8 rfl rfl)
theorem dX5_without_9 : decode cX5_without 9 = .ok (.invokevirtual 288, 3) := dk_182 1 32 (dk_at dksX5_without_0 9 rfl rfl)
theorem dX5_without_12 : decode cX5_without 12 = .ok (.ifCond .ne 7, 3) := dk_154 0 7 (dk_at dksX5_without_0 12 rfl rfl)
theorem dX5_without_15 : decode cX5_without 15 = .ok (.ldc2_w 169, 3) := dk_20 0 169 (dk_at dksX5_without_0 15 rfl rfl)
theorem dX5_without_18 : decode cX5_without 18 = .ok (.lreturn, 1) := dk_173 (dk_at dksX5_without_0 18 rfl rfl)
theorem dX5_without_19 : decode cX5_without 19 = .ok (.aload_n 0, 1) := dk_42 (dk_at dksX5_without_0 19 rfl rfl)
theorem dX5_without_20 : decode cX5_without 20 = .ok (.iload_n 1, 1) := dk_27 (dk_at dksX5_without_0 20 rfl rfl)
theorem dX5_without_21 : decode cX5_without 21 = .ok (.invokevirtual 165, 3) := dk_182 0 165 (dk_at dksX5_without_0 21 rfl rfl)
theorem dX5_without_24 : decode cX5_without 24 = .ok (.aload_n 0, 1) := dk_42 (dk_at dksX5_without_1 0 rfl rfl)
theorem dX5_without_25 : decode cX5_without 25 = .ok (.invokevirtual 278, 3) := dk_182 1 22 (dk_at dksX5_without_1 1 rfl rfl)
theorem dX5_without_28 : decode cX5_without 28 = .ok (.ifCond .eq 17, 3) := dk_153 0 17 (dk_at dksX5_without_1 4 rfl rfl)
theorem dX5_without_31 : decode cX5_without 31 = .ok (.aload_n 0, 1) := dk_42 (dk_at dksX5_without_1 7 rfl rfl)
theorem dX5_without_32 : decode cX5_without 32 = .ok (.getfield 260, 3) := dk_180 1 4 (dk_at dksX5_without_1 8 rfl rfl)
theorem dX5_without_35 : decode cX5_without 35 = .ok (.aload_n 0, 1) := dk_42 (dk_at dksX5_without_1 11 rfl rfl)
theorem dX5_without_36 : decode cX5_without 36 = .ok (.getfield 285, 3) := dk_180 1 29 (dk_at dksX5_without_1 12 rfl rfl)
theorem dX5_without_39 : decode cX5_without 39 = .ok (.invokestatic 291, 3) := dk_184 1 35 (dk_at dksX5_without_1 15 rfl rfl)
theorem dX5_without_42 : decode cX5_without 42 = .ok (.goto 6, 3) := dk_167 0 6 (dk_at dksX5_without_1 18 rfl rfl)
theorem dX5_without_45 : decode cX5_without 45 = .ok (.ldc2_w 169, 3) := dk_20 0 169 (dk_at dksX5_without_1 21 rfl rfl)
theorem dX5_without_48 : decode cX5_without 48 = .ok (.lstore_n 2, 1) := dk_65 (dk_at dksX5_without_2 0 rfl rfl)
theorem dX5_without_49 : decode cX5_without 49 = .ok (.aload_n 0, 1) := dk_42 (dk_at dksX5_without_2 1 rfl rfl)
theorem dX5_without_50 : decode cX5_without 50 = .ok (.invokevirtual 295, 3) := dk_182 1 39 (dk_at dksX5_without_2 2 rfl rfl)
theorem dX5_without_53 : decode cX5_without 53 = .ok (.lload_n 2, 1) := dk_32 (dk_at dksX5_without_2 5 rfl rfl)
theorem dX5_without_54 : decode cX5_without 54 = .ok (.lreturn, 1) := dk_173 (dk_at dksX5_without_2 6 rfl rfl)
abbrev cX5_adding : ByteArray := prog_17_method_69_code
def yX5_adding : MethodName := ⟨RX5, "adding", "(IIIJ)J"⟩
def dkwX5_adding_3 : List UInt8 := [167, 0, 6, 20, 0, 169, 55, 6, 42, 182, 1, 39, 22, 6, 173]
abbrev dktX5_adding_3 : List UInt8 := dkwX5_adding_3 ++ []
def dkwX5_adding_2 : List UInt8 := [22, 4, 182, 0, 145, 42, 182, 1, 22, 153, 0, 17, 42, 180, 1, 29, 42, 180, 1, 4, 184, 1, 35]
abbrev dktX5_adding_2 : List UInt8 := dkwX5_adding_2 ++ dktX5_adding_3
def dkwX5_adding_1 : List UInt8 := [154, 0, 7, 20, 0, 169, 173, 42, 42, 180, 0, 9, 4, 92, 46, 91, 4, 96, 79, 27, 28, 3, 29]
abbrev dktX5_adding_1 : List UInt8 := dkwX5_adding_1 ++ dktX5_adding_2
def dkwX5_adding_0 : List UInt8 := [42, 27, 28, 182, 0, 137, 153, 0, 20, 3, 29, 22, 4, 184, 0, 141, 153, 0, 10, 42, 182, 1, 32]
abbrev dktX5_adding_0 : List UInt8 := dkwX5_adding_0 ++ dktX5_adding_1
theorem dksX5_adding_0 : cX5_adding.data.toList.drop 0 = dktX5_adding_0 := by decide +kernel
theorem dksX5_adding_1 : cX5_adding.data.toList.drop 23 = dktX5_adding_1 := dk_seg dksX5_adding_0 23 rfl rfl
theorem dksX5_adding_2 : cX5_adding.data.toList.drop 46 = dktX5_adding_2 := dk_seg dksX5_adding_1 23 rfl rfl
theorem dksX5_adding_3 : cX5_adding.data.toList.drop 69 = dktX5_adding_3 := dk_seg dksX5_adding_2 23 rfl rfl
theorem dX5_adding_0 : decode cX5_adding 0 = .ok (.aload_n 0, 1) := dk_42 (dk_at dksX5_adding_0 0 rfl rfl)
theorem dX5_adding_1 : decode cX5_adding 1 = .ok (.iload_n 1, 1) := dk_27 (dk_at dksX5_adding_0 1 rfl rfl)
theorem dX5_adding_2 : decode cX5_adding 2 = .ok (.iload_n 2, 1) := dk_28 (dk_at dksX5_adding_0 2 rfl rfl)
theorem dX5_adding_3 : decode cX5_adding 3 = .ok (.invokevirtual 137, 3) := dk_182 0 137 (dk_at dksX5_adding_0 3 rfl rfl)
theorem dX5_adding_6 : decode cX5_adding 6 = .ok (.ifCond .eq 20, 3) := dk_153 0 20 (dk_at dksX5_adding_0 6 rfl rfl)
theorem dX5_adding_9 : decode cX5_adding 9 = .ok (.iconst 0, 1) := dk_3 (dk_at dksX5_adding_0 9 rfl rfl)
theorem dX5_adding_10 : decode cX5_adding 10 = .ok (.iload_n 3, 1) := dk_29 (dk_at dksX5_adding_0 10 rfl rfl)
theorem dX5_adding_11 : decode cX5_adding 11 = .ok (.lload 4, 2) := dk_22 4 (dk_at dksX5_adding_0 11 rfl rfl)
theorem dX5_adding_13 : decode cX5_adding 13 = .ok (.invokestatic 141, 3) := dk_184 0 141 (dk_at dksX5_adding_0 13 rfl rfl)
theorem dX5_adding_16 : decode cX5_adding 16 = .ok (.ifCond .eq 10, 3) := dk_153 0 10 (dk_at dksX5_adding_0 16 rfl rfl)
theorem dX5_adding_19 : decode cX5_adding 19 = .ok (.aload_n 0, 1) := dk_42 (dk_at dksX5_adding_0 19 rfl rfl)
theorem dX5_adding_20 : decode cX5_adding 20 = .ok (.invokevirtual 288, 3) := dk_182 1 32 (dk_at dksX5_adding_0 20 rfl rfl)
theorem dX5_adding_23 : decode cX5_adding 23 = .ok (.ifCond .ne 7, 3) := dk_154 0 7 (dk_at dksX5_adding_1 0 rfl rfl)
theorem dX5_adding_26 : decode cX5_adding 26 = .ok (.ldc2_w 169, 3) := dk_20 0 169 (dk_at dksX5_adding_1 3 rfl rfl)
theorem dX5_adding_29 : decode cX5_adding 29 = .ok (.lreturn, 1) := dk_173 (dk_at dksX5_adding_1 6 rfl rfl)
theorem dX5_adding_30 : decode cX5_adding 30 = .ok (.aload_n 0, 1) := dk_42 (dk_at dksX5_adding_1 7 rfl rfl)
theorem dX5_adding_31 : decode cX5_adding 31 = .ok (.aload_n 0, 1) := dk_42 (dk_at dksX5_adding_1 8 rfl rfl)
theorem dX5_adding_32 : decode cX5_adding 32 = .ok (.getfield 9, 3) := dk_180 0 9 (dk_at dksX5_adding_1 9 rfl rfl)
theorem dX5_adding_35 : decode cX5_adding 35 = .ok (.iconst 1, 1) := dk_4 (dk_at dksX5_adding_1 12 rfl rfl)
theorem dX5_adding_36 : decode cX5_adding 36 = .ok (.dup2, 1) := dk_92 (dk_at dksX5_adding_1 13 rfl rfl)
theorem dX5_adding_37 : decode cX5_adding 37 = .ok (.iaload, 1) := dk_46 (dk_at dksX5_adding_1 14 rfl rfl)
theorem dX5_adding_38 : decode cX5_adding 38 = .ok (.dup_x2, 1) := dk_91 (dk_at dksX5_adding_1 15 rfl rfl)
theorem dX5_adding_39 : decode cX5_adding 39 = .ok (.iconst 1, 1) := dk_4 (dk_at dksX5_adding_1 16 rfl rfl)
theorem dX5_adding_40 : decode cX5_adding 40 = .ok (.iadd, 1) := dk_96 (dk_at dksX5_adding_1 17 rfl rfl)
theorem dX5_adding_41 : decode cX5_adding 41 = .ok (.iastore, 1) := dk_79 (dk_at dksX5_adding_1 18 rfl rfl)
theorem dX5_adding_42 : decode cX5_adding 42 = .ok (.iload_n 1, 1) := dk_27 (dk_at dksX5_adding_1 19 rfl rfl)
theorem dX5_adding_43 : decode cX5_adding 43 = .ok (.iload_n 2, 1) := dk_28 (dk_at dksX5_adding_1 20 rfl rfl)
theorem dX5_adding_44 : decode cX5_adding 44 = .ok (.iconst 0, 1) := dk_3 (dk_at dksX5_adding_1 21 rfl rfl)
theorem dX5_adding_45 : decode cX5_adding 45 = .ok (.iload_n 3, 1) := dk_29 (dk_at dksX5_adding_1 22 rfl rfl)
theorem dX5_adding_46 : decode cX5_adding 46 = .ok (.lload 4, 2) := dk_22 4 (dk_at dksX5_adding_2 0 rfl rfl)
theorem dX5_adding_48 : decode cX5_adding 48 = .ok (.invokevirtual 145, 3) := dk_182 0 145 (dk_at dksX5_adding_2 2 rfl rfl)
theorem dX5_adding_51 : decode cX5_adding 51 = .ok (.aload_n 0, 1) := dk_42 (dk_at dksX5_adding_2 5 rfl rfl)
theorem dX5_adding_52 : decode cX5_adding 52 = .ok (.invokevirtual 278, 3) := dk_182 1 22 (dk_at dksX5_adding_2 6 rfl rfl)
theorem dX5_adding_55 : decode cX5_adding 55 = .ok (.ifCond .eq 17, 3) := dk_153 0 17 (dk_at dksX5_adding_2 9 rfl rfl)
theorem dX5_adding_58 : decode cX5_adding 58 = .ok (.aload_n 0, 1) := dk_42 (dk_at dksX5_adding_2 12 rfl rfl)
theorem dX5_adding_59 : decode cX5_adding 59 = .ok (.getfield 285, 3) := dk_180 1 29 (dk_at dksX5_adding_2 13 rfl rfl)
theorem dX5_adding_62 : decode cX5_adding 62 = .ok (.aload_n 0, 1) := dk_42 (dk_at dksX5_adding_2 16 rfl rfl)
theorem dX5_adding_63 : decode cX5_adding 63 = .ok (.getfield 260, 3) := dk_180 1 4 (dk_at dksX5_adding_2 17 rfl rfl)
theorem dX5_adding_66 : decode cX5_adding 66 = .ok (.invokestatic 291, 3) := dk_184 1 35 (dk_at dksX5_adding_2 20 rfl rfl)
theorem dX5_adding_69 : decode cX5_adding 69 = .ok (.goto 6, 3) := dk_167 0 6 (dk_at dksX5_adding_3 0 rfl rfl)
theorem dX5_adding_72 : decode cX5_adding 72 = .ok (.ldc2_w 169, 3) := dk_20 0 169 (dk_at dksX5_adding_3 3 rfl rfl)
theorem dX5_adding_75 : decode cX5_adding 75 = .ok (.lstore 6, 2) := dk_55 6 (dk_at dksX5_adding_3 6 rfl rfl)
theorem dX5_adding_77 : decode cX5_adding 77 = .ok (.aload_n 0, 1) := dk_42 (dk_at dksX5_adding_3 8 rfl rfl)
theorem dX5_adding_78 : decode cX5_adding 78 = .ok (.invokevirtual 295, 3) := dk_182 1 39 (dk_at dksX5_adding_3 9 rfl rfl)
theorem dX5_adding_81 : decode cX5_adding 81 = .ok (.lload 6, 2) := dk_22 6 (dk_at dksX5_adding_3 12 rfl rfl)
theorem dX5_adding_83 : decode cX5_adding 83 = .ok (.lreturn, 1) := dk_173 (dk_at dksX5_adding_3 14 rfl rfl)
abbrev cX5_sent : ByteArray := prog_17_method_71_code
def yX5_sent : MethodName := ⟨RX5, "sent", "(III)J"⟩
def dkwX5_sent_3 : List UInt8 := [22, 4, 173]
abbrev dktX5_sent_3 : List UInt8 := dkwX5_sent_3 ++ []
def dkwX5_sent_2 : List UInt8 := [42, 180, 1, 4, 42, 180, 1, 29, 184, 1, 35, 167, 0, 6, 20, 0, 169, 55, 4, 42, 182, 1, 39]
abbrev dktX5_sent_2 : List UInt8 := dkwX5_sent_2 ++ dktX5_sent_3
def dkwX5_sent_1 : List UInt8 := [182, 1, 32, 154, 0, 7, 20, 0, 169, 173, 42, 27, 28, 29, 182, 1, 42, 42, 182, 1, 22, 153, 0, 17]
abbrev dktX5_sent_1 : List UInt8 := dkwX5_sent_1 ++ dktX5_sent_2
def dkwX5_sent_0 : List UInt8 := [42, 27, 28, 182, 0, 137, 153, 0, 22, 29, 133, 9, 20, 0, 131, 184, 0, 99, 153, 0, 10, 42]
abbrev dktX5_sent_0 : List UInt8 := dkwX5_sent_0 ++ dktX5_sent_1
theorem dksX5_sent_0 : cX5_sent.data.toList.drop 0 = dktX5_sent_0 := by decide +kernel
theorem dksX5_sent_1 : cX5_sent.data.toList.drop 22 = dktX5_sent_1 := dk_seg dksX5_sent_0 22 rfl rfl
theorem dksX5_sent_2 : cX5_sent.data.toList.drop 46 = dktX5_sent_2 := dk_seg dksX5_sent_1 24 rfl rfl
theorem dksX5_sent_3 : cX5_sent.data.toList.drop 69 = dktX5_sent_3 := dk_seg dksX5_sent_2 23 rfl rfl
theorem dX5_sent_0 : decode cX5_sent 0 = .ok (.aload_n 0, 1) := dk_42 (dk_at dksX5_sent_0 0 rfl rfl)
theorem dX5_sent_1 : decode cX5_sent 1 = .ok (.iload_n 1, 1) := dk_27 (dk_at dksX5_sent_0 1 rfl rfl)
theorem dX5_sent_2 : decode cX5_sent 2 = .ok (.iload_n 2, 1) := dk_28 (dk_at dksX5_sent_0 2 rfl rfl)
theorem dX5_sent_3 : decode cX5_sent 3 = .ok (.invokevirtual 137, 3) := dk_182 0 137 (dk_at dksX5_sent_0 3 rfl rfl)
theorem dX5_sent_6 : decode cX5_sent 6 = .ok (.ifCond .eq 22, 3) := dk_153 0 22 (dk_at dksX5_sent_0 6 rfl rfl)
theorem dX5_sent_9 : decode cX5_sent 9 = .ok (.iload_n 3, 1) := dk_29 (dk_at dksX5_sent_0 9 rfl rfl)
theorem dX5_sent_10 : decode cX5_sent 10 = .ok (.i2l, 1) := dk_133 (dk_at dksX5_sent_0 10 rfl rfl)
theorem dX5_sent_11 : decode cX5_sent 11 = .ok (.lconst 0, 1) := dk_9 (dk_at dksX5_sent_0 11 rfl rfl)
theorem dX5_sent_12 : decode cX5_sent 12 = .ok (.ldc2_w 131, 3) := dk_20 0 131 (dk_at dksX5_sent_0 12 rfl rfl)
theorem dX5_sent_15 : decode cX5_sent 15 = .ok (.invokestatic 99, 3) := dk_184 0 99 (dk_at dksX5_sent_0 15 rfl rfl)
theorem dX5_sent_18 : decode cX5_sent 18 = .ok (.ifCond .eq 10, 3) := dk_153 0 10 (dk_at dksX5_sent_0 18 rfl rfl)
theorem dX5_sent_21 : decode cX5_sent 21 = .ok (.aload_n 0, 1) := dk_42 (dk_at dksX5_sent_0 21 rfl rfl)
theorem dX5_sent_22 : decode cX5_sent 22 = .ok (.invokevirtual 288, 3) := dk_182 1 32 (dk_at dksX5_sent_1 0 rfl rfl)
theorem dX5_sent_25 : decode cX5_sent 25 = .ok (.ifCond .ne 7, 3) := dk_154 0 7 (dk_at dksX5_sent_1 3 rfl rfl)
theorem dX5_sent_28 : decode cX5_sent 28 = .ok (.ldc2_w 169, 3) := dk_20 0 169 (dk_at dksX5_sent_1 6 rfl rfl)
theorem dX5_sent_31 : decode cX5_sent 31 = .ok (.lreturn, 1) := dk_173 (dk_at dksX5_sent_1 9 rfl rfl)
theorem dX5_sent_32 : decode cX5_sent 32 = .ok (.aload_n 0, 1) := dk_42 (dk_at dksX5_sent_1 10 rfl rfl)
theorem dX5_sent_33 : decode cX5_sent 33 = .ok (.iload_n 1, 1) := dk_27 (dk_at dksX5_sent_1 11 rfl rfl)
theorem dX5_sent_34 : decode cX5_sent 34 = .ok (.iload_n 2, 1) := dk_28 (dk_at dksX5_sent_1 12 rfl rfl)
theorem dX5_sent_35 : decode cX5_sent 35 = .ok (.iload_n 3, 1) := dk_29 (dk_at dksX5_sent_1 13 rfl rfl)
theorem dX5_sent_36 : decode cX5_sent 36 = .ok (.invokevirtual 298, 3) := dk_182 1 42 (dk_at dksX5_sent_1 14 rfl rfl)
theorem dX5_sent_39 : decode cX5_sent 39 = .ok (.aload_n 0, 1) := dk_42 (dk_at dksX5_sent_1 17 rfl rfl)
theorem dX5_sent_40 : decode cX5_sent 40 = .ok (.invokevirtual 278, 3) := dk_182 1 22 (dk_at dksX5_sent_1 18 rfl rfl)
theorem dX5_sent_43 : decode cX5_sent 43 = .ok (.ifCond .eq 17, 3) := dk_153 0 17 (dk_at dksX5_sent_1 21 rfl rfl)
theorem dX5_sent_46 : decode cX5_sent 46 = .ok (.aload_n 0, 1) := dk_42 (dk_at dksX5_sent_2 0 rfl rfl)
theorem dX5_sent_47 : decode cX5_sent 47 = .ok (.getfield 260, 3) := dk_180 1 4 (dk_at dksX5_sent_2 1 rfl rfl)
theorem dX5_sent_50 : decode cX5_sent 50 = .ok (.aload_n 0, 1) := dk_42 (dk_at dksX5_sent_2 4 rfl rfl)
theorem dX5_sent_51 : decode cX5_sent 51 = .ok (.getfield 285, 3) := dk_180 1 29 (dk_at dksX5_sent_2 5 rfl rfl)
theorem dX5_sent_54 : decode cX5_sent 54 = .ok (.invokestatic 291, 3) := dk_184 1 35 (dk_at dksX5_sent_2 8 rfl rfl)
theorem dX5_sent_57 : decode cX5_sent 57 = .ok (.goto 6, 3) := dk_167 0 6 (dk_at dksX5_sent_2 11 rfl rfl)
theorem dX5_sent_60 : decode cX5_sent 60 = .ok (.ldc2_w 169, 3) := dk_20 0 169 (dk_at dksX5_sent_2 14 rfl rfl)
theorem dX5_sent_63 : decode cX5_sent 63 = .ok (.lstore 4, 2) := dk_55 4 (dk_at dksX5_sent_2 17 rfl rfl)
theorem dX5_sent_65 : decode cX5_sent 65 = .ok (.aload_n 0, 1) := dk_42 (dk_at dksX5_sent_2 19 rfl rfl)
theorem dX5_sent_66 : decode cX5_sent 66 = .ok (.invokevirtual 295, 3) := dk_182 1 39 (dk_at dksX5_sent_2 20 rfl rfl)
theorem dX5_sent_69 : decode cX5_sent 69 = .ok (.lload 4, 2) := dk_22 4 (dk_at dksX5_sent_3 0 rfl rfl)
theorem dX5_sent_71 : decode cX5_sent 71 = .ok (.lreturn, 1) := dk_173 (dk_at dksX5_sent_3 2 rfl rfl)
abbrev cX5_sends_2 : ByteArray := prog_17_method_70_code
def yX5_sends_2 : MethodName := ⟨RX5, "sends", "(III)V"⟩
def dkwX5_sends_2_1 : List UInt8 := [177]
abbrev dktX5_sends_2_1 : List UInt8 := dkwX5_sends_2_1 ++ []
def dkwX5_sends_2_0 : List UInt8 := [42, 180, 0, 9, 5, 27, 96, 92, 46, 29, 96, 79, 42, 180, 0, 9, 5, 28, 96, 92, 46, 29, 100, 79]
abbrev dktX5_sends_2_0 : List UInt8 := dkwX5_sends_2_0 ++ dktX5_sends_2_1
theorem dksX5_sends_2_0 : cX5_sends_2.data.toList.drop 0 = dktX5_sends_2_0 := by decide +kernel
theorem dksX5_sends_2_1 : cX5_sends_2.data.toList.drop 24 = dktX5_sends_2_1 := dk_seg dksX5_sends_2_0 24 rfl rfl
theorem dX5_sends_2_0 : decode cX5_sends_2 0 = .ok (.aload_n 0, 1) := dk_42 (dk_at dksX5_sends_2_0 0 rfl rfl)
theorem dX5_sends_2_1 : decode cX5_sends_2 1 = .ok (.getfield 9, 3) := dk_180 0 9 (dk_at dksX5_sends_2_0 1 rfl rfl)
theorem dX5_sends_2_4 : decode cX5_sends_2 4 = .ok (.iconst 2, 1) := dk_5 (dk_at dksX5_sends_2_0 4 rfl rfl)
theorem dX5_sends_2_5 : decode cX5_sends_2 5 = .ok (.iload_n 1, 1) := dk_27 (dk_at dksX5_sends_2_0 5 rfl rfl)
theorem dX5_sends_2_6 : decode cX5_sends_2 6 = .ok (.iadd, 1) := dk_96 (dk_at dksX5_sends_2_0 6 rfl rfl)
theorem dX5_sends_2_7 : decode cX5_sends_2 7 = .ok (.dup2, 1) := dk_92 (dk_at dksX5_sends_2_0 7 rfl rfl)
theorem dX5_sends_2_8 : decode cX5_sends_2 8 = .ok (.iaload, 1) := dk_46 (dk_at dksX5_sends_2_0 8 rfl rfl)
theorem dX5_sends_2_9 : decode cX5_sends_2 9 = .ok (.iload_n 3, 1) := dk_29 (dk_at dksX5_sends_2_0 9 rfl rfl)
theorem dX5_sends_2_10 : decode cX5_sends_2 10 = .ok (.iadd, 1) := dk_96 (dk_at dksX5_sends_2_0 10 rfl rfl)
theorem dX5_sends_2_11 : decode cX5_sends_2 11 = .ok (.iastore, 1) := dk_79 (dk_at dksX5_sends_2_0 11 rfl rfl)
theorem dX5_sends_2_12 : decode cX5_sends_2 12 = .ok (.aload_n 0, 1) := dk_42 (dk_at dksX5_sends_2_0 12 rfl rfl)
theorem dX5_sends_2_13 : decode cX5_sends_2 13 = .ok (.getfield 9, 3) := dk_180 0 9 (dk_at dksX5_sends_2_0 13 rfl rfl)
theorem dX5_sends_2_16 : decode cX5_sends_2 16 = .ok (.iconst 2, 1) := dk_5 (dk_at dksX5_sends_2_0 16 rfl rfl)
theorem dX5_sends_2_17 : decode cX5_sends_2 17 = .ok (.iload_n 2, 1) := dk_28 (dk_at dksX5_sends_2_0 17 rfl rfl)
theorem dX5_sends_2_18 : decode cX5_sends_2 18 = .ok (.iadd, 1) := dk_96 (dk_at dksX5_sends_2_0 18 rfl rfl)
theorem dX5_sends_2_19 : decode cX5_sends_2 19 = .ok (.dup2, 1) := dk_92 (dk_at dksX5_sends_2_0 19 rfl rfl)
theorem dX5_sends_2_20 : decode cX5_sends_2 20 = .ok (.iaload, 1) := dk_46 (dk_at dksX5_sends_2_0 20 rfl rfl)
theorem dX5_sends_2_21 : decode cX5_sends_2 21 = .ok (.iload_n 3, 1) := dk_29 (dk_at dksX5_sends_2_0 21 rfl rfl)
theorem dX5_sends_2_22 : decode cX5_sends_2 22 = .ok (.isub, 1) := dk_100 (dk_at dksX5_sends_2_0 22 rfl rfl)
theorem dX5_sends_2_23 : decode cX5_sends_2 23 = .ok (.iastore, 1) := dk_79 (dk_at dksX5_sends_2_0 23 rfl rfl)
theorem dX5_sends_2_24 : decode cX5_sends_2 24 = .ok (.return_, 1) := dk_177 (dk_at dksX5_sends_2_1 0 rfl rfl)
abbrev cX5_greatest : ByteArray := prog_17_method_72_code
def yX5_greatest : MethodName := ⟨RX5, "greatest", "(II)I"⟩
def dkwX5_greatest_3 : List UInt8 := [28, 27, 29, 182, 1, 42, 29, 172]
abbrev dktX5_greatest_3 : List UInt8 := dkwX5_greatest_3 ++ []
def dkwX5_greatest_2 : List UInt8 := [54, 4, 21, 4, 153, 0, 9, 132, 3, 1, 167, 255, 224, 42, 28, 27, 4, 182, 1, 42, 167, 255, 214, 42]
abbrev dktX5_greatest_2 : List UInt8 := dkwX5_greatest_2 ++ dktX5_greatest_3
def dkwX5_greatest_1 : List UInt8 := [54, 4, 29, 16, 99, 162, 0, 42, 21, 4, 153, 0, 37, 42, 27, 28, 4, 182, 1, 42, 42, 182, 0, 247]
abbrev dktX5_greatest_1 : List UInt8 := dkwX5_greatest_1 ++ dktX5_greatest_2
def dkwX5_greatest_0 : List UInt8 := [42, 27, 28, 182, 0, 137, 154, 0, 5, 2, 172, 42, 182, 0, 247, 154, 0, 6, 16, 253, 172, 3, 62, 4]
abbrev dktX5_greatest_0 : List UInt8 := dkwX5_greatest_0 ++ dktX5_greatest_1
theorem dksX5_greatest_0 : cX5_greatest.data.toList.drop 0 = dktX5_greatest_0 := by decide +kernel
theorem dksX5_greatest_1 : cX5_greatest.data.toList.drop 24 = dktX5_greatest_1 := dk_seg dksX5_greatest_0 24 rfl rfl
theorem dksX5_greatest_2 : cX5_greatest.data.toList.drop 48 = dktX5_greatest_2 := dk_seg dksX5_greatest_1 24 rfl rfl
theorem dksX5_greatest_3 : cX5_greatest.data.toList.drop 72 = dktX5_greatest_3 := dk_seg dksX5_greatest_2 24 rfl rfl
theorem dX5_greatest_0 : decode cX5_greatest 0 = .ok (.aload_n 0, 1) := dk_42 (dk_at dksX5_greatest_0 0 rfl rfl)
theorem dX5_greatest_1 : decode cX5_greatest 1 = .ok (.iload_n 1, 1) := dk_27 (dk_at dksX5_greatest_0 1 rfl rfl)
theorem dX5_greatest_2 : decode cX5_greatest 2 = .ok (.iload_n 2, 1) := dk_28 (dk_at dksX5_greatest_0 2 rfl rfl)
theorem dX5_greatest_3 : decode cX5_greatest 3 = .ok (.invokevirtual 137, 3) := dk_182 0 137 (dk_at dksX5_greatest_0 3 rfl rfl)
theorem dX5_greatest_6 : decode cX5_greatest 6 = .ok (.ifCond .ne 5, 3) := dk_154 0 5 (dk_at dksX5_greatest_0 6 rfl rfl)
theorem dX5_greatest_9 : decode cX5_greatest 9 = .ok (.iconst (-1), 1) := dk_2 (dk_at dksX5_greatest_0 9 rfl rfl)
theorem dX5_greatest_10 : decode cX5_greatest 10 = .ok (.ireturn, 1) := dk_172 (dk_at dksX5_greatest_0 10 rfl rfl)
theorem dX5_greatest_11 : decode cX5_greatest 11 = .ok (.aload_n 0, 1) := dk_42 (dk_at dksX5_greatest_0 11 rfl rfl)
theorem dX5_greatest_12 : decode cX5_greatest 12 = .ok (.invokevirtual 247, 3) := dk_182 0 247 (dk_at dksX5_greatest_0 12 rfl rfl)
theorem dX5_greatest_15 : decode cX5_greatest 15 = .ok (.ifCond .ne 6, 3) := dk_154 0 6 (dk_at dksX5_greatest_0 15 rfl rfl)
theorem dX5_greatest_18 : decode cX5_greatest 18 = .ok (.bipush (-3), 2) := dk_16 253 (dk_at dksX5_greatest_0 18 rfl rfl)
theorem dX5_greatest_20 : decode cX5_greatest 20 = .ok (.ireturn, 1) := dk_172 (dk_at dksX5_greatest_0 20 rfl rfl)
theorem dX5_greatest_21 : decode cX5_greatest 21 = .ok (.iconst 0, 1) := dk_3 (dk_at dksX5_greatest_0 21 rfl rfl)
theorem dX5_greatest_22 : decode cX5_greatest 22 = .ok (.istore_n 3, 1) := dk_62 (dk_at dksX5_greatest_0 22 rfl rfl)
theorem dX5_greatest_23 : decode cX5_greatest 23 = .ok (.iconst 1, 1) := dk_4 (dk_at dksX5_greatest_0 23 rfl rfl)
theorem dX5_greatest_24 : decode cX5_greatest 24 = .ok (.istore 4, 2) := dk_54 4 (dk_at dksX5_greatest_1 0 rfl rfl)
theorem dX5_greatest_26 : decode cX5_greatest 26 = .ok (.iload_n 3, 1) := dk_29 (dk_at dksX5_greatest_1 2 rfl rfl)
theorem dX5_greatest_27 : decode cX5_greatest 27 = .ok (.bipush 99, 2) := dk_16 99 (dk_at dksX5_greatest_1 3 rfl rfl)
theorem dX5_greatest_29 : decode cX5_greatest 29 = .ok (.if_icmp .ge 42, 3) := dk_162 0 42 (dk_at dksX5_greatest_1 5 rfl rfl)
theorem dX5_greatest_32 : decode cX5_greatest 32 = .ok (.iload 4, 2) := dk_21 4 (dk_at dksX5_greatest_1 8 rfl rfl)
theorem dX5_greatest_34 : decode cX5_greatest 34 = .ok (.ifCond .eq 37, 3) := dk_153 0 37 (dk_at dksX5_greatest_1 10 rfl rfl)
theorem dX5_greatest_37 : decode cX5_greatest 37 = .ok (.aload_n 0, 1) := dk_42 (dk_at dksX5_greatest_1 13 rfl rfl)
theorem dX5_greatest_38 : decode cX5_greatest 38 = .ok (.iload_n 1, 1) := dk_27 (dk_at dksX5_greatest_1 14 rfl rfl)
theorem dX5_greatest_39 : decode cX5_greatest 39 = .ok (.iload_n 2, 1) := dk_28 (dk_at dksX5_greatest_1 15 rfl rfl)
theorem dX5_greatest_40 : decode cX5_greatest 40 = .ok (.iconst 1, 1) := dk_4 (dk_at dksX5_greatest_1 16 rfl rfl)
theorem dX5_greatest_41 : decode cX5_greatest 41 = .ok (.invokevirtual 298, 3) := dk_182 1 42 (dk_at dksX5_greatest_1 17 rfl rfl)
theorem dX5_greatest_44 : decode cX5_greatest 44 = .ok (.aload_n 0, 1) := dk_42 (dk_at dksX5_greatest_1 20 rfl rfl)
theorem dX5_greatest_45 : decode cX5_greatest 45 = .ok (.invokevirtual 247, 3) := dk_182 0 247 (dk_at dksX5_greatest_1 21 rfl rfl)
theorem dX5_greatest_48 : decode cX5_greatest 48 = .ok (.istore 4, 2) := dk_54 4 (dk_at dksX5_greatest_2 0 rfl rfl)
theorem dX5_greatest_50 : decode cX5_greatest 50 = .ok (.iload 4, 2) := dk_21 4 (dk_at dksX5_greatest_2 2 rfl rfl)
theorem dX5_greatest_52 : decode cX5_greatest 52 = .ok (.ifCond .eq 9, 3) := dk_153 0 9 (dk_at dksX5_greatest_2 4 rfl rfl)
theorem dX5_greatest_55 : decode cX5_greatest 55 = .ok (.iinc 3 1, 3) := dk_132 3 1 (dk_at dksX5_greatest_2 7 rfl rfl)
theorem dX5_greatest_58 : decode cX5_greatest 58 = .ok (.goto (-32), 3) := dk_167 255 224 (dk_at dksX5_greatest_2 10 rfl rfl)
theorem dX5_greatest_61 : decode cX5_greatest 61 = .ok (.aload_n 0, 1) := dk_42 (dk_at dksX5_greatest_2 13 rfl rfl)
theorem dX5_greatest_62 : decode cX5_greatest 62 = .ok (.iload_n 2, 1) := dk_28 (dk_at dksX5_greatest_2 14 rfl rfl)
theorem dX5_greatest_63 : decode cX5_greatest 63 = .ok (.iload_n 1, 1) := dk_27 (dk_at dksX5_greatest_2 15 rfl rfl)
theorem dX5_greatest_64 : decode cX5_greatest 64 = .ok (.iconst 1, 1) := dk_4 (dk_at dksX5_greatest_2 16 rfl rfl)
theorem dX5_greatest_65 : decode cX5_greatest 65 = .ok (.invokevirtual 298, 3) := dk_182 1 42 (dk_at dksX5_greatest_2 17 rfl rfl)
theorem dX5_greatest_68 : decode cX5_greatest 68 = .ok (.goto (-42), 3) := dk_167 255 214 (dk_at dksX5_greatest_2 20 rfl rfl)
theorem dX5_greatest_71 : decode cX5_greatest 71 = .ok (.aload_n 0, 1) := dk_42 (dk_at dksX5_greatest_2 23 rfl rfl)
theorem dX5_greatest_72 : decode cX5_greatest 72 = .ok (.iload_n 2, 1) := dk_28 (dk_at dksX5_greatest_3 0 rfl rfl)
theorem dX5_greatest_73 : decode cX5_greatest 73 = .ok (.iload_n 1, 1) := dk_27 (dk_at dksX5_greatest_3 1 rfl rfl)
theorem dX5_greatest_74 : decode cX5_greatest 74 = .ok (.iload_n 3, 1) := dk_29 (dk_at dksX5_greatest_3 2 rfl rfl)
theorem dX5_greatest_75 : decode cX5_greatest 75 = .ok (.invokevirtual 298, 3) := dk_182 1 42 (dk_at dksX5_greatest_3 3 rfl rfl)
theorem dX5_greatest_78 : decode cX5_greatest 78 = .ok (.iload_n 3, 1) := dk_29 (dk_at dksX5_greatest_3 6 rfl rfl)
theorem dX5_greatest_79 : decode cX5_greatest 79 = .ok (.ireturn, 1) := dk_172 (dk_at dksX5_greatest_3 7 rfl rfl)
abbrev cX5_stretch : ByteArray := prog_17_method_74_code
def yX5_stretch : MethodName := ⟨RX5, "stretch", "(IIII)J"⟩
def dkwX5_stretch_3 : List UInt8 := [133, 173]
abbrev dktX5_stretch_3 : List UInt8 := dkwX5_stretch_3 ++ []
def dkwX5_stretch_2 : List UInt8 := [20, 0, 169, 173, 21, 4, 154, 0, 12, 42, 180, 0, 74, 29, 47, 167, 0, 10, 42, 180, 0, 77, 29, 46]
abbrev dktX5_stretch_2 : List UInt8 := dkwX5_stretch_2 ++ dktX5_stretch_3
def dkwX5_stretch_1 : List UInt8 := [182, 1, 48, 153, 0, 19, 29, 133, 9, 42, 180, 1, 45, 4, 100, 133, 184, 0, 99, 154, 0, 7]
abbrev dktX5_stretch_1 : List UInt8 := dkwX5_stretch_1 ++ dktX5_stretch_2
def dkwX5_stretch_0 : List UInt8 := [42, 27, 28, 182, 0, 137, 153, 0, 39, 21, 4, 133, 9, 10, 184, 0, 99, 153, 0, 28, 42, 27, 28]
abbrev dktX5_stretch_0 : List UInt8 := dkwX5_stretch_0 ++ dktX5_stretch_1
theorem dksX5_stretch_0 : cX5_stretch.data.toList.drop 0 = dktX5_stretch_0 := by decide +kernel
theorem dksX5_stretch_1 : cX5_stretch.data.toList.drop 23 = dktX5_stretch_1 := dk_seg dksX5_stretch_0 23 rfl rfl
theorem dksX5_stretch_2 : cX5_stretch.data.toList.drop 45 = dktX5_stretch_2 := dk_seg dksX5_stretch_1 22 rfl rfl
theorem dksX5_stretch_3 : cX5_stretch.data.toList.drop 69 = dktX5_stretch_3 := dk_seg dksX5_stretch_2 24 rfl rfl
theorem dX5_stretch_0 : decode cX5_stretch 0 = .ok (.aload_n 0, 1) := dk_42 (dk_at dksX5_stretch_0 0 rfl rfl)
theorem dX5_stretch_1 : decode cX5_stretch 1 = .ok (.iload_n 1, 1) := dk_27 (dk_at dksX5_stretch_0 1 rfl rfl)
theorem dX5_stretch_2 : decode cX5_stretch 2 = .ok (.iload_n 2, 1) := dk_28 (dk_at dksX5_stretch_0 2 rfl rfl)
theorem dX5_stretch_3 : decode cX5_stretch 3 = .ok (.invokevirtual 137, 3) := dk_182 0 137 (dk_at dksX5_stretch_0 3 rfl rfl)
theorem dX5_stretch_6 : decode cX5_stretch 6 = .ok (.ifCond .eq 39, 3) := dk_153 0 39 (dk_at dksX5_stretch_0 6 rfl rfl)
theorem dX5_stretch_9 : decode cX5_stretch 9 = .ok (.iload 4, 2) := dk_21 4 (dk_at dksX5_stretch_0 9 rfl rfl)
theorem dX5_stretch_11 : decode cX5_stretch 11 = .ok (.i2l, 1) := dk_133 (dk_at dksX5_stretch_0 11 rfl rfl)
theorem dX5_stretch_12 : decode cX5_stretch 12 = .ok (.lconst 0, 1) := dk_9 (dk_at dksX5_stretch_0 12 rfl rfl)
theorem dX5_stretch_13 : decode cX5_stretch 13 = .ok (.lconst 1, 1) := dk_10 (dk_at dksX5_stretch_0 13 rfl rfl)
theorem dX5_stretch_14 : decode cX5_stretch 14 = .ok (.invokestatic 99, 3) := dk_184 0 99 (dk_at dksX5_stretch_0 14 rfl rfl)
theorem dX5_stretch_17 : decode cX5_stretch 17 = .ok (.ifCond .eq 28, 3) := dk_153 0 28 (dk_at dksX5_stretch_0 17 rfl rfl)
theorem dX5_stretch_20 : decode cX5_stretch 20 = .ok (.aload_n 0, 1) := dk_42 (dk_at dksX5_stretch_0 20 rfl rfl)
theorem dX5_stretch_21 : decode cX5_stretch 21 = .ok (.iload_n 1, 1) := dk_27 (dk_at dksX5_stretch_0 21 rfl rfl)
theorem dX5_stretch_22 : decode cX5_stretch 22 = .ok (.iload_n 2, 1) := dk_28 (dk_at dksX5_stretch_0 22 rfl rfl)
theorem dX5_stretch_23 : decode cX5_stretch 23 = .ok (.invokevirtual 304, 3) := dk_182 1 48 (dk_at dksX5_stretch_1 0 rfl rfl)
theorem dX5_stretch_26 : decode cX5_stretch 26 = .ok (.ifCond .eq 19, 3) := dk_153 0 19 (dk_at dksX5_stretch_1 3 rfl rfl)
theorem dX5_stretch_29 : decode cX5_stretch 29 = .ok (.iload_n 3, 1) := dk_29 (dk_at dksX5_stretch_1 6 rfl rfl)
theorem dX5_stretch_30 : decode cX5_stretch 30 = .ok (.i2l, 1) := dk_133 (dk_at dksX5_stretch_1 7 rfl rfl)
theorem dX5_stretch_31 : decode cX5_stretch 31 = .ok (.lconst 0, 1) := dk_9 (dk_at dksX5_stretch_1 8 rfl rfl)
theorem dX5_stretch_32 : decode cX5_stretch 32 = .ok (.aload_n 0, 1) := dk_42 (dk_at dksX5_stretch_1 9 rfl rfl)
theorem dX5_stretch_33 : decode cX5_stretch 33 = .ok (.getfield 301, 3) := dk_180 1 45 (dk_at dksX5_stretch_1 10 rfl rfl)
theorem dX5_stretch_36 : decode cX5_stretch 36 = .ok (.iconst 1, 1) := dk_4 (dk_at dksX5_stretch_1 13 rfl rfl)
theorem dX5_stretch_37 : decode cX5_stretch 37 = .ok (.isub, 1) := dk_100 (dk_at dksX5_stretch_1 14 rfl rfl)
theorem dX5_stretch_38 : decode cX5_stretch 38 = .ok (.i2l, 1) := dk_133 (dk_at dksX5_stretch_1 15 rfl rfl)
theorem dX5_stretch_39 : decode cX5_stretch 39 = .ok (.invokestatic 99, 3) := dk_184 0 99 (dk_at dksX5_stretch_1 16 rfl rfl)
theorem dX5_stretch_42 : decode cX5_stretch 42 = .ok (.ifCond .ne 7, 3) := dk_154 0 7 (dk_at dksX5_stretch_1 19 rfl rfl)
theorem dX5_stretch_45 : decode cX5_stretch 45 = .ok (.ldc2_w 169, 3) := dk_20 0 169 (dk_at dksX5_stretch_2 0 rfl rfl)
theorem dX5_stretch_48 : decode cX5_stretch 48 = .ok (.lreturn, 1) := dk_173 (dk_at dksX5_stretch_2 3 rfl rfl)
theorem dX5_stretch_49 : decode cX5_stretch 49 = .ok (.iload 4, 2) := dk_21 4 (dk_at dksX5_stretch_2 4 rfl rfl)
theorem dX5_stretch_51 : decode cX5_stretch 51 = .ok (.ifCond .ne 12, 3) := dk_154 0 12 (dk_at dksX5_stretch_2 6 rfl rfl)
theorem dX5_stretch_54 : decode cX5_stretch 54 = .ok (.aload_n 0, 1) := dk_42 (dk_at dksX5_stretch_2 9 rfl rfl)
theorem dX5_stretch_55 : decode cX5_stretch 55 = .ok (.getfield 74, 3) := dk_180 0 74 (dk_at dksX5_stretch_2 10 rfl rfl)
theorem dX5_stretch_58 : decode cX5_stretch 58 = .ok (.iload_n 3, 1) := dk_29 (dk_at dksX5_stretch_2 13 rfl rfl)
theorem dX5_stretch_59 : decode cX5_stretch 59 = .ok (.laload, 1) := dk_47 (dk_at dksX5_stretch_2 14 rfl rfl)
theorem dX5_stretch_60 : decode cX5_stretch 60 = .ok (.goto 10, 3) := dk_167 0 10 (dk_at dksX5_stretch_2 15 rfl rfl)
theorem dX5_stretch_63 : decode cX5_stretch 63 = .ok (.aload_n 0, 1) := dk_42 (dk_at dksX5_stretch_2 18 rfl rfl)
theorem dX5_stretch_64 : decode cX5_stretch 64 = .ok (.getfield 77, 3) := dk_180 0 77 (dk_at dksX5_stretch_2 19 rfl rfl)
theorem dX5_stretch_67 : decode cX5_stretch 67 = .ok (.iload_n 3, 1) := dk_29 (dk_at dksX5_stretch_2 22 rfl rfl)
theorem dX5_stretch_68 : decode cX5_stretch 68 = .ok (.iaload, 1) := dk_46 (dk_at dksX5_stretch_2 23 rfl rfl)
theorem dX5_stretch_69 : decode cX5_stretch 69 = .ok (.i2l, 1) := dk_133 (dk_at dksX5_stretch_3 0 rfl rfl)
theorem dX5_stretch_70 : decode cX5_stretch 70 = .ok (.lreturn, 1) := dk_173 (dk_at dksX5_stretch_3 1 rfl rfl)
abbrev cX5_stretched : ByteArray := prog_17_method_73_code
def yX5_stretched : MethodName := ⟨RX5, "stretched", "(II)Z"⟩
def dkwX5_stretched_7 : List UInt8 := [167, 255, 113, 4, 172]
abbrev dktX5_stretched_7 : List UInt8 := dkwX5_stretched_7 ++ []
def dkwX5_stretched_6 : List UInt8 := [180, 0, 52, 21, 4, 46, 4, 182, 0, 217, 54, 4, 167, 255, 224, 132, 3, 1, 42, 27, 182, 0, 228]
abbrev dktX5_stretched_6 : List UInt8 := dkwX5_stretched_6 ++ dktX5_stretched_7
def dkwX5_stretched_5 : List UInt8 := [54, 4, 21, 4, 27, 159, 0, 32, 42, 42, 180, 0, 52, 21, 4, 46, 4, 182, 0, 231, 42, 42]
abbrev dktX5_stretched_5 : List UInt8 := dkwX5_stretched_5 ++ dktX5_stretched_6
def dkwX5_stretched_4 : List UInt8 := [180, 1, 45, 4, 96, 181, 1, 45, 42, 180, 0, 77, 42, 180, 1, 45, 4, 100, 92, 46, 4, 96, 79, 28]
abbrev dktX5_stretched_4 : List UInt8 := dkwX5_stretched_4 ++ dktX5_stretched_5
def dkwX5_stretched_3 : List UInt8 := [42, 180, 1, 45, 42, 180, 0, 49, 28, 47, 80, 42, 180, 0, 77, 42, 180, 1, 45, 3, 79, 42, 89]
abbrev dktX5_stretched_3 : List UInt8 := dkwX5_stretched_3 ++ dktX5_stretched_4
def dkwX5_stretched_2 : List UInt8 := [180, 0, 74, 42, 180, 1, 45, 4, 100, 47, 42, 180, 0, 49, 28, 47, 148, 153, 0, 38, 42, 180, 0, 74]
abbrev dktX5_stretched_2 : List UInt8 := dkwX5_stretched_2 ++ dktX5_stretched_3
def dkwX5_stretched_1 : List UInt8 := [162, 0, 143, 42, 180, 0, 49, 28, 47, 20, 0, 215, 148, 153, 0, 130, 42, 180, 1, 45, 153, 0, 24, 42]
abbrev dktX5_stretched_1 : List UInt8 := dkwX5_stretched_1 ++ dktX5_stretched_2
def dkwX5_stretched_0 : List UInt8 := [42, 3, 181, 1, 45, 42, 182, 0, 247, 154, 0, 5, 3, 172, 3, 62, 42, 27, 182, 0, 228, 29, 16, 99]
abbrev dktX5_stretched_0 : List UInt8 := dkwX5_stretched_0 ++ dktX5_stretched_1
theorem dksX5_stretched_0 : cX5_stretched.data.toList.drop 0 = dktX5_stretched_0 := by decide +kernel
theorem dksX5_stretched_1 : cX5_stretched.data.toList.drop 24 = dktX5_stretched_1 := dk_seg dksX5_stretched_0 24 rfl rfl
theorem dksX5_stretched_2 : cX5_stretched.data.toList.drop 48 = dktX5_stretched_2 := dk_seg dksX5_stretched_1 24 rfl rfl
theorem dksX5_stretched_3 : cX5_stretched.data.toList.drop 72 = dktX5_stretched_3 := dk_seg dksX5_stretched_2 24 rfl rfl
theorem dksX5_stretched_4 : cX5_stretched.data.toList.drop 95 = dktX5_stretched_4 := dk_seg dksX5_stretched_3 23 rfl rfl
theorem dksX5_stretched_5 : cX5_stretched.data.toList.drop 119 = dktX5_stretched_5 := dk_seg dksX5_stretched_4 24 rfl rfl
theorem dksX5_stretched_6 : cX5_stretched.data.toList.drop 141 = dktX5_stretched_6 := dk_seg dksX5_stretched_5 22 rfl rfl
theorem dksX5_stretched_7 : cX5_stretched.data.toList.drop 164 = dktX5_stretched_7 := dk_seg dksX5_stretched_6 23 rfl rfl
theorem dX5_stretched_0 : decode cX5_stretched 0 = .ok (.aload_n 0, 1) := dk_42 (dk_at dksX5_stretched_0 0 rfl rfl)
theorem dX5_stretched_1 : decode cX5_stretched 1 = .ok (.iconst 0, 1) := dk_3 (dk_at dksX5_stretched_0 1 rfl rfl)
theorem dX5_stretched_2 : decode cX5_stretched 2 = .ok (.putfield 301, 3) := dk_181 1 45 (dk_at dksX5_stretched_0 2 rfl rfl)
theorem dX5_stretched_5 : decode cX5_stretched 5 = .ok (.aload_n 0, 1) := dk_42 (dk_at dksX5_stretched_0 5 rfl rfl)
theorem dX5_stretched_6 : decode cX5_stretched 6 = .ok (.invokevirtual 247, 3) := dk_182 0 247 (dk_at dksX5_stretched_0 6 rfl rfl)
theorem dX5_stretched_9 : decode cX5_stretched 9 = .ok (.ifCond .ne 5, 3) := dk_154 0 5 (dk_at dksX5_stretched_0 9 rfl rfl)
theorem dX5_stretched_12 : decode cX5_stretched 12 = .ok (.iconst 0, 1) := dk_3 (dk_at dksX5_stretched_0 12 rfl rfl)
theorem dX5_stretched_13 : decode cX5_stretched 13 = .ok (.ireturn, 1) := dk_172 (dk_at dksX5_stretched_0 13 rfl rfl)
theorem dX5_stretched_14 : decode cX5_stretched 14 = .ok (.iconst 0, 1) := dk_3 (dk_at dksX5_stretched_0 14 rfl rfl)
theorem dX5_stretched_15 : decode cX5_stretched 15 = .ok (.istore_n 3, 1) := dk_62 (dk_at dksX5_stretched_0 15 rfl rfl)
theorem dX5_stretched_16 : decode cX5_stretched 16 = .ok (.aload_n 0, 1) := dk_42 (dk_at dksX5_stretched_0 16 rfl rfl)
theorem dX5_stretched_17 : decode cX5_stretched 17 = .ok (.iload_n 1, 1) := dk_27 (dk_at dksX5_stretched_0 17 rfl rfl)
theorem dX5_stretched_18 : decode cX5_stretched 18 = .ok (.invokevirtual 228, 3) := dk_182 0 228 (dk_at dksX5_stretched_0 18 rfl rfl)
theorem dX5_stretched_21 : decode cX5_stretched 21 = .ok (.iload_n 3, 1) := dk_29 (dk_at dksX5_stretched_0 21 rfl rfl)
theorem dX5_stretched_22 : decode cX5_stretched 22 = .ok (.bipush 99, 2) := dk_16 99 (dk_at dksX5_stretched_0 22 rfl rfl)
theorem dX5_stretched_24 : decode cX5_stretched 24 = .ok (.if_icmp .ge 143, 3) := dk_162 0 143 (dk_at dksX5_stretched_1 0 rfl rfl)
theorem dX5_stretched_27 : decode cX5_stretched 27 = .ok (.aload_n 0, 1) := dk_42 (dk_at dksX5_stretched_1 3 rfl rfl)
theorem dX5_stretched_28 : decode cX5_stretched 28 = .ok (.getfield 49, 3) := dk_180 0 49 (dk_at dksX5_stretched_1 4 rfl rfl)
theorem dX5_stretched_31 : decode cX5_stretched 31 = .ok (.iload_n 2, 1) := dk_28 (dk_at dksX5_stretched_1 7 rfl rfl)
theorem dX5_stretched_32 : decode cX5_stretched 32 = .ok (.laload, 1) := dk_47 (dk_at dksX5_stretched_1 8 rfl rfl)
theorem dX5_stretched_33 : decode cX5_stretched 33 = .ok (.ldc2_w 215, 3) := dk_20 0 215 (dk_at dksX5_stretched_1 9 rfl rfl)
theorem dX5_stretched_36 : decode cX5_stretched 36 = .ok (.lcmp, 1) := dk_148 (dk_at dksX5_stretched_1 12 rfl rfl)
theorem dX5_stretched_37 : decode cX5_stretched 37 = .ok (.ifCond .eq 130, 3) := dk_153 0 130 (dk_at dksX5_stretched_1 13 rfl rfl)
theorem dX5_stretched_40 : decode cX5_stretched 40 = .ok (.aload_n 0, 1) := dk_42 (dk_at dksX5_stretched_1 16 rfl rfl)
theorem dX5_stretched_41 : decode cX5_stretched 41 = .ok (.getfield 301, 3) := dk_180 1 45 (dk_at dksX5_stretched_1 17 rfl rfl)
theorem dX5_stretched_44 : decode cX5_stretched 44 = .ok (.ifCond .eq 24, 3) := dk_153 0 24 (dk_at dksX5_stretched_1 20 rfl rfl)
theorem dX5_stretched_47 : decode cX5_stretched 47 = .ok (.aload_n 0, 1) := dk_42 (dk_at dksX5_stretched_1 23 rfl rfl)
theorem dX5_stretched_48 : decode cX5_stretched 48 = .ok (.getfield 74, 3) := dk_180 0 74 (dk_at dksX5_stretched_2 0 rfl rfl)
theorem dX5_stretched_51 : decode cX5_stretched 51 = .ok (.aload_n 0, 1) := dk_42 (dk_at dksX5_stretched_2 3 rfl rfl)
theorem dX5_stretched_52 : decode cX5_stretched 52 = .ok (.getfield 301, 3) := dk_180 1 45 (dk_at dksX5_stretched_2 4 rfl rfl)
theorem dX5_stretched_55 : decode cX5_stretched 55 = .ok (.iconst 1, 1) := dk_4 (dk_at dksX5_stretched_2 7 rfl rfl)
theorem dX5_stretched_56 : decode cX5_stretched 56 = .ok (.isub, 1) := dk_100 (dk_at dksX5_stretched_2 8 rfl rfl)
theorem dX5_stretched_57 : decode cX5_stretched 57 = .ok (.laload, 1) := dk_47 (dk_at dksX5_stretched_2 9 rfl rfl)
theorem dX5_stretched_58 : decode cX5_stretched 58 = .ok (.aload_n 0, 1) := dk_42 (dk_at dksX5_stretched_2 10 rfl rfl)
theorem dX5_stretched_59 : decode cX5_stretched 59 = .ok (.getfield 49, 3) := dk_180 0 49 (dk_at dksX5_stretched_2 11 rfl rfl)
theorem dX5_stretched_62 : decode cX5_stretched 62 = .ok (.iload_n 2, 1) := dk_28 (dk_at dksX5_stretched_2 14 rfl rfl)
theorem dX5_stretched_63 : decode cX5_stretched 63 = .ok (.laload, 1) := dk_47 (dk_at dksX5_stretched_2 15 rfl rfl)
theorem dX5_stretched_64 : decode cX5_stretched 64 = .ok (.lcmp, 1) := dk_148 (dk_at dksX5_stretched_2 16 rfl rfl)
theorem dX5_stretched_65 : decode cX5_stretched 65 = .ok (.ifCond .eq 38, 3) := dk_153 0 38 (dk_at dksX5_stretched_2 17 rfl rfl)
theorem dX5_stretched_68 : decode cX5_stretched 68 = .ok (.aload_n 0, 1) := dk_42 (dk_at dksX5_stretched_2 20 rfl rfl)
theorem dX5_stretched_69 : decode cX5_stretched 69 = .ok (.getfield 74, 3) := dk_180 0 74 (dk_at dksX5_stretched_2 21 rfl rfl)
theorem dX5_stretched_72 : decode cX5_stretched 72 = .ok (.aload_n 0, 1) := dk_42 (dk_at dksX5_stretched_3 0 rfl rfl)
theorem dX5_stretched_73 : decode cX5_stretched 73 = .ok (.getfield 301, 3) := dk_180 1 45 (dk_at dksX5_stretched_3 1 rfl rfl)
theorem dX5_stretched_76 : decode cX5_stretched 76 = .ok (.aload_n 0, 1) := dk_42 (dk_at dksX5_stretched_3 4 rfl rfl)
theorem dX5_stretched_77 : decode cX5_stretched 77 = .ok (.getfield 49, 3) := dk_180 0 49 (dk_at dksX5_stretched_3 5 rfl rfl)
theorem dX5_stretched_80 : decode cX5_stretched 80 = .ok (.iload_n 2, 1) := dk_28 (dk_at dksX5_stretched_3 8 rfl rfl)
theorem dX5_stretched_81 : decode cX5_stretched 81 = .ok (.laload, 1) := dk_47 (dk_at dksX5_stretched_3 9 rfl rfl)
theorem dX5_stretched_82 : decode cX5_stretched 82 = .ok (.lastore, 1) := dk_80 (dk_at dksX5_stretched_3 10 rfl rfl)
theorem dX5_stretched_83 : decode cX5_stretched 83 = .ok (.aload_n 0, 1) := dk_42 (dk_at dksX5_stretched_3 11 rfl rfl)
theorem dX5_stretched_84 : decode cX5_stretched 84 = .ok (.getfield 77, 3) := dk_180 0 77 (dk_at dksX5_stretched_3 12 rfl rfl)
theorem dX5_stretched_87 : decode cX5_stretched 87 = .ok (.aload_n 0, 1) := dk_42 (dk_at dksX5_stretched_3 15 rfl rfl)
theorem dX5_stretched_88 : decode cX5_stretched 88 = .ok (.getfield 301, 3) := dk_180 1 45 (dk_at dksX5_stretched_3 16 rfl rfl)
theorem dX5_stretched_91 : decode cX5_stretched 91 = .ok (.iconst 0, 1) := dk_3 (dk_at dksX5_stretched_3 19 rfl rfl)
theorem dX5_stretched_92 : decode cX5_stretched 92 = .ok (.iastore, 1) := dk_79 (dk_at dksX5_stretched_3 20 rfl rfl)
theorem dX5_stretched_93 : decode cX5_stretched 93 = .ok (.aload_n 0, 1) := dk_42 (dk_at dksX5_stretched_3 21 rfl rfl)
theorem dX5_stretched_94 : decode cX5_stretched 94 = .ok (.dup, 1) := dk_89 (dk_at dksX5_stretched_3 22 rfl rfl)
theorem dX5_stretched_95 : decode cX5_stretched 95 = .ok (.getfield 301, 3) := dk_180 1 45 (dk_at dksX5_stretched_4 0 rfl rfl)
theorem dX5_stretched_98 : decode cX5_stretched 98 = .ok (.iconst 1, 1) := dk_4 (dk_at dksX5_stretched_4 3 rfl rfl)
theorem dX5_stretched_99 : decode cX5_stretched 99 = .ok (.iadd, 1) := dk_96 (dk_at dksX5_stretched_4 4 rfl rfl)
theorem dX5_stretched_100 : decode cX5_stretched 100 = .ok (.putfield 301, 3) := dk_181 1 45 (dk_at dksX5_stretched_4 5 rfl rfl)
theorem dX5_stretched_103 : decode cX5_stretched 103 = .ok (.aload_n 0, 1) := dk_42 (dk_at dksX5_stretched_4 8 rfl rfl)
theorem dX5_stretched_104 : decode cX5_stretched 104 = .ok (.getfield 77, 3) := dk_180 0 77 (dk_at dksX5_stretched_4 9 rfl rfl)
theorem dX5_stretched_107 : decode cX5_stretched 107 = .ok (.aload_n 0, 1) := dk_42 (dk_at dksX5_stretched_4 12 rfl rfl)
theorem dX5_stretched_108 : decode cX5_stretched 108 = .ok (.getfield 301, 3) := dk_180 1 45 (dk_at dksX5_stretched_4 13 rfl rfl)
theorem dX5_stretched_111 : decode cX5_stretched 111 = .ok (.iconst 1, 1) := dk_4 (dk_at dksX5_stretched_4 16 rfl rfl)
theorem dX5_stretched_112 : decode cX5_stretched 112 = .ok (.isub, 1) := dk_100 (dk_at dksX5_stretched_4 17 rfl rfl)
theorem dX5_stretched_113 : decode cX5_stretched 113 = .ok (.dup2, 1) := dk_92 (dk_at dksX5_stretched_4 18 rfl rfl)
theorem dX5_stretched_114 : decode cX5_stretched 114 = .ok (.iaload, 1) := dk_46 (dk_at dksX5_stretched_4 19 rfl rfl)
theorem dX5_stretched_115 : decode cX5_stretched 115 = .ok (.iconst 1, 1) := dk_4 (dk_at dksX5_stretched_4 20 rfl rfl)
theorem dX5_stretched_116 : decode cX5_stretched 116 = .ok (.iadd, 1) := dk_96 (dk_at dksX5_stretched_4 21 rfl rfl)
theorem dX5_stretched_117 : decode cX5_stretched 117 = .ok (.iastore, 1) := dk_79 (dk_at dksX5_stretched_4 22 rfl rfl)
theorem dX5_stretched_118 : decode cX5_stretched 118 = .ok (.iload_n 2, 1) := dk_28 (dk_at dksX5_stretched_4 23 rfl rfl)
theorem dX5_stretched_119 : decode cX5_stretched 119 = .ok (.istore 4, 2) := dk_54 4 (dk_at dksX5_stretched_5 0 rfl rfl)
theorem dX5_stretched_121 : decode cX5_stretched 121 = .ok (.iload 4, 2) := dk_21 4 (dk_at dksX5_stretched_5 2 rfl rfl)
theorem dX5_stretched_123 : decode cX5_stretched 123 = .ok (.iload_n 1, 1) := dk_27 (dk_at dksX5_stretched_5 4 rfl rfl)
theorem dX5_stretched_124 : decode cX5_stretched 124 = .ok (.if_icmp .eq 32, 3) := dk_159 0 32 (dk_at dksX5_stretched_5 5 rfl rfl)
theorem dX5_stretched_127 : decode cX5_stretched 127 = .ok (.aload_n 0, 1) := dk_42 (dk_at dksX5_stretched_5 8 rfl rfl)
theorem dX5_stretched_128 : decode cX5_stretched 128 = .ok (.aload_n 0, 1) := dk_42 (dk_at dksX5_stretched_5 9 rfl rfl)
theorem dX5_stretched_129 : decode cX5_stretched 129 = .ok (.getfield 52, 3) := dk_180 0 52 (dk_at dksX5_stretched_5 10 rfl rfl)
theorem dX5_stretched_132 : decode cX5_stretched 132 = .ok (.iload 4, 2) := dk_21 4 (dk_at dksX5_stretched_5 13 rfl rfl)
theorem dX5_stretched_134 : decode cX5_stretched 134 = .ok (.iaload, 1) := dk_46 (dk_at dksX5_stretched_5 15 rfl rfl)
theorem dX5_stretched_135 : decode cX5_stretched 135 = .ok (.iconst 1, 1) := dk_4 (dk_at dksX5_stretched_5 16 rfl rfl)
theorem dX5_stretched_136 : decode cX5_stretched 136 = .ok (.invokevirtual 231, 3) := dk_182 0 231 (dk_at dksX5_stretched_5 17 rfl rfl)
theorem dX5_stretched_139 : decode cX5_stretched 139 = .ok (.aload_n 0, 1) := dk_42 (dk_at dksX5_stretched_5 20 rfl rfl)
theorem dX5_stretched_140 : decode cX5_stretched 140 = .ok (.aload_n 0, 1) := dk_42 (dk_at dksX5_stretched_5 21 rfl rfl)
theorem dX5_stretched_141 : decode cX5_stretched 141 = .ok (.getfield 52, 3) := dk_180 0 52 (dk_at dksX5_stretched_6 0 rfl rfl)
theorem dX5_stretched_144 : decode cX5_stretched 144 = .ok (.iload 4, 2) := dk_21 4 (dk_at dksX5_stretched_6 3 rfl rfl)
theorem dX5_stretched_146 : decode cX5_stretched 146 = .ok (.iaload, 1) := dk_46 (dk_at dksX5_stretched_6 5 rfl rfl)
theorem dX5_stretched_147 : decode cX5_stretched 147 = .ok (.iconst 1, 1) := dk_4 (dk_at dksX5_stretched_6 6 rfl rfl)
theorem dX5_stretched_148 : decode cX5_stretched 148 = .ok (.invokevirtual 217, 3) := dk_182 0 217 (dk_at dksX5_stretched_6 7 rfl rfl)
theorem dX5_stretched_151 : decode cX5_stretched 151 = .ok (.istore 4, 2) := dk_54 4 (dk_at dksX5_stretched_6 10 rfl rfl)
theorem dX5_stretched_153 : decode cX5_stretched 153 = .ok (.goto (-32), 3) := dk_167 255 224 (dk_at dksX5_stretched_6 12 rfl rfl)
theorem dX5_stretched_156 : decode cX5_stretched 156 = .ok (.iinc 3 1, 3) := dk_132 3 1 (dk_at dksX5_stretched_6 15 rfl rfl)
theorem dX5_stretched_159 : decode cX5_stretched 159 = .ok (.aload_n 0, 1) := dk_42 (dk_at dksX5_stretched_6 18 rfl rfl)
theorem dX5_stretched_160 : decode cX5_stretched 160 = .ok (.iload_n 1, 1) := dk_27 (dk_at dksX5_stretched_6 19 rfl rfl)
theorem dX5_stretched_161 : decode cX5_stretched 161 = .ok (.invokevirtual 228, 3) := dk_182 0 228 (dk_at dksX5_stretched_6 20 rfl rfl)
theorem dX5_stretched_164 : decode cX5_stretched 164 = .ok (.goto (-143), 3) := dk_167 255 113 (dk_at dksX5_stretched_7 0 rfl rfl)
theorem dX5_stretched_167 : decode cX5_stretched 167 = .ok (.iconst 1, 1) := dk_4 (dk_at dksX5_stretched_7 3 rfl rfl)
theorem dX5_stretched_168 : decode cX5_stretched 168 = .ok (.ireturn, 1) := dk_172 (dk_at dksX5_stretched_7 4 rfl rfl)
abbrev cX5_stretches : ByteArray := prog_17_method_75_code
def yX5_stretches : MethodName := ⟨RX5, "stretches", "(II)I"⟩
def dkwX5_stretches_1 : List UInt8 := [167, 0, 5, 16, 253, 172]
abbrev dktX5_stretches_1 : List UInt8 := dkwX5_stretches_1 ++ []
def dkwX5_stretches_0 : List UInt8 := [42, 27, 28, 182, 0, 137, 154, 0, 5, 2, 172, 42, 27, 28, 182, 1, 48, 153, 0, 10, 42, 180, 1, 45]
abbrev dktX5_stretches_0 : List UInt8 := dkwX5_stretches_0 ++ dktX5_stretches_1
theorem dksX5_stretches_0 : cX5_stretches.data.toList.drop 0 = dktX5_stretches_0 := by decide +kernel
theorem dksX5_stretches_1 : cX5_stretches.data.toList.drop 24 = dktX5_stretches_1 := dk_seg dksX5_stretches_0 24 rfl rfl
theorem dX5_stretches_0 : decode cX5_stretches 0 = .ok (.aload_n 0, 1) := dk_42 (dk_at dksX5_stretches_0 0 rfl rfl)
theorem dX5_stretches_1 : decode cX5_stretches 1 = .ok (.iload_n 1, 1) := dk_27 (dk_at dksX5_stretches_0 1 rfl rfl)
theorem dX5_stretches_2 : decode cX5_stretches 2 = .ok (.iload_n 2, 1) := dk_28 (dk_at dksX5_stretches_0 2 rfl rfl)
theorem dX5_stretches_3 : decode cX5_stretches 3 = .ok (.invokevirtual 137, 3) := dk_182 0 137 (dk_at dksX5_stretches_0 3 rfl rfl)
theorem dX5_stretches_6 : decode cX5_stretches 6 = .ok (.ifCond .ne 5, 3) := dk_154 0 5 (dk_at dksX5_stretches_0 6 rfl rfl)
theorem dX5_stretches_9 : decode cX5_stretches 9 = .ok (.iconst (-1), 1) := dk_2 (dk_at dksX5_stretches_0 9 rfl rfl)
theorem dX5_stretches_10 : decode cX5_stretches 10 = .ok (.ireturn, 1) := dk_172 (dk_at dksX5_stretches_0 10 rfl rfl)
theorem dX5_stretches_11 : decode cX5_stretches 11 = .ok (.aload_n 0, 1) := dk_42 (dk_at dksX5_stretches_0 11 rfl rfl)
theorem dX5_stretches_12 : decode cX5_stretches 12 = .ok (.iload_n 1, 1) := dk_27 (dk_at dksX5_stretches_0 12 rfl rfl)
theorem dX5_stretches_13 : decode cX5_stretches 13 = .ok (.iload_n 2, 1) := dk_28 (dk_at dksX5_stretches_0 13 rfl rfl)
theorem dX5_stretches_14 : decode cX5_stretches 14 = .ok (.invokevirtual 304, 3) := dk_182 1 48 (dk_at dksX5_stretches_0 14 rfl rfl)
theorem dX5_stretches_17 : decode cX5_stretches 17 = .ok (.ifCond .eq 10, 3) := dk_153 0 10 (dk_at dksX5_stretches_0 17 rfl rfl)
theorem dX5_stretches_20 : decode cX5_stretches 20 = .ok (.aload_n 0, 1) := dk_42 (dk_at dksX5_stretches_0 20 rfl rfl)
theorem dX5_stretches_21 : decode cX5_stretches 21 = .ok (.getfield 301, 3) := dk_180 1 45 (dk_at dksX5_stretches_0 21 rfl rfl)
theorem dX5_stretches_24 : decode cX5_stretches 24 = .ok (.goto 5, 3) := dk_167 0 5 (dk_at dksX5_stretches_1 0 rfl rfl)
theorem dX5_stretches_27 : decode cX5_stretches 27 = .ok (.bipush (-3), 2) := dk_16 253 (dk_at dksX5_stretches_1 3 rfl rfl)
theorem dX5_stretches_29 : decode cX5_stretches 29 = .ok (.ireturn, 1) := dk_172 (dk_at dksX5_stretches_1 5 rfl rfl)
abbrev cX5_dearest : ByteArray := prog_17_method_76_code
def yX5_dearest : MethodName := ⟨RX5, "dearest", "()I"⟩
def dkwX5_dearest_3 : List UInt8 := [180, 1, 4, 65, 42, 182, 1, 39, 132, 5, 1, 167, 255, 208, 27, 172]
abbrev dktX5_dearest_3 : List UInt8 := dkwX5_dearest_3 ++ []
def dkwX5_dearest_2 : List UInt8 := [182, 1, 22, 153, 0, 24, 27, 155, 0, 12, 42, 180, 1, 4, 32, 148, 158, 0, 11, 21, 5, 60, 42]
abbrev dktX5_dearest_2 : List UInt8 := dkwX5_dearest_2 ++ dktX5_dearest_3
def dkwX5_dearest_1 : List UInt8 := [65, 42, 182, 0, 107, 54, 4, 3, 54, 5, 21, 5, 21, 4, 162, 0, 47, 42, 21, 5, 182, 0, 165, 42]
abbrev dktX5_dearest_1 : List UInt8 := dkwX5_dearest_1 ++ dktX5_dearest_2
def dkwX5_dearest_0 : List UInt8 := [42, 182, 1, 16, 154, 0, 6, 16, 253, 172, 42, 182, 1, 32, 154, 0, 6, 16, 250, 172, 16, 251, 60, 9]
abbrev dktX5_dearest_0 : List UInt8 := dkwX5_dearest_0 ++ dktX5_dearest_1
theorem dksX5_dearest_0 : cX5_dearest.data.toList.drop 0 = dktX5_dearest_0 := by decide +kernel
theorem dksX5_dearest_1 : cX5_dearest.data.toList.drop 24 = dktX5_dearest_1 := dk_seg dksX5_dearest_0 24 rfl rfl
theorem dksX5_dearest_2 : cX5_dearest.data.toList.drop 48 = dktX5_dearest_2 := dk_seg dksX5_dearest_1 24 rfl rfl
theorem dksX5_dearest_3 : cX5_dearest.data.toList.drop 71 = dktX5_dearest_3 := dk_seg dksX5_dearest_2 23 rfl rfl
theorem dX5_dearest_0 : decode cX5_dearest 0 = .ok (.aload_n 0, 1) := dk_42 (dk_at dksX5_dearest_0 0 rfl rfl)
theorem dX5_dearest_1 : decode cX5_dearest 1 = .ok (.invokevirtual 272, 3) := dk_182 1 16 (dk_at dksX5_dearest_0 1 rfl rfl)
theorem dX5_dearest_4 : decode cX5_dearest 4 = .ok (.ifCond .ne 6, 3) := dk_154 0 6 (dk_at dksX5_dearest_0 4 rfl rfl)
theorem dX5_dearest_7 : decode cX5_dearest 7 = .ok (.bipush (-3), 2) := dk_16 253 (dk_at dksX5_dearest_0 7 rfl rfl)
theorem dX5_dearest_9 : decode cX5_dearest 9 = .ok (.ireturn, 1) := dk_172 (dk_at dksX5_dearest_0 9 rfl rfl)
theorem dX5_dearest_10 : decode cX5_dearest 10 = .ok (.aload_n 0, 1) := dk_42 (dk_at dksX5_dearest_0 10 rfl rfl)
theorem dX5_dearest_11 : decode cX5_dearest 11 = .ok (.invokevirtual 288, 3) := dk_182 1 32 (dk_at dksX5_dearest_0 11 rfl rfl)
theorem dX5_dearest_14 : decode cX5_dearest 14 = .ok (.ifCond .ne 6, 3) := dk_154 0 6 (dk_at dksX5_dearest_0 14 rfl rfl)
theorem dX5_dearest_17 : decode cX5_dearest 17 = .ok (.bipush (-6), 2) := dk_16 250 (dk_at dksX5_dearest_0 17 rfl rfl)
theorem dX5_dearest_19 : decode cX5_dearest 19 = .ok (.ireturn, 1) := dk_172 (dk_at dksX5_dearest_0 19 rfl rfl)
theorem dX5_dearest_20 : decode cX5_dearest 20 = .ok (.bipush (-5), 2) := dk_16 251 (dk_at dksX5_dearest_0 20 rfl rfl)
theorem dX5_dearest_22 : decode cX5_dearest 22 = .ok (.istore_n 1, 1) := dk_60 (dk_at dksX5_dearest_0 22 rfl rfl)
theorem dX5_dearest_23 : decode cX5_dearest 23 = .ok (.lconst 0, 1) := dk_9 (dk_at dksX5_dearest_0 23 rfl rfl)
theorem dX5_dearest_24 : decode cX5_dearest 24 = .ok (.lstore_n 2, 1) := dk_65 (dk_at dksX5_dearest_1 0 rfl rfl)
theorem dX5_dearest_25 : decode cX5_dearest 25 = .ok (.aload_n 0, 1) := dk_42 (dk_at dksX5_dearest_1 1 rfl rfl)
theorem dX5_dearest_26 : decode cX5_dearest 26 = .ok (.invokevirtual 107, 3) := dk_182 0 107 (dk_at dksX5_dearest_1 2 rfl rfl)
theorem dX5_dearest_29 : decode cX5_dearest 29 = .ok (.istore 4, 2) := dk_54 4 (dk_at dksX5_dearest_1 5 rfl rfl)
theorem dX5_dearest_31 : decode cX5_dearest 31 = .ok (.iconst 0, 1) := dk_3 (dk_at dksX5_dearest_1 7 rfl rfl)
theorem dX5_dearest_32 : decode cX5_dearest 32 = .ok (.istore 5, 2) := dk_54 5 (dk_at dksX5_dearest_1 8 rfl rfl)
theorem dX5_dearest_34 : decode cX5_dearest 34 = .ok (.iload 5, 2) := dk_21 5 (dk_at dksX5_dearest_1 10 rfl rfl)
theorem dX5_dearest_36 : decode cX5_dearest 36 = .ok (.iload 4, 2) := dk_21 4 (dk_at dksX5_dearest_1 12 rfl rfl)
theorem dX5_dearest_38 : decode cX5_dearest 38 = .ok (.if_icmp .ge 47, 3) := dk_162 0 47 (dk_at dksX5_dearest_1 14 rfl rfl)
theorem dX5_dearest_41 : decode cX5_dearest 41 = .ok (.aload_n 0, 1) := dk_42 (dk_at dksX5_dearest_1 17 rfl rfl)
theorem dX5_dearest_42 : decode cX5_dearest 42 = .ok (.iload 5, 2) := dk_21 5 (dk_at dksX5_dearest_1 18 rfl rfl)
theorem dX5_dearest_44 : decode cX5_dearest 44 = .ok (.invokevirtual 165, 3) := dk_182 0 165 (dk_at dksX5_dearest_1 20 rfl rfl)
theorem dX5_dearest_47 : decode cX5_dearest 47 = .ok (.aload_n 0, 1) := dk_42 (dk_at dksX5_dearest_1 23 rfl rfl)
theorem dX5_dearest_48 : decode cX5_dearest 48 = .ok (.invokevirtual 278, 3) := dk_182 1 22 (dk_at dksX5_dearest_2 0 rfl rfl)
theorem dX5_dearest_51 : decode cX5_dearest 51 = .ok (.ifCond .eq 24, 3) := dk_153 0 24 (dk_at dksX5_dearest_2 3 rfl rfl)
theorem dX5_dearest_54 : decode cX5_dearest 54 = .ok (.iload_n 1, 1) := dk_27 (dk_at dksX5_dearest_2 6 rfl rfl)
theorem dX5_dearest_55 : decode cX5_dearest 55 = .ok (.ifCond .lt 12, 3) := dk_155 0 12 (dk_at dksX5_dearest_2 7 rfl rfl)
theorem dX5_dearest_58 : decode cX5_dearest 58 = .ok (.aload_n 0, 1) := dk_42 (dk_at dksX5_dearest_2 10 rfl rfl)
theorem dX5_dearest_59 : decode cX5_dearest 59 = .ok (.getfield 260, 3) := dk_180 1 4 (dk_at dksX5_dearest_2 11 rfl rfl)
theorem dX5_dearest_62 : decode cX5_dearest 62 = .ok (.lload_n 2, 1) := dk_32 (dk_at dksX5_dearest_2 14 rfl rfl)
theorem dX5_dearest_63 : decode cX5_dearest 63 = .ok (.lcmp, 1) := dk_148 (dk_at dksX5_dearest_2 15 rfl rfl)
theorem dX5_dearest_64 : decode cX5_dearest 64 = .ok (.ifCond .le 11, 3) := dk_158 0 11 (dk_at dksX5_dearest_2 16 rfl rfl)
theorem dX5_dearest_67 : decode cX5_dearest 67 = .ok (.iload 5, 2) := dk_21 5 (dk_at dksX5_dearest_2 19 rfl rfl)
theorem dX5_dearest_69 : decode cX5_dearest 69 = .ok (.istore_n 1, 1) := dk_60 (dk_at dksX5_dearest_2 21 rfl rfl)
theorem dX5_dearest_70 : decode cX5_dearest 70 = .ok (.aload_n 0, 1) := dk_42 (dk_at dksX5_dearest_2 22 rfl rfl)
theorem dX5_dearest_71 : decode cX5_dearest 71 = .ok (.getfield 260, 3) := dk_180 1 4 (dk_at dksX5_dearest_3 0 rfl rfl)
theorem dX5_dearest_74 : decode cX5_dearest 74 = .ok (.lstore_n 2, 1) := dk_65 (dk_at dksX5_dearest_3 3 rfl rfl)
theorem dX5_dearest_75 : decode cX5_dearest 75 = .ok (.aload_n 0, 1) := dk_42 (dk_at dksX5_dearest_3 4 rfl rfl)
theorem dX5_dearest_76 : decode cX5_dearest 76 = .ok (.invokevirtual 295, 3) := dk_182 1 39 (dk_at dksX5_dearest_3 5 rfl rfl)
theorem dX5_dearest_79 : decode cX5_dearest 79 = .ok (.iinc 5 1, 3) := dk_132 5 1 (dk_at dksX5_dearest_3 8 rfl rfl)
theorem dX5_dearest_82 : decode cX5_dearest 82 = .ok (.goto (-48), 3) := dk_167 255 208 (dk_at dksX5_dearest_3 11 rfl rfl)
theorem dX5_dearest_85 : decode cX5_dearest 85 = .ok (.iload_n 1, 1) := dk_27 (dk_at dksX5_dearest_3 14 rfl rfl)
theorem dX5_dearest_86 : decode cX5_dearest 86 = .ok (.ireturn, 1) := dk_172 (dk_at dksX5_dearest_3 15 rfl rfl)
abbrev cX5_judge : ByteArray := prog_17_method_84_code
def yX5_judge : MethodName := ⟨RX5, "judge", "(II)I"⟩
def dkwX5_judge_4 : List UInt8 := [21, 4, 46, 159, 0, 5, 5, 172, 132, 4, 1, 167, 255, 225, 6, 172]
abbrev dktX5_judge_4 : List UInt8 := dkwX5_judge_4 ++ []
def dkwX5_judge_3 : List UInt8 := [3, 54, 4, 21, 4, 42, 182, 0, 107, 162, 0, 28, 42, 180, 0, 89, 21, 4, 46, 42, 180, 0, 43]
abbrev dktX5_judge_3 : List UInt8 := dkwX5_judge_3 ++ dktX5_judge_4
def dkwX5_judge_2 : List UInt8 := [180, 0, 89, 21, 4, 42, 180, 0, 43, 21, 4, 46, 79, 132, 4, 1, 167, 255, 230, 42, 182, 1, 16, 87]
abbrev dktX5_judge_2 : List UInt8 := dkwX5_judge_2 ++ dktX5_judge_3
def dkwX5_judge_1 : List UInt8 := [42, 182, 1, 74, 153, 0, 5, 4, 172, 3, 54, 4, 21, 4, 42, 182, 0, 107, 162, 0, 23, 42]
abbrev dktX5_judge_1 : List UInt8 := dkwX5_judge_1 ++ dktX5_judge_2
def dkwX5_judge_0 : List UInt8 := [42, 27, 28, 182, 1, 68, 62, 29, 153, 0, 5, 29, 172, 42, 27, 28, 182, 1, 71, 154, 0, 5, 3, 172]
abbrev dktX5_judge_0 : List UInt8 := dkwX5_judge_0 ++ dktX5_judge_1
theorem dksX5_judge_0 : cX5_judge.data.toList.drop 0 = dktX5_judge_0 := by decide +kernel
theorem dksX5_judge_1 : cX5_judge.data.toList.drop 24 = dktX5_judge_1 := dk_seg dksX5_judge_0 24 rfl rfl
theorem dksX5_judge_2 : cX5_judge.data.toList.drop 46 = dktX5_judge_2 := dk_seg dksX5_judge_1 22 rfl rfl
theorem dksX5_judge_3 : cX5_judge.data.toList.drop 70 = dktX5_judge_3 := dk_seg dksX5_judge_2 24 rfl rfl
theorem dksX5_judge_4 : cX5_judge.data.toList.drop 93 = dktX5_judge_4 := dk_seg dksX5_judge_3 23 rfl rfl
theorem dX5_judge_0 : decode cX5_judge 0 = .ok (.aload_n 0, 1) := dk_42 (dk_at dksX5_judge_0 0 rfl rfl)
theorem dX5_judge_1 : decode cX5_judge 1 = .ok (.iload_n 1, 1) := dk_27 (dk_at dksX5_judge_0 1 rfl rfl)
theorem dX5_judge_2 : decode cX5_judge 2 = .ok (.iload_n 2, 1) := dk_28 (dk_at dksX5_judge_0 2 rfl rfl)
theorem dX5_judge_3 : decode cX5_judge 3 = .ok (.invokevirtual 324, 3) := dk_182 1 68 (dk_at dksX5_judge_0 3 rfl rfl)
theorem dX5_judge_6 : decode cX5_judge 6 = .ok (.istore_n 3, 1) := dk_62 (dk_at dksX5_judge_0 6 rfl rfl)
theorem dX5_judge_7 : decode cX5_judge 7 = .ok (.iload_n 3, 1) := dk_29 (dk_at dksX5_judge_0 7 rfl rfl)
theorem dX5_judge_8 : decode cX5_judge 8 = .ok (.ifCond .eq 5, 3) := dk_153 0 5 (dk_at dksX5_judge_0 8 rfl rfl)
theorem dX5_judge_11 : decode cX5_judge 11 = .ok (.iload_n 3, 1) := dk_29 (dk_at dksX5_judge_0 11 rfl rfl)
theorem dX5_judge_12 : decode cX5_judge 12 = .ok (.ireturn, 1) := dk_172 (dk_at dksX5_judge_0 12 rfl rfl)
theorem dX5_judge_13 : decode cX5_judge 13 = .ok (.aload_n 0, 1) := dk_42 (dk_at dksX5_judge_0 13 rfl rfl)
theorem dX5_judge_14 : decode cX5_judge 14 = .ok (.iload_n 1, 1) := dk_27 (dk_at dksX5_judge_0 14 rfl rfl)
theorem dX5_judge_15 : decode cX5_judge 15 = .ok (.iload_n 2, 1) := dk_28 (dk_at dksX5_judge_0 15 rfl rfl)
theorem dX5_judge_16 : decode cX5_judge 16 = .ok (.invokevirtual 327, 3) := dk_182 1 71 (dk_at dksX5_judge_0 16 rfl rfl)
theorem dX5_judge_19 : decode cX5_judge 19 = .ok (.ifCond .ne 5, 3) := dk_154 0 5 (dk_at dksX5_judge_0 19 rfl rfl)
theorem dX5_judge_22 : decode cX5_judge 22 = .ok (.iconst 0, 1) := dk_3 (dk_at dksX5_judge_0 22 rfl rfl)
theorem dX5_judge_23 : decode cX5_judge 23 = .ok (.ireturn, 1) := dk_172 (dk_at dksX5_judge_0 23 rfl rfl)
theorem dX5_judge_24 : decode cX5_judge 24 = .ok (.aload_n 0, 1) := dk_42 (dk_at dksX5_judge_1 0 rfl rfl)
theorem dX5_judge_25 : decode cX5_judge 25 = .ok (.invokevirtual 330, 3) := dk_182 1 74 (dk_at dksX5_judge_1 1 rfl rfl)
theorem dX5_judge_28 : decode cX5_judge 28 = .ok (.ifCond .eq 5, 3) := dk_153 0 5 (dk_at dksX5_judge_1 4 rfl rfl)
theorem dX5_judge_31 : decode cX5_judge 31 = .ok (.iconst 1, 1) := dk_4 (dk_at dksX5_judge_1 7 rfl rfl)
theorem dX5_judge_32 : decode cX5_judge 32 = .ok (.ireturn, 1) := dk_172 (dk_at dksX5_judge_1 8 rfl rfl)
theorem dX5_judge_33 : decode cX5_judge 33 = .ok (.iconst 0, 1) := dk_3 (dk_at dksX5_judge_1 9 rfl rfl)
theorem dX5_judge_34 : decode cX5_judge 34 = .ok (.istore 4, 2) := dk_54 4 (dk_at dksX5_judge_1 10 rfl rfl)
theorem dX5_judge_36 : decode cX5_judge 36 = .ok (.iload 4, 2) := dk_21 4 (dk_at dksX5_judge_1 12 rfl rfl)
theorem dX5_judge_38 : decode cX5_judge 38 = .ok (.aload_n 0, 1) := dk_42 (dk_at dksX5_judge_1 14 rfl rfl)
theorem dX5_judge_39 : decode cX5_judge 39 = .ok (.invokevirtual 107, 3) := dk_182 0 107 (dk_at dksX5_judge_1 15 rfl rfl)
theorem dX5_judge_42 : decode cX5_judge 42 = .ok (.if_icmp .ge 23, 3) := dk_162 0 23 (dk_at dksX5_judge_1 18 rfl rfl)
theorem dX5_judge_45 : decode cX5_judge 45 = .ok (.aload_n 0, 1) := dk_42 (dk_at dksX5_judge_1 21 rfl rfl)
theorem dX5_judge_46 : decode cX5_judge 46 = .ok (.getfield 89, 3) := dk_180 0 89 (dk_at dksX5_judge_2 0 rfl rfl)
theorem dX5_judge_49 : decode cX5_judge 49 = .ok (.iload 4, 2) := dk_21 4 (dk_at dksX5_judge_2 3 rfl rfl)
theorem dX5_judge_51 : decode cX5_judge 51 = .ok (.aload_n 0, 1) := dk_42 (dk_at dksX5_judge_2 5 rfl rfl)
theorem dX5_judge_52 : decode cX5_judge 52 = .ok (.getfield 43, 3) := dk_180 0 43 (dk_at dksX5_judge_2 6 rfl rfl)
theorem dX5_judge_55 : decode cX5_judge 55 = .ok (.iload 4, 2) := dk_21 4 (dk_at dksX5_judge_2 9 rfl rfl)
theorem dX5_judge_57 : decode cX5_judge 57 = .ok (.iaload, 1) := dk_46 (dk_at dksX5_judge_2 11 rfl rfl)
theorem dX5_judge_58 : decode cX5_judge 58 = .ok (.iastore, 1) := dk_79 (dk_at dksX5_judge_2 12 rfl rfl)
theorem dX5_judge_59 : decode cX5_judge 59 = .ok (.iinc 4 1, 3) := dk_132 4 1 (dk_at dksX5_judge_2 13 rfl rfl)
theorem dX5_judge_62 : decode cX5_judge 62 = .ok (.goto (-26), 3) := dk_167 255 230 (dk_at dksX5_judge_2 16 rfl rfl)
theorem dX5_judge_65 : decode cX5_judge 65 = .ok (.aload_n 0, 1) := dk_42 (dk_at dksX5_judge_2 19 rfl rfl)
theorem dX5_judge_66 : decode cX5_judge 66 = .ok (.invokevirtual 272, 3) := dk_182 1 16 (dk_at dksX5_judge_2 20 rfl rfl)
theorem dX5_judge_69 : decode cX5_judge 69 = .ok (.pop, 1) := dk_87 (dk_at dksX5_judge_2 23 rfl rfl)
theorem dX5_judge_70 : decode cX5_judge 70 = .ok (.iconst 0, 1) := dk_3 (dk_at dksX5_judge_3 0 rfl rfl)
theorem dX5_judge_71 : decode cX5_judge 71 = .ok (.istore 4, 2) := dk_54 4 (dk_at dksX5_judge_3 1 rfl rfl)
theorem dX5_judge_73 : decode cX5_judge 73 = .ok (.iload 4, 2) := dk_21 4 (dk_at dksX5_judge_3 3 rfl rfl)
theorem dX5_judge_75 : decode cX5_judge 75 = .ok (.aload_n 0, 1) := dk_42 (dk_at dksX5_judge_3 5 rfl rfl)
theorem dX5_judge_76 : decode cX5_judge 76 = .ok (.invokevirtual 107, 3) := dk_182 0 107 (dk_at dksX5_judge_3 6 rfl rfl)
theorem dX5_judge_79 : decode cX5_judge 79 = .ok (.if_icmp .ge 28, 3) := dk_162 0 28 (dk_at dksX5_judge_3 9 rfl rfl)
theorem dX5_judge_82 : decode cX5_judge 82 = .ok (.aload_n 0, 1) := dk_42 (dk_at dksX5_judge_3 12 rfl rfl)
theorem dX5_judge_83 : decode cX5_judge 83 = .ok (.getfield 89, 3) := dk_180 0 89 (dk_at dksX5_judge_3 13 rfl rfl)
theorem dX5_judge_86 : decode cX5_judge 86 = .ok (.iload 4, 2) := dk_21 4 (dk_at dksX5_judge_3 16 rfl rfl)
theorem dX5_judge_88 : decode cX5_judge 88 = .ok (.iaload, 1) := dk_46 (dk_at dksX5_judge_3 18 rfl rfl)
theorem dX5_judge_89 : decode cX5_judge 89 = .ok (.aload_n 0, 1) := dk_42 (dk_at dksX5_judge_3 19 rfl rfl)
theorem dX5_judge_90 : decode cX5_judge 90 = .ok (.getfield 43, 3) := dk_180 0 43 (dk_at dksX5_judge_3 20 rfl rfl)
theorem dX5_judge_93 : decode cX5_judge 93 = .ok (.iload 4, 2) := dk_21 4 (dk_at dksX5_judge_4 0 rfl rfl)
theorem dX5_judge_95 : decode cX5_judge 95 = .ok (.iaload, 1) := dk_46 (dk_at dksX5_judge_4 2 rfl rfl)
theorem dX5_judge_96 : decode cX5_judge 96 = .ok (.if_icmp .eq 5, 3) := dk_159 0 5 (dk_at dksX5_judge_4 3 rfl rfl)
theorem dX5_judge_99 : decode cX5_judge 99 = .ok (.iconst 2, 1) := dk_5 (dk_at dksX5_judge_4 6 rfl rfl)
theorem dX5_judge_100 : decode cX5_judge 100 = .ok (.ireturn, 1) := dk_172 (dk_at dksX5_judge_4 7 rfl rfl)
theorem dX5_judge_101 : decode cX5_judge 101 = .ok (.iinc 4 1, 3) := dk_132 4 1 (dk_at dksX5_judge_4 8 rfl rfl)
theorem dX5_judge_104 : decode cX5_judge 104 = .ok (.goto (-31), 3) := dk_167 255 225 (dk_at dksX5_judge_4 11 rfl rfl)
theorem dX5_judge_107 : decode cX5_judge 107 = .ok (.iconst 3, 1) := dk_6 (dk_at dksX5_judge_4 14 rfl rfl)
theorem dX5_judge_108 : decode cX5_judge 108 = .ok (.ireturn, 1) := dk_172 (dk_at dksX5_judge_4 15 rfl rfl)
abbrev cX5_whyNot : ByteArray := prog_17_method_78_code
def yX5_whyNot : MethodName := ⟨RX5, "whyNot", "(II)I"⟩
def dkwX5_whyNot_2 : List UInt8 := [172]
abbrev dktX5_whyNot_2 : List UInt8 := dkwX5_whyNot_2 ++ []
def dkwX5_whyNot_1 : List UInt8 := [155, 0, 18, 28, 42, 180, 0, 37, 27, 46, 42, 182, 0, 107, 100, 164, 0, 8, 16, 243, 167, 0, 4, 3]
abbrev dktX5_whyNot_1 : List UInt8 := dkwX5_whyNot_1 ++ dktX5_whyNot_2
def dkwX5_whyNot_0 : List UInt8 := [27, 184, 1, 53, 154, 0, 5, 2, 172, 42, 180, 0, 37, 27, 46, 156, 0, 6, 16, 245, 172, 28]
abbrev dktX5_whyNot_0 : List UInt8 := dkwX5_whyNot_0 ++ dktX5_whyNot_1
theorem dksX5_whyNot_0 : cX5_whyNot.data.toList.drop 0 = dktX5_whyNot_0 := by decide +kernel
theorem dksX5_whyNot_1 : cX5_whyNot.data.toList.drop 22 = dktX5_whyNot_1 := dk_seg dksX5_whyNot_0 22 rfl rfl
theorem dksX5_whyNot_2 : cX5_whyNot.data.toList.drop 46 = dktX5_whyNot_2 := dk_seg dksX5_whyNot_1 24 rfl rfl
theorem dX5_whyNot_0 : decode cX5_whyNot 0 = .ok (.iload_n 1, 1) := dk_27 (dk_at dksX5_whyNot_0 0 rfl rfl)
theorem dX5_whyNot_1 : decode cX5_whyNot 1 = .ok (.invokestatic 309, 3) := dk_184 1 53 (dk_at dksX5_whyNot_0 1 rfl rfl)
theorem dX5_whyNot_4 : decode cX5_whyNot 4 = .ok (.ifCond .ne 5, 3) := dk_154 0 5 (dk_at dksX5_whyNot_0 4 rfl rfl)
theorem dX5_whyNot_7 : decode cX5_whyNot 7 = .ok (.iconst (-1), 1) := dk_2 (dk_at dksX5_whyNot_0 7 rfl rfl)
theorem dX5_whyNot_8 : decode cX5_whyNot 8 = .ok (.ireturn, 1) := dk_172 (dk_at dksX5_whyNot_0 8 rfl rfl)
theorem dX5_whyNot_9 : decode cX5_whyNot 9 = .ok (.aload_n 0, 1) := dk_42 (dk_at dksX5_whyNot_0 9 rfl rfl)
theorem dX5_whyNot_10 : decode cX5_whyNot 10 = .ok (.getfield 37, 3) := dk_180 0 37 (dk_at dksX5_whyNot_0 10 rfl rfl)
theorem dX5_whyNot_13 : decode cX5_whyNot 13 = .ok (.iload_n 1, 1) := dk_27 (dk_at dksX5_whyNot_0 13 rfl rfl)
theorem dX5_whyNot_14 : decode cX5_whyNot 14 = .ok (.iaload, 1) := dk_46 (dk_at dksX5_whyNot_0 14 rfl rfl)
theorem dX5_whyNot_15 : decode cX5_whyNot 15 = .ok (.ifCond .ge 6, 3) := dk_156 0 6 (dk_at dksX5_whyNot_0 15 rfl rfl)
theorem dX5_whyNot_18 : decode cX5_whyNot 18 = .ok (.bipush (-11), 2) := dk_16 245 (dk_at dksX5_whyNot_0 18 rfl rfl)
theorem dX5_whyNot_20 : decode cX5_whyNot 20 = .ok (.ireturn, 1) := dk_172 (dk_at dksX5_whyNot_0 20 rfl rfl)
theorem dX5_whyNot_21 : decode cX5_whyNot 21 = .ok (.iload_n 2, 1) := dk_28 (dk_at dksX5_whyNot_0 21 rfl rfl)
theorem dX5_whyNot_22 : decode cX5_whyNot 22 = .ok (.ifCond .lt 18, 3) := dk_155 0 18 (dk_at dksX5_whyNot_1 0 rfl rfl)
theorem dX5_whyNot_25 : decode cX5_whyNot 25 = .ok (.iload_n 2, 1) := dk_28 (dk_at dksX5_whyNot_1 3 rfl rfl)
theorem dX5_whyNot_26 : decode cX5_whyNot 26 = .ok (.aload_n 0, 1) := dk_42 (dk_at dksX5_whyNot_1 4 rfl rfl)
theorem dX5_whyNot_27 : decode cX5_whyNot 27 = .ok (.getfield 37, 3) := dk_180 0 37 (dk_at dksX5_whyNot_1 5 rfl rfl)
theorem dX5_whyNot_30 : decode cX5_whyNot 30 = .ok (.iload_n 1, 1) := dk_27 (dk_at dksX5_whyNot_1 8 rfl rfl)
theorem dX5_whyNot_31 : decode cX5_whyNot 31 = .ok (.iaload, 1) := dk_46 (dk_at dksX5_whyNot_1 9 rfl rfl)
theorem dX5_whyNot_32 : decode cX5_whyNot 32 = .ok (.aload_n 0, 1) := dk_42 (dk_at dksX5_whyNot_1 10 rfl rfl)
theorem dX5_whyNot_33 : decode cX5_whyNot 33 = .ok (.invokevirtual 107, 3) := dk_182 0 107 (dk_at dksX5_whyNot_1 11 rfl rfl)
theorem dX5_whyNot_36 : decode cX5_whyNot 36 = .ok (.isub, 1) := dk_100 (dk_at dksX5_whyNot_1 14 rfl rfl)
theorem dX5_whyNot_37 : decode cX5_whyNot 37 = .ok (.if_icmp .le 8, 3) := dk_164 0 8 (dk_at dksX5_whyNot_1 15 rfl rfl)
theorem dX5_whyNot_40 : decode cX5_whyNot 40 = .ok (.bipush (-13), 2) := dk_16 243 (dk_at dksX5_whyNot_1 18 rfl rfl)
theorem dX5_whyNot_42 : decode cX5_whyNot 42 = .ok (.goto 4, 3) := dk_167 0 4 (dk_at dksX5_whyNot_1 20 rfl rfl)
theorem dX5_whyNot_45 : decode cX5_whyNot 45 = .ok (.iconst 0, 1) := dk_3 (dk_at dksX5_whyNot_1 23 rfl rfl)
theorem dX5_whyNot_46 : decode cX5_whyNot 46 = .ok (.ireturn, 1) := dk_172 (dk_at dksX5_whyNot_2 0 rfl rfl)
abbrev cX5_isList : ByteArray := prog_17_method_77_code
def yX5_isList : MethodName := ⟨RX5, "isList", "(I)Z"⟩
def dkwX5_isList_0 : List UInt8 := [26, 133, 9, 20, 1, 51, 184, 0, 99, 172]
abbrev dktX5_isList_0 : List UInt8 := dkwX5_isList_0 ++ []
theorem dksX5_isList_0 : cX5_isList.data.toList.drop 0 = dktX5_isList_0 := by decide +kernel
theorem dX5_isList_0 : decode cX5_isList 0 = .ok (.iload_n 0, 1) := dk_26 (dk_at dksX5_isList_0 0 rfl rfl)
theorem dX5_isList_1 : decode cX5_isList 1 = .ok (.i2l, 1) := dk_133 (dk_at dksX5_isList_0 1 rfl rfl)
theorem dX5_isList_2 : decode cX5_isList 2 = .ok (.lconst 0, 1) := dk_9 (dk_at dksX5_isList_0 2 rfl rfl)
theorem dX5_isList_3 : decode cX5_isList 3 = .ok (.ldc2_w 307, 3) := dk_20 1 51 (dk_at dksX5_isList_0 3 rfl rfl)
theorem dX5_isList_6 : decode cX5_isList 6 = .ok (.invokestatic 99, 3) := dk_184 0 99 (dk_at dksX5_isList_0 6 rfl rfl)
theorem dX5_isList_9 : decode cX5_isList 9 = .ok (.ireturn, 1) := dk_172 (dk_at dksX5_isList_0 9 rfl rfl)
abbrev cX5_tells : ByteArray := prog_17_method_79_code
def yX5_tells : MethodName := ⟨RX5, "tells", "(II)Z"⟩
def dkwX5_tells_4 : List UInt8 := [172]
abbrev dktX5_tells_4 : List UInt8 := dkwX5_tells_4 ++ []
def dkwX5_tells_3 : List UInt8 := [182, 0, 95, 162, 0, 20, 42, 180, 0, 46, 29, 46, 153, 0, 5, 3, 172, 132, 3, 1, 167, 255, 234, 4]
abbrev dktX5_tells_3 : List UInt8 := dkwX5_tells_3 ++ dktX5_tells_4
def dkwX5_tells_2 : List UInt8 := [42, 180, 0, 43, 29, 22, 4, 136, 79, 132, 3, 1, 167, 255, 199, 42, 182, 0, 235, 3, 62, 29, 42]
abbrev dktX5_tells_2 : List UInt8 := dkwX5_tells_2 ++ dktX5_tells_3
def dkwX5_tells_1 : List UInt8 := [55, 4, 22, 4, 42, 29, 182, 0, 159, 133, 42, 29, 182, 0, 162, 133, 184, 0, 99, 154, 0, 5, 3, 172]
abbrev dktX5_tells_1 : List UInt8 := dkwX5_tells_1 ++ dktX5_tells_2
def dkwX5_tells_0 : List UInt8 := [3, 62, 29, 42, 182, 0, 107, 162, 0, 55, 42, 180, 0, 40, 16, 30, 27, 104, 28, 96, 29, 96, 47]
abbrev dktX5_tells_0 : List UInt8 := dkwX5_tells_0 ++ dktX5_tells_1
theorem dksX5_tells_0 : cX5_tells.data.toList.drop 0 = dktX5_tells_0 := by decide +kernel
theorem dksX5_tells_1 : cX5_tells.data.toList.drop 23 = dktX5_tells_1 := dk_seg dksX5_tells_0 23 rfl rfl
theorem dksX5_tells_2 : cX5_tells.data.toList.drop 47 = dktX5_tells_2 := dk_seg dksX5_tells_1 24 rfl rfl
theorem dksX5_tells_3 : cX5_tells.data.toList.drop 70 = dktX5_tells_3 := dk_seg dksX5_tells_2 23 rfl rfl
theorem dksX5_tells_4 : cX5_tells.data.toList.drop 94 = dktX5_tells_4 := dk_seg dksX5_tells_3 24 rfl rfl
theorem dX5_tells_0 : decode cX5_tells 0 = .ok (.iconst 0, 1) := dk_3 (dk_at dksX5_tells_0 0 rfl rfl)
theorem dX5_tells_1 : decode cX5_tells 1 = .ok (.istore_n 3, 1) := dk_62 (dk_at dksX5_tells_0 1 rfl rfl)
theorem dX5_tells_2 : decode cX5_tells 2 = .ok (.iload_n 3, 1) := dk_29 (dk_at dksX5_tells_0 2 rfl rfl)
theorem dX5_tells_3 : decode cX5_tells 3 = .ok (.aload_n 0, 1) := dk_42 (dk_at dksX5_tells_0 3 rfl rfl)
theorem dX5_tells_4 : decode cX5_tells 4 = .ok (.invokevirtual 107, 3) := dk_182 0 107 (dk_at dksX5_tells_0 4 rfl rfl)
theorem dX5_tells_7 : decode cX5_tells 7 = .ok (.if_icmp .ge 55, 3) := dk_162 0 55 (dk_at dksX5_tells_0 7 rfl rfl)
theorem dX5_tells_10 : decode cX5_tells 10 = .ok (.aload_n 0, 1) := dk_42 (dk_at dksX5_tells_0 10 rfl rfl)
theorem dX5_tells_11 : decode cX5_tells 11 = .ok (.getfield 40, 3) := dk_180 0 40 (dk_at dksX5_tells_0 11 rfl rfl)
theorem dX5_tells_14 : decode cX5_tells 14 = .ok (.bipush 30, 2) := dk_16 30 (dk_at dksX5_tells_0 14 rfl rfl)
theorem dX5_tells_16 : decode cX5_tells 16 = .ok (.iload_n 1, 1) := dk_27 (dk_at dksX5_tells_0 16 rfl rfl)
theorem dX5_tells_17 : decode cX5_tells 17 = .ok (.imul, 1) := dk_104 (dk_at dksX5_tells_0 17 rfl rfl)
theorem dX5_tells_18 : decode cX5_tells 18 = .ok (.iload_n 2, 1) := dk_28 (dk_at dksX5_tells_0 18 rfl rfl)
theorem dX5_tells_19 : decode cX5_tells 19 = .ok (.iadd, 1) := dk_96 (dk_at dksX5_tells_0 19 rfl rfl)
theorem dX5_tells_20 : decode cX5_tells 20 = .ok (.iload_n 3, 1) := dk_29 (dk_at dksX5_tells_0 20 rfl rfl)
theorem dX5_tells_21 : decode cX5_tells 21 = .ok (.iadd, 1) := dk_96 (dk_at dksX5_tells_0 21 rfl rfl)
theorem dX5_tells_22 : decode cX5_tells 22 = .ok (.laload, 1) := dk_47 (dk_at dksX5_tells_0 22 rfl rfl)
theorem dX5_tells_23 : decode cX5_tells 23 = .ok (.lstore 4, 2) := dk_55 4 (dk_at dksX5_tells_1 0 rfl rfl)
theorem dX5_tells_25 : decode cX5_tells 25 = .ok (.lload 4, 2) := dk_22 4 (dk_at dksX5_tells_1 2 rfl rfl)
theorem dX5_tells_27 : decode cX5_tells 27 = .ok (.aload_n 0, 1) := dk_42 (dk_at dksX5_tells_1 4 rfl rfl)
theorem dX5_tells_28 : decode cX5_tells 28 = .ok (.iload_n 3, 1) := dk_29 (dk_at dksX5_tells_1 5 rfl rfl)
theorem dX5_tells_29 : decode cX5_tells 29 = .ok (.invokevirtual 159, 3) := dk_182 0 159 (dk_at dksX5_tells_1 6 rfl rfl)
theorem dX5_tells_32 : decode cX5_tells 32 = .ok (.i2l, 1) := dk_133 (dk_at dksX5_tells_1 9 rfl rfl)
theorem dX5_tells_33 : decode cX5_tells 33 = .ok (.aload_n 0, 1) := dk_42 (dk_at dksX5_tells_1 10 rfl rfl)
theorem dX5_tells_34 : decode cX5_tells 34 = .ok (.iload_n 3, 1) := dk_29 (dk_at dksX5_tells_1 11 rfl rfl)
theorem dX5_tells_35 : decode cX5_tells 35 = .ok (.invokevirtual 162, 3) := dk_182 0 162 (dk_at dksX5_tells_1 12 rfl rfl)
theorem dX5_tells_38 : decode cX5_tells 38 = .ok (.i2l, 1) := dk_133 (dk_at dksX5_tells_1 15 rfl rfl)
theorem dX5_tells_39 : decode cX5_tells 39 = .ok (.invokestatic 99, 3) := dk_184 0 99 (dk_at dksX5_tells_1 16 rfl rfl)
theorem dX5_tells_42 : decode cX5_tells 42 = .ok (.ifCond .ne 5, 3) := dk_154 0 5 (dk_at dksX5_tells_1 19 rfl rfl)
theorem dX5_tells_45 : decode cX5_tells 45 = .ok (.iconst 0, 1) := dk_3 (dk_at dksX5_tells_1 22 rfl rfl)
theorem dX5_tells_46 : decode cX5_tells 46 = .ok (.ireturn, 1) := dk_172 (dk_at dksX5_tells_1 23 rfl rfl)
theorem dX5_tells_47 : decode cX5_tells 47 = .ok (.aload_n 0, 1) := dk_42 (dk_at dksX5_tells_2 0 rfl rfl)
theorem dX5_tells_48 : decode cX5_tells 48 = .ok (.getfield 43, 3) := dk_180 0 43 (dk_at dksX5_tells_2 1 rfl rfl)
theorem dX5_tells_51 : decode cX5_tells 51 = .ok (.iload_n 3, 1) := dk_29 (dk_at dksX5_tells_2 4 rfl rfl)
theorem dX5_tells_52 : decode cX5_tells 52 = .ok (.lload 4, 2) := dk_22 4 (dk_at dksX5_tells_2 5 rfl rfl)
theorem dX5_tells_54 : decode cX5_tells 54 = .ok (.l2i, 1) := dk_136 (dk_at dksX5_tells_2 7 rfl rfl)
theorem dX5_tells_55 : decode cX5_tells 55 = .ok (.iastore, 1) := dk_79 (dk_at dksX5_tells_2 8 rfl rfl)
theorem dX5_tells_56 : decode cX5_tells 56 = .ok (.iinc 3 1, 3) := dk_132 3 1 (dk_at dksX5_tells_2 9 rfl rfl)
theorem dX5_tells_59 : decode cX5_tells 59 = .ok (.goto (-57), 3) := dk_167 255 199 (dk_at dksX5_tells_2 12 rfl rfl)
theorem dX5_tells_62 : decode cX5_tells 62 = .ok (.aload_n 0, 1) := dk_42 (dk_at dksX5_tells_2 15 rfl rfl)
theorem dX5_tells_63 : decode cX5_tells 63 = .ok (.invokevirtual 235, 3) := dk_182 0 235 (dk_at dksX5_tells_2 16 rfl rfl)
theorem dX5_tells_66 : decode cX5_tells 66 = .ok (.iconst 0, 1) := dk_3 (dk_at dksX5_tells_2 19 rfl rfl)
theorem dX5_tells_67 : decode cX5_tells 67 = .ok (.istore_n 3, 1) := dk_62 (dk_at dksX5_tells_2 20 rfl rfl)
theorem dX5_tells_68 : decode cX5_tells 68 = .ok (.iload_n 3, 1) := dk_29 (dk_at dksX5_tells_2 21 rfl rfl)
theorem dX5_tells_69 : decode cX5_tells 69 = .ok (.aload_n 0, 1) := dk_42 (dk_at dksX5_tells_2 22 rfl rfl)
theorem dX5_tells_70 : decode cX5_tells 70 = .ok (.invokevirtual 95, 3) := dk_182 0 95 (dk_at dksX5_tells_3 0 rfl rfl)
theorem dX5_tells_73 : decode cX5_tells 73 = .ok (.if_icmp .ge 20, 3) := dk_162 0 20 (dk_at dksX5_tells_3 3 rfl rfl)
theorem dX5_tells_76 : decode cX5_tells 76 = .ok (.aload_n 0, 1) := dk_42 (dk_at dksX5_tells_3 6 rfl rfl)
theorem dX5_tells_77 : decode cX5_tells 77 = .ok (.getfield 46, 3) := dk_180 0 46 (dk_at dksX5_tells_3 7 rfl rfl)
theorem dX5_tells_80 : decode cX5_tells 80 = .ok (.iload_n 3, 1) := dk_29 (dk_at dksX5_tells_3 10 rfl rfl)
theorem dX5_tells_81 : decode cX5_tells 81 = .ok (.iaload, 1) := dk_46 (dk_at dksX5_tells_3 11 rfl rfl)
theorem dX5_tells_82 : decode cX5_tells 82 = .ok (.ifCond .eq 5, 3) := dk_153 0 5 (dk_at dksX5_tells_3 12 rfl rfl)
theorem dX5_tells_85 : decode cX5_tells 85 = .ok (.iconst 0, 1) := dk_3 (dk_at dksX5_tells_3 15 rfl rfl)
theorem dX5_tells_86 : decode cX5_tells 86 = .ok (.ireturn, 1) := dk_172 (dk_at dksX5_tells_3 16 rfl rfl)
theorem dX5_tells_87 : decode cX5_tells 87 = .ok (.iinc 3 1, 3) := dk_132 3 1 (dk_at dksX5_tells_3 17 rfl rfl)
theorem dX5_tells_90 : decode cX5_tells 90 = .ok (.goto (-22), 3) := dk_167 255 234 (dk_at dksX5_tells_3 20 rfl rfl)
theorem dX5_tells_93 : decode cX5_tells 93 = .ok (.iconst 1, 1) := dk_4 (dk_at dksX5_tells_3 23 rfl rfl)
theorem dX5_tells_94 : decode cX5_tells 94 = .ok (.ireturn, 1) := dk_172 (dk_at dksX5_tells_4 0 rfl rfl)
abbrev cX5_isRung : ByteArray := prog_17_method_82_code
def yX5_isRung : MethodName := ⟨RX5, "isRung", "()Z"⟩
def dkwX5_isRung_7 : List UInt8 := [96, 181, 1, 65, 167, 255, 197, 42, 3, 181, 1, 65, 3, 172]
abbrev dktX5_isRung_7 : List UInt8 := dkwX5_isRung_7 ++ []
def dkwX5_isRung_6 : List UInt8 := [180, 1, 65, 9, 182, 1, 62, 153, 0, 5, 4, 172, 132, 1, 1, 167, 255, 223, 42, 89, 180, 1, 65, 4]
abbrev dktX5_isRung_6 : List UInt8 := dkwX5_isRung_6 ++ dktX5_isRung_7
def dkwX5_isRung_5 : List UInt8 := [163, 0, 54, 3, 60, 27, 42, 182, 0, 95, 162, 0, 31, 42, 180, 0, 80, 3, 27, 79, 42, 4, 42]
abbrev dktX5_isRung_5 : List UInt8 := dkwX5_isRung_5 ++ dktX5_isRung_6
def dkwX5_isRung_4 : List UInt8 := [167, 255, 175, 132, 1, 1, 167, 255, 159, 42, 5, 181, 1, 65, 42, 180, 1, 65, 42, 182, 0, 95]
abbrev dktX5_isRung_4 : List UInt8 := dkwX5_isRung_4 ++ dktX5_isRung_5
def dkwX5_isRung_3 : List UInt8 := [167, 0, 18, 42, 42, 180, 0, 86, 16, 8, 27, 104, 28, 96, 46, 182, 0, 224, 80, 132, 2, 1]
abbrev dktX5_isRung_3 : List UInt8 := dkwX5_isRung_3 ++ dktX5_isRung_4
def dkwX5_isRung_2 : List UInt8 := [180, 0, 83, 16, 8, 27, 104, 28, 96, 42, 180, 0, 86, 16, 8, 27, 104, 28, 96, 46, 156, 0, 7, 9]
abbrev dktX5_isRung_2 : List UInt8 := dkwX5_isRung_2 ++ dktX5_isRung_3
def dkwX5_isRung_1 : List UInt8 := [16, 8, 27, 104, 28, 96, 27, 28, 160, 0, 7, 2, 167, 0, 9, 42, 27, 28, 182, 1, 25, 79, 42]
abbrev dktX5_isRung_1 : List UInt8 := dkwX5_isRung_1 ++ dktX5_isRung_2
def dkwX5_isRung_0 : List UInt8 := [3, 60, 27, 42, 182, 0, 95, 162, 0, 95, 3, 61, 28, 42, 182, 0, 95, 162, 0, 79, 42, 180, 0, 86]
abbrev dktX5_isRung_0 : List UInt8 := dkwX5_isRung_0 ++ dktX5_isRung_1
theorem dksX5_isRung_0 : cX5_isRung.data.toList.drop 0 = dktX5_isRung_0 := by decide +kernel
theorem dksX5_isRung_1 : cX5_isRung.data.toList.drop 24 = dktX5_isRung_1 := dk_seg dksX5_isRung_0 24 rfl rfl
theorem dksX5_isRung_2 : cX5_isRung.data.toList.drop 47 = dktX5_isRung_2 := dk_seg dksX5_isRung_1 23 rfl rfl
theorem dksX5_isRung_3 : cX5_isRung.data.toList.drop 71 = dktX5_isRung_3 := dk_seg dksX5_isRung_2 24 rfl rfl
theorem dksX5_isRung_4 : cX5_isRung.data.toList.drop 93 = dktX5_isRung_4 := dk_seg dksX5_isRung_3 22 rfl rfl
theorem dksX5_isRung_5 : cX5_isRung.data.toList.drop 115 = dktX5_isRung_5 := dk_seg dksX5_isRung_4 22 rfl rfl
theorem dksX5_isRung_6 : cX5_isRung.data.toList.drop 138 = dktX5_isRung_6 := dk_seg dksX5_isRung_5 23 rfl rfl
theorem dksX5_isRung_7 : cX5_isRung.data.toList.drop 162 = dktX5_isRung_7 := dk_seg dksX5_isRung_6 24 rfl rfl
theorem dX5_isRung_0 : decode cX5_isRung 0 = .ok (.iconst 0, 1) := dk_3 (dk_at dksX5_isRung_0 0 rfl rfl)
theorem dX5_isRung_1 : decode cX5_isRung 1 = .ok (.istore_n 1, 1) := dk_60 (dk_at dksX5_isRung_0 1 rfl rfl)
theorem dX5_isRung_2 : decode cX5_isRung 2 = .ok (.iload_n 1, 1) := dk_27 (dk_at dksX5_isRung_0 2 rfl rfl)
theorem dX5_isRung_3 : decode cX5_isRung 3 = .ok (.aload_n 0, 1) := dk_42 (dk_at dksX5_isRung_0 3 rfl rfl)
theorem dX5_isRung_4 : decode cX5_isRung 4 = .ok (.invokevirtual 95, 3) := dk_182 0 95 (dk_at dksX5_isRung_0 4 rfl rfl)
theorem dX5_isRung_7 : decode cX5_isRung 7 = .ok (.if_icmp .ge 95, 3) := dk_162 0 95 (dk_at dksX5_isRung_0 7 rfl rfl)
theorem dX5_isRung_10 : decode cX5_isRung 10 = .ok (.iconst 0, 1) := dk_3 (dk_at dksX5_isRung_0 10 rfl rfl)
theorem dX5_isRung_11 : decode cX5_isRung 11 = .ok (.istore_n 2, 1) := dk_61 (dk_at dksX5_isRung_0 11 rfl rfl)
theorem dX5_isRung_12 : decode cX5_isRung 12 = .ok (.iload_n 2, 1) := dk_28 (dk_at dksX5_isRung_0 12 rfl rfl)
theorem dX5_isRung_13 : decode cX5_isRung 13 = .ok (.aload_n 0, 1) := dk_42 (dk_at dksX5_isRung_0 13 rfl rfl)
theorem dX5_isRung_14 : decode cX5_isRung 14 = .ok (.invokevirtual 95, 3) := dk_182 0 95 (dk_at dksX5_isRung_0 14 rfl rfl)
theorem dX5_isRung_17 : decode cX5_isRung 17 = .ok (.if_icmp .ge 79, 3) := dk_162 0 79 (dk_at dksX5_isRung_0 17 rfl rfl)
theorem dX5_isRung_20 : decode cX5_isRung 20 = .ok (.aload_n 0, 1) := dk_42 (dk_at dksX5_isRung_0 20 rfl rfl)
theorem dX5_isRung_21 : decode cX5_isRung 21 = .ok (.getfield 86, 3) := dk_180 0 86 (dk_at dksX5_isRung_0 21 rfl rfl)
theorem dX5_isRung_24 : decode cX5_isRung 24 = .ok (.bipush 8, 2) := dk_16 8 (dk_at dksX5_isRung_1 0 rfl rfl)
theorem dX5_isRung_26 : decode cX5_isRung 26 = .ok (.iload_n 1, 1) := dk_27 (dk_at dksX5_isRung_1 2 rfl rfl)
theorem dX5_isRung_27 : decode cX5_isRung 27 = .ok (.imul, 1) := dk_104 (dk_at dksX5_isRung_1 3 rfl rfl)
theorem dX5_isRung_28 : decode cX5_isRung 28 = .ok (.iload_n 2, 1) := dk_28 (dk_at dksX5_isRung_1 4 rfl rfl)
theorem dX5_isRung_29 : decode cX5_isRung 29 = .ok (.iadd, 1) := dk_96 (dk_at dksX5_isRung_1 5 rfl rfl)
theorem dX5_isRung_30 : decode cX5_isRung 30 = .ok (.iload_n 1, 1) := dk_27 (dk_at dksX5_isRung_1 6 rfl rfl)
theorem dX5_isRung_31 : decode cX5_isRung 31 = .ok (.iload_n 2, 1) := dk_28 (dk_at dksX5_isRung_1 7 rfl rfl)
theorem dX5_isRung_32 : decode cX5_isRung 32 = .ok (.if_icmp .ne 7, 3) := dk_160 0 7 (dk_at dksX5_isRung_1 8 rfl rfl)
theorem dX5_isRung_35 : decode cX5_isRung 35 = .ok (.iconst (-1), 1) := dk_2 (dk_at dksX5_isRung_1 11 rfl rfl)
theorem dX5_isRung_36 : decode cX5_isRung 36 = .ok (.goto 9, 3) := dk_167 0 9 (dk_at dksX5_isRung_1 12 rfl rfl)
theorem dX5_isRung_39 : decode cX5_isRung 39 = .ok (.aload_n 0, 1) := dk_42 (dk_at dksX5_isRung_1 15 rfl rfl)
theorem dX5_isRung_40 : decode cX5_isRung 40 = .ok (.iload_n 1, 1) := dk_27 (dk_at dksX5_isRung_1 16 rfl rfl)
theorem dX5_isRung_41 : decode cX5_isRung 41 = .ok (.iload_n 2, 1) := dk_28 (dk_at dksX5_isRung_1 17 rfl rfl)
theorem dX5_isRung_42 : decode cX5_isRung 42 = .ok (.invokevirtual 281, 3) := dk_182 1 25 (dk_at dksX5_isRung_1 18 rfl rfl)
theorem dX5_isRung_45 : decode cX5_isRung 45 = .ok (.iastore, 1) := dk_79 (dk_at dksX5_isRung_1 21 rfl rfl)
theorem dX5_isRung_46 : decode cX5_isRung 46 = .ok (.aload_n 0, 1) := dk_42 (dk_at dksX5_isRung_1 22 rfl rfl)
theorem dX5_isRung_47 : decode cX5_isRung 47 = .ok (.getfield 83, 3) := dk_180 0 83 (dk_at dksX5_isRung_2 0 rfl rfl)
theorem dX5_isRung_50 : decode cX5_isRung 50 = .ok (.bipush 8, 2) := dk_16 8 (dk_at dksX5_isRung_2 3 rfl rfl)
theorem dX5_isRung_52 : decode cX5_isRung 52 = .ok (.iload_n 1, 1) := dk_27 (dk_at dksX5_isRung_2 5 rfl rfl)
theorem dX5_isRung_53 : decode cX5_isRung 53 = .ok (.imul, 1) := dk_104 (dk_at dksX5_isRung_2 6 rfl rfl)
theorem dX5_isRung_54 : decode cX5_isRung 54 = .ok (.iload_n 2, 1) := dk_28 (dk_at dksX5_isRung_2 7 rfl rfl)
theorem dX5_isRung_55 : decode cX5_isRung 55 = .ok (.iadd, 1) := dk_96 (dk_at dksX5_isRung_2 8 rfl rfl)
theorem dX5_isRung_56 : decode cX5_isRung 56 = .ok (.aload_n 0, 1) := dk_42 (dk_at dksX5_isRung_2 9 rfl rfl)
theorem dX5_isRung_57 : decode cX5_isRung 57 = .ok (.getfield 86, 3) := dk_180 0 86 (dk_at dksX5_isRung_2 10 rfl rfl)
theorem dX5_isRung_60 : decode cX5_isRung 60 = .ok (.bipush 8, 2) := dk_16 8 (dk_at dksX5_isRung_2 13 rfl rfl)
theorem dX5_isRung_62 : decode cX5_isRung 62 = .ok (.iload_n 1, 1) := dk_27 (dk_at dksX5_isRung_2 15 rfl rfl)
theorem dX5_isRung_63 : decode cX5_isRung 63 = .ok (.imul, 1) := dk_104 (dk_at dksX5_isRung_2 16 rfl rfl)
theorem dX5_isRung_64 : decode cX5_isRung 64 = .ok (.iload_n 2, 1) := dk_28 (dk_at dksX5_isRung_2 17 rfl rfl)
theorem dX5_isRung_65 : decode cX5_isRung 65 = .ok (.iadd, 1) := dk_96 (dk_at dksX5_isRung_2 18 rfl rfl)
theorem dX5_isRung_66 : decode cX5_isRung 66 = .ok (.iaload, 1) := dk_46 (dk_at dksX5_isRung_2 19 rfl rfl)
theorem dX5_isRung_67 : decode cX5_isRung 67 = .ok (.ifCond .ge 7, 3) := dk_156 0 7 (dk_at dksX5_isRung_2 20 rfl rfl)
theorem dX5_isRung_70 : decode cX5_isRung 70 = .ok (.lconst 0, 1) := dk_9 (dk_at dksX5_isRung_2 23 rfl rfl)
theorem dX5_isRung_71 : decode cX5_isRung 71 = .ok (.goto 18, 3) := dk_167 0 18 (dk_at dksX5_isRung_3 0 rfl rfl)
theorem dX5_isRung_74 : decode cX5_isRung 74 = .ok (.aload_n 0, 1) := dk_42 (dk_at dksX5_isRung_3 3 rfl rfl)
theorem dX5_isRung_75 : decode cX5_isRung 75 = .ok (.aload_n 0, 1) := dk_42 (dk_at dksX5_isRung_3 4 rfl rfl)
theorem dX5_isRung_76 : decode cX5_isRung 76 = .ok (.getfield 86, 3) := dk_180 0 86 (dk_at dksX5_isRung_3 5 rfl rfl)
theorem dX5_isRung_79 : decode cX5_isRung 79 = .ok (.bipush 8, 2) := dk_16 8 (dk_at dksX5_isRung_3 8 rfl rfl)
theorem dX5_isRung_81 : decode cX5_isRung 81 = .ok (.iload_n 1, 1) := dk_27 (dk_at dksX5_isRung_3 10 rfl rfl)
theorem dX5_isRung_82 : decode cX5_isRung 82 = .ok (.imul, 1) := dk_104 (dk_at dksX5_isRung_3 11 rfl rfl)
theorem dX5_isRung_83 : decode cX5_isRung 83 = .ok (.iload_n 2, 1) := dk_28 (dk_at dksX5_isRung_3 12 rfl rfl)
theorem dX5_isRung_84 : decode cX5_isRung 84 = .ok (.iadd, 1) := dk_96 (dk_at dksX5_isRung_3 13 rfl rfl)
theorem dX5_isRung_85 : decode cX5_isRung 85 = .ok (.iaload, 1) := dk_46 (dk_at dksX5_isRung_3 14 rfl rfl)
theorem dX5_isRung_86 : decode cX5_isRung 86 = .ok (.invokevirtual 224, 3) := dk_182 0 224 (dk_at dksX5_isRung_3 15 rfl rfl)
theorem dX5_isRung_89 : decode cX5_isRung 89 = .ok (.lastore, 1) := dk_80 (dk_at dksX5_isRung_3 18 rfl rfl)
theorem dX5_isRung_90 : decode cX5_isRung 90 = .ok (.iinc 2 1, 3) := dk_132 2 1 (dk_at dksX5_isRung_3 19 rfl rfl)
theorem dX5_isRung_93 : decode cX5_isRung 93 = .ok (.goto (-81), 3) := dk_167 255 175 (dk_at dksX5_isRung_4 0 rfl rfl)
theorem dX5_isRung_96 : decode cX5_isRung 96 = .ok (.iinc 1 1, 3) := dk_132 1 1 (dk_at dksX5_isRung_4 3 rfl rfl)
theorem dX5_isRung_99 : decode cX5_isRung 99 = .ok (.goto (-97), 3) := dk_167 255 159 (dk_at dksX5_isRung_4 6 rfl rfl)
theorem dX5_isRung_102 : decode cX5_isRung 102 = .ok (.aload_n 0, 1) := dk_42 (dk_at dksX5_isRung_4 9 rfl rfl)
theorem dX5_isRung_103 : decode cX5_isRung 103 = .ok (.iconst 2, 1) := dk_5 (dk_at dksX5_isRung_4 10 rfl rfl)
theorem dX5_isRung_104 : decode cX5_isRung 104 = .ok (.putfield 321, 3) := dk_181 1 65 (dk_at dksX5_isRung_4 11 rfl rfl)
theorem dX5_isRung_107 : decode cX5_isRung 107 = .ok (.aload_n 0, 1) := dk_42 (dk_at dksX5_isRung_4 14 rfl rfl)
theorem dX5_isRung_108 : decode cX5_isRung 108 = .ok (.getfield 321, 3) := dk_180 1 65 (dk_at dksX5_isRung_4 15 rfl rfl)
theorem dX5_isRung_111 : decode cX5_isRung 111 = .ok (.aload_n 0, 1) := dk_42 (dk_at dksX5_isRung_4 18 rfl rfl)
theorem dX5_isRung_112 : decode cX5_isRung 112 = .ok (.invokevirtual 95, 3) := dk_182 0 95 (dk_at dksX5_isRung_4 19 rfl rfl)
theorem dX5_isRung_115 : decode cX5_isRung 115 = .ok (.if_icmp .gt 54, 3) := dk_163 0 54 (dk_at dksX5_isRung_5 0 rfl rfl)
theorem dX5_isRung_118 : decode cX5_isRung 118 = .ok (.iconst 0, 1) := dk_3 (dk_at dksX5_isRung_5 3 rfl rfl)
theorem dX5_isRung_119 : decode cX5_isRung 119 = .ok (.istore_n 1, 1) := dk_60 (dk_at dksX5_isRung_5 4 rfl rfl)
theorem dX5_isRung_120 : decode cX5_isRung 120 = .ok (.iload_n 1, 1) := dk_27 (dk_at dksX5_isRung_5 5 rfl rfl)
theorem dX5_isRung_121 : decode cX5_isRung 121 = .ok (.aload_n 0, 1) := dk_42 (dk_at dksX5_isRung_5 6 rfl rfl)
theorem dX5_isRung_122 : decode cX5_isRung 122 = .ok (.invokevirtual 95, 3) := dk_182 0 95 (dk_at dksX5_isRung_5 7 rfl rfl)
theorem dX5_isRung_125 : decode cX5_isRung 125 = .ok (.if_icmp .ge 31, 3) := dk_162 0 31 (dk_at dksX5_isRung_5 10 rfl rfl)
theorem dX5_isRung_128 : decode cX5_isRung 128 = .ok (.aload_n 0, 1) := dk_42 (dk_at dksX5_isRung_5 13 rfl rfl)
theorem dX5_isRung_129 : decode cX5_isRung 129 = .ok (.getfield 80, 3) := dk_180 0 80 (dk_at dksX5_isRung_5 14 rfl rfl)
theorem dX5_isRung_132 : decode cX5_isRung 132 = .ok (.iconst 0, 1) := dk_3 (dk_at dksX5_isRung_5 17 rfl rfl)
theorem dX5_isRung_133 : decode cX5_isRung 133 = .ok (.iload_n 1, 1) := dk_27 (dk_at dksX5_isRung_5 18 rfl rfl)
theorem dX5_isRung_134 : decode cX5_isRung 134 = .ok (.iastore, 1) := dk_79 (dk_at dksX5_isRung_5 19 rfl rfl)
theorem dX5_isRung_135 : decode cX5_isRung 135 = .ok (.aload_n 0, 1) := dk_42 (dk_at dksX5_isRung_5 20 rfl rfl)
theorem dX5_isRung_136 : decode cX5_isRung 136 = .ok (.iconst 1, 1) := dk_4 (dk_at dksX5_isRung_5 21 rfl rfl)
theorem dX5_isRung_137 : decode cX5_isRung 137 = .ok (.aload_n 0, 1) := dk_42 (dk_at dksX5_isRung_5 22 rfl rfl)
theorem dX5_isRung_138 : decode cX5_isRung 138 = .ok (.getfield 321, 3) := dk_180 1 65 (dk_at dksX5_isRung_6 0 rfl rfl)
theorem dX5_isRung_141 : decode cX5_isRung 141 = .ok (.lconst 0, 1) := dk_9 (dk_at dksX5_isRung_6 3 rfl rfl)
theorem dX5_isRung_142 : decode cX5_isRung 142 = .ok (.invokevirtual 318, 3) := dk_182 1 62 (dk_at dksX5_isRung_6 4 rfl rfl)
theorem dX5_isRung_145 : decode cX5_isRung 145 = .ok (.ifCond .eq 5, 3) := dk_153 0 5 (dk_at dksX5_isRung_6 7 rfl rfl)
theorem dX5_isRung_148 : decode cX5_isRung 148 = .ok (.iconst 1, 1) := dk_4 (dk_at dksX5_isRung_6 10 rfl rfl)
theorem dX5_isRung_149 : decode cX5_isRung 149 = .ok (.ireturn, 1) := dk_172 (dk_at dksX5_isRung_6 11 rfl rfl)
theorem dX5_isRung_150 : decode cX5_isRung 150 = .ok (.iinc 1 1, 3) := dk_132 1 1 (dk_at dksX5_isRung_6 12 rfl rfl)
theorem dX5_isRung_153 : decode cX5_isRung 153 = .ok (.goto (-33), 3) := dk_167 255 223 (dk_at dksX5_isRung_6 15 rfl rfl)
theorem dX5_isRung_156 : decode cX5_isRung 156 = .ok (.aload_n 0, 1) := dk_42 (dk_at dksX5_isRung_6 18 rfl rfl)
theorem dX5_isRung_157 : decode cX5_isRung 157 = .ok (.dup, 1) := dk_89 (dk_at dksX5_isRung_6 19 rfl rfl)
theorem dX5_isRung_158 : decode cX5_isRung 158 = .ok (.getfield 321, 3) := dk_180 1 65 (dk_at dksX5_isRung_6 20 rfl rfl)
theorem dX5_isRung_161 : decode cX5_isRung 161 = .ok (.iconst 1, 1) := dk_4 (dk_at dksX5_isRung_6 23 rfl rfl)
theorem dX5_isRung_162 : decode cX5_isRung 162 = .ok (.iadd, 1) := dk_96 (dk_at dksX5_isRung_7 0 rfl rfl)
theorem dX5_isRung_163 : decode cX5_isRung 163 = .ok (.putfield 321, 3) := dk_181 1 65 (dk_at dksX5_isRung_7 1 rfl rfl)
theorem dX5_isRung_166 : decode cX5_isRung 166 = .ok (.goto (-59), 3) := dk_167 255 197 (dk_at dksX5_isRung_7 4 rfl rfl)
theorem dX5_isRung_169 : decode cX5_isRung 169 = .ok (.aload_n 0, 1) := dk_42 (dk_at dksX5_isRung_7 7 rfl rfl)
theorem dX5_isRung_170 : decode cX5_isRung 170 = .ok (.iconst 0, 1) := dk_3 (dk_at dksX5_isRung_7 8 rfl rfl)
theorem dX5_isRung_171 : decode cX5_isRung 171 = .ok (.putfield 321, 3) := dk_181 1 65 (dk_at dksX5_isRung_7 9 rfl rfl)
theorem dX5_isRung_174 : decode cX5_isRung 174 = .ok (.iconst 0, 1) := dk_3 (dk_at dksX5_isRung_7 12 rfl rfl)
theorem dX5_isRung_175 : decode cX5_isRung 175 = .ok (.ireturn, 1) := dk_172 (dk_at dksX5_isRung_7 13 rfl rfl)
abbrev cX5_rings : ByteArray := prog_17_method_81_code
def yX5_rings : MethodName := ⟨RX5, "rings", "(IIJ)Z"⟩
def dkwX5_rings_6 : List UInt8 := [21, 6, 47, 97, 182, 1, 62, 153, 0, 5, 4, 172, 132, 5, 1, 167, 255, 175, 3, 172]
abbrev dktX5_rings_6 : List UInt8 := dkwX5_rings_6 ++ []
def dkwX5_rings_5 : List UInt8 := [156, 0, 6, 167, 0, 33, 42, 180, 0, 80, 27, 21, 5, 79, 42, 27, 4, 96, 28, 33, 42, 180, 0, 83]
abbrev dktX5_rings_5 : List UInt8 := dkwX5_rings_5 ++ dktX5_rings_6
def dkwX5_rings_4 : List UInt8 := [46, 104, 21, 5, 96, 54, 6, 42, 21, 5, 27, 182, 1, 59, 154, 0, 46, 42, 180, 0, 86, 21, 6, 46]
abbrev dktX5_rings_4 : List UInt8 := dkwX5_rings_4 ++ dktX5_rings_5
def dkwX5_rings_3 : List UInt8 := [3, 46, 4, 96, 54, 5, 21, 5, 42, 182, 0, 95, 162, 0, 78, 16, 8, 42, 180, 0, 80, 27, 4, 100]
abbrev dktX5_rings_3 : List UInt8 := dkwX5_rings_3 ++ dktX5_rings_4
def dkwX5_rings_2 : List UInt8 := [155, 0, 5, 3, 172, 42, 33, 42, 180, 0, 83, 21, 5, 47, 97, 181, 1, 56, 4, 172, 42, 180, 0, 80]
abbrev dktX5_rings_2 : List UInt8 := dkwX5_rings_2 ++ dktX5_rings_3
def dkwX5_rings_1 : List UInt8 := [54, 5, 42, 180, 0, 86, 21, 5, 46, 155, 0, 17, 33, 42, 180, 0, 83, 21, 5, 47, 97, 9, 148]
abbrev dktX5_rings_1 : List UInt8 := dkwX5_rings_1 ++ dktX5_rings_2
def dkwX5_rings_0 : List UInt8 := [27, 28, 160, 0, 64, 16, 8, 42, 180, 0, 80, 28, 4, 100, 46, 104, 42, 180, 0, 80, 3, 46, 96]
abbrev dktX5_rings_0 : List UInt8 := dkwX5_rings_0 ++ dktX5_rings_1
theorem dksX5_rings_0 : cX5_rings.data.toList.drop 0 = dktX5_rings_0 := by decide +kernel
theorem dksX5_rings_1 : cX5_rings.data.toList.drop 23 = dktX5_rings_1 := dk_seg dksX5_rings_0 23 rfl rfl
theorem dksX5_rings_2 : cX5_rings.data.toList.drop 46 = dktX5_rings_2 := dk_seg dksX5_rings_1 23 rfl rfl
theorem dksX5_rings_3 : cX5_rings.data.toList.drop 70 = dktX5_rings_3 := dk_seg dksX5_rings_2 24 rfl rfl
theorem dksX5_rings_4 : cX5_rings.data.toList.drop 94 = dktX5_rings_4 := dk_seg dksX5_rings_3 24 rfl rfl
theorem dksX5_rings_5 : cX5_rings.data.toList.drop 118 = dktX5_rings_5 := dk_seg dksX5_rings_4 24 rfl rfl
theorem dksX5_rings_6 : cX5_rings.data.toList.drop 142 = dktX5_rings_6 := dk_seg dksX5_rings_5 24 rfl rfl
theorem dX5_rings_0 : decode cX5_rings 0 = .ok (.iload_n 1, 1) := dk_27 (dk_at dksX5_rings_0 0 rfl rfl)
theorem dX5_rings_1 : decode cX5_rings 1 = .ok (.iload_n 2, 1) := dk_28 (dk_at dksX5_rings_0 1 rfl rfl)
theorem dX5_rings_2 : decode cX5_rings 2 = .ok (.if_icmp .ne 64, 3) := dk_160 0 64 (dk_at dksX5_rings_0 2 rfl rfl)
theorem dX5_rings_5 : decode cX5_rings 5 = .ok (.bipush 8, 2) := dk_16 8 (dk_at dksX5_rings_0 5 rfl rfl)
theorem dX5_rings_7 : decode cX5_rings 7 = .ok (.aload_n 0, 1) := dk_42 (dk_at dksX5_rings_0 7 rfl rfl)
theorem dX5_rings_8 : decode cX5_rings 8 = .ok (.getfield 80, 3) := dk_180 0 80 (dk_at dksX5_rings_0 8 rfl rfl)
theorem dX5_rings_11 : decode cX5_rings 11 = .ok (.iload_n 2, 1) := dk_28 (dk_at dksX5_rings_0 11 rfl rfl)
theorem dX5_rings_12 : decode cX5_rings 12 = .ok (.iconst 1, 1) := dk_4 (dk_at dksX5_rings_0 12 rfl rfl)
theorem dX5_rings_13 : decode cX5_rings 13 = .ok (.isub, 1) := dk_100 (dk_at dksX5_rings_0 13 rfl rfl)
theorem dX5_rings_14 : decode cX5_rings 14 = .ok (.iaload, 1) := dk_46 (dk_at dksX5_rings_0 14 rfl rfl)
theorem dX5_rings_15 : decode cX5_rings 15 = .ok (.imul, 1) := dk_104 (dk_at dksX5_rings_0 15 rfl rfl)
theorem dX5_rings_16 : decode cX5_rings 16 = .ok (.aload_n 0, 1) := dk_42 (dk_at dksX5_rings_0 16 rfl rfl)
theorem dX5_rings_17 : decode cX5_rings 17 = .ok (.getfield 80, 3) := dk_180 0 80 (dk_at dksX5_rings_0 17 rfl rfl)
theorem dX5_rings_20 : decode cX5_rings 20 = .ok (.iconst 0, 1) := dk_3 (dk_at dksX5_rings_0 20 rfl rfl)
theorem dX5_rings_21 : decode cX5_rings 21 = .ok (.iaload, 1) := dk_46 (dk_at dksX5_rings_0 21 rfl rfl)
theorem dX5_rings_22 : decode cX5_rings 22 = .ok (.iadd, 1) := dk_96 (dk_at dksX5_rings_0 22 rfl rfl)
theorem dX5_rings_23 : decode cX5_rings 23 = .ok (.istore 5, 2) := dk_54 5 (dk_at dksX5_rings_1 0 rfl rfl)
theorem dX5_rings_25 : decode cX5_rings 25 = .ok (.aload_n 0, 1) := dk_42 (dk_at dksX5_rings_1 2 rfl rfl)
theorem dX5_rings_26 : decode cX5_rings 26 = .ok (.getfield 86, 3) := dk_180 0 86 (dk_at dksX5_rings_1 3 rfl rfl)
theorem dX5_rings_29 : decode cX5_rings 29 = .ok (.iload 5, 2) := dk_21 5 (dk_at dksX5_rings_1 6 rfl rfl)
theorem dX5_rings_31 : decode cX5_rings 31 = .ok (.iaload, 1) := dk_46 (dk_at dksX5_rings_1 8 rfl rfl)
theorem dX5_rings_32 : decode cX5_rings 32 = .ok (.ifCond .lt 17, 3) := dk_155 0 17 (dk_at dksX5_rings_1 9 rfl rfl)
theorem dX5_rings_35 : decode cX5_rings 35 = .ok (.lload_n 3, 1) := dk_33 (dk_at dksX5_rings_1 12 rfl rfl)
theorem dX5_rings_36 : decode cX5_rings 36 = .ok (.aload_n 0, 1) := dk_42 (dk_at dksX5_rings_1 13 rfl rfl)
theorem dX5_rings_37 : decode cX5_rings 37 = .ok (.getfield 83, 3) := dk_180 0 83 (dk_at dksX5_rings_1 14 rfl rfl)
theorem dX5_rings_40 : decode cX5_rings 40 = .ok (.iload 5, 2) := dk_21 5 (dk_at dksX5_rings_1 17 rfl rfl)
theorem dX5_rings_42 : decode cX5_rings 42 = .ok (.laload, 1) := dk_47 (dk_at dksX5_rings_1 19 rfl rfl)
theorem dX5_rings_43 : decode cX5_rings 43 = .ok (.ladd, 1) := dk_97 (dk_at dksX5_rings_1 20 rfl rfl)
theorem dX5_rings_44 : decode cX5_rings 44 = .ok (.lconst 0, 1) := dk_9 (dk_at dksX5_rings_1 21 rfl rfl)
theorem dX5_rings_45 : decode cX5_rings 45 = .ok (.lcmp, 1) := dk_148 (dk_at dksX5_rings_1 22 rfl rfl)
theorem dX5_rings_46 : decode cX5_rings 46 = .ok (.ifCond .lt 5, 3) := dk_155 0 5 (dk_at dksX5_rings_2 0 rfl rfl)
theorem dX5_rings_49 : decode cX5_rings 49 = .ok (.iconst 0, 1) := dk_3 (dk_at dksX5_rings_2 3 rfl rfl)
theorem dX5_rings_50 : decode cX5_rings 50 = .ok (.ireturn, 1) := dk_172 (dk_at dksX5_rings_2 4 rfl rfl)
theorem dX5_rings_51 : decode cX5_rings 51 = .ok (.aload_n 0, 1) := dk_42 (dk_at dksX5_rings_2 5 rfl rfl)
theorem dX5_rings_52 : decode cX5_rings 52 = .ok (.lload_n 3, 1) := dk_33 (dk_at dksX5_rings_2 6 rfl rfl)
theorem dX5_rings_53 : decode cX5_rings 53 = .ok (.aload_n 0, 1) := dk_42 (dk_at dksX5_rings_2 7 rfl rfl)
theorem dX5_rings_54 : decode cX5_rings 54 = .ok (.getfield 83, 3) := dk_180 0 83 (dk_at dksX5_rings_2 8 rfl rfl)
theorem dX5_rings_57 : decode cX5_rings 57 = .ok (.iload 5, 2) := dk_21 5 (dk_at dksX5_rings_2 11 rfl rfl)
theorem dX5_rings_59 : decode cX5_rings 59 = .ok (.laload, 1) := dk_47 (dk_at dksX5_rings_2 13 rfl rfl)
theorem dX5_rings_60 : decode cX5_rings 60 = .ok (.ladd, 1) := dk_97 (dk_at dksX5_rings_2 14 rfl rfl)
theorem dX5_rings_61 : decode cX5_rings 61 = .ok (.putfield 312, 3) := dk_181 1 56 (dk_at dksX5_rings_2 15 rfl rfl)
theorem dX5_rings_64 : decode cX5_rings 64 = .ok (.iconst 1, 1) := dk_4 (dk_at dksX5_rings_2 18 rfl rfl)
theorem dX5_rings_65 : decode cX5_rings 65 = .ok (.ireturn, 1) := dk_172 (dk_at dksX5_rings_2 19 rfl rfl)
theorem dX5_rings_66 : decode cX5_rings 66 = .ok (.aload_n 0, 1) := dk_42 (dk_at dksX5_rings_2 20 rfl rfl)
theorem dX5_rings_67 : decode cX5_rings 67 = .ok (.getfield 80, 3) := dk_180 0 80 (dk_at dksX5_rings_2 21 rfl rfl)
theorem dX5_rings_70 : decode cX5_rings 70 = .ok (.iconst 0, 1) := dk_3 (dk_at dksX5_rings_3 0 rfl rfl)
theorem dX5_rings_71 : decode cX5_rings 71 = .ok (.iaload, 1) := dk_46 (dk_at dksX5_rings_3 1 rfl rfl)
theorem dX5_rings_72 : decode cX5_rings 72 = .ok (.iconst 1, 1) := dk_4 (dk_at dksX5_rings_3 2 rfl rfl)
theorem dX5_rings_73 : decode cX5_rings 73 = .ok (.iadd, 1) := dk_96 (dk_at dksX5_rings_3 3 rfl rfl)
theorem dX5_rings_74 : decode cX5_rings 74 = .ok (.istore 5, 2) := dk_54 5 (dk_at dksX5_rings_3 4 rfl rfl)
theorem dX5_rings_76 : decode cX5_rings 76 = .ok (.iload 5, 2) := dk_21 5 (dk_at dksX5_rings_3 6 rfl rfl)
theorem dX5_rings_78 : decode cX5_rings 78 = .ok (.aload_n 0, 1) := dk_42 (dk_at dksX5_rings_3 8 rfl rfl)
theorem dX5_rings_79 : decode cX5_rings 79 = .ok (.invokevirtual 95, 3) := dk_182 0 95 (dk_at dksX5_rings_3 9 rfl rfl)
theorem dX5_rings_82 : decode cX5_rings 82 = .ok (.if_icmp .ge 78, 3) := dk_162 0 78 (dk_at dksX5_rings_3 12 rfl rfl)
theorem dX5_rings_85 : decode cX5_rings 85 = .ok (.bipush 8, 2) := dk_16 8 (dk_at dksX5_rings_3 15 rfl rfl)
theorem dX5_rings_87 : decode cX5_rings 87 = .ok (.aload_n 0, 1) := dk_42 (dk_at dksX5_rings_3 17 rfl rfl)
theorem dX5_rings_88 : decode cX5_rings 88 = .ok (.getfield 80, 3) := dk_180 0 80 (dk_at dksX5_rings_3 18 rfl rfl)
theorem dX5_rings_91 : decode cX5_rings 91 = .ok (.iload_n 1, 1) := dk_27 (dk_at dksX5_rings_3 21 rfl rfl)
theorem dX5_rings_92 : decode cX5_rings 92 = .ok (.iconst 1, 1) := dk_4 (dk_at dksX5_rings_3 22 rfl rfl)
theorem dX5_rings_93 : decode cX5_rings 93 = .ok (.isub, 1) := dk_100 (dk_at dksX5_rings_3 23 rfl rfl)
theorem dX5_rings_94 : decode cX5_rings 94 = .ok (.iaload, 1) := dk_46 (dk_at dksX5_rings_4 0 rfl rfl)
theorem dX5_rings_95 : decode cX5_rings 95 = .ok (.imul, 1) := dk_104 (dk_at dksX5_rings_4 1 rfl rfl)
theorem dX5_rings_96 : decode cX5_rings 96 = .ok (.iload 5, 2) := dk_21 5 (dk_at dksX5_rings_4 2 rfl rfl)
theorem dX5_rings_98 : decode cX5_rings 98 = .ok (.iadd, 1) := dk_96 (dk_at dksX5_rings_4 4 rfl rfl)
theorem dX5_rings_99 : decode cX5_rings 99 = .ok (.istore 6, 2) := dk_54 6 (dk_at dksX5_rings_4 5 rfl rfl)
theorem dX5_rings_101 : decode cX5_rings 101 = .ok (.aload_n 0, 1) := dk_42 (dk_at dksX5_rings_4 7 rfl rfl)
theorem dX5_rings_102 : decode cX5_rings 102 = .ok (.iload 5, 2) := dk_21 5 (dk_at dksX5_rings_4 8 rfl rfl)
theorem dX5_rings_104 : decode cX5_rings 104 = .ok (.iload_n 1, 1) := dk_27 (dk_at dksX5_rings_4 10 rfl rfl)
theorem dX5_rings_105 : decode cX5_rings 105 = .ok (.invokevirtual 315, 3) := dk_182 1 59 (dk_at dksX5_rings_4 11 rfl rfl)
theorem dX5_rings_108 : decode cX5_rings 108 = .ok (.ifCond .ne 46, 3) := dk_154 0 46 (dk_at dksX5_rings_4 14 rfl rfl)
theorem dX5_rings_111 : decode cX5_rings 111 = .ok (.aload_n 0, 1) := dk_42 (dk_at dksX5_rings_4 17 rfl rfl)
theorem dX5_rings_112 : decode cX5_rings 112 = .ok (.getfield 86, 3) := dk_180 0 86 (dk_at dksX5_rings_4 18 rfl rfl)
theorem dX5_rings_115 : decode cX5_rings 115 = .ok (.iload 6, 2) := dk_21 6 (dk_at dksX5_rings_4 21 rfl rfl)
theorem dX5_rings_117 : decode cX5_rings 117 = .ok (.iaload, 1) := dk_46 (dk_at dksX5_rings_4 23 rfl rfl)
theorem dX5_rings_118 : decode cX5_rings 118 = .ok (.ifCond .ge 6, 3) := dk_156 0 6 (dk_at dksX5_rings_5 0 rfl rfl)
theorem dX5_rings_121 : decode cX5_rings 121 = .ok (.goto 33, 3) := dk_167 0 33 (dk_at dksX5_rings_5 3 rfl rfl)
theorem dX5_rings_124 : decode cX5_rings 124 = .ok (.aload_n 0, 1) := dk_42 (dk_at dksX5_rings_5 6 rfl rfl)
theorem dX5_rings_125 : decode cX5_rings 125 = .ok (.getfield 80, 3) := dk_180 0 80 (dk_at dksX5_rings_5 7 rfl rfl)
theorem dX5_rings_128 : decode cX5_rings 128 = .ok (.iload_n 1, 1) := dk_27 (dk_at dksX5_rings_5 10 rfl rfl)
theorem dX5_rings_129 : decode cX5_rings 129 = .ok (.iload 5, 2) := dk_21 5 (dk_at dksX5_rings_5 11 rfl rfl)
theorem dX5_rings_131 : decode cX5_rings 131 = .ok (.iastore, 1) := dk_79 (dk_at dksX5_rings_5 13 rfl rfl)
theorem dX5_rings_132 : decode cX5_rings 132 = .ok (.aload_n 0, 1) := dk_42 (dk_at dksX5_rings_5 14 rfl rfl)
theorem dX5_rings_133 : decode cX5_rings 133 = .ok (.iload_n 1, 1) := dk_27 (dk_at dksX5_rings_5 15 rfl rfl)
theorem dX5_rings_134 : decode cX5_rings 134 = .ok (.iconst 1, 1) := dk_4 (dk_at dksX5_rings_5 16 rfl rfl)
theorem dX5_rings_135 : decode cX5_rings 135 = .ok (.iadd, 1) := dk_96 (dk_at dksX5_rings_5 17 rfl rfl)
theorem dX5_rings_136 : decode cX5_rings 136 = .ok (.iload_n 2, 1) := dk_28 (dk_at dksX5_rings_5 18 rfl rfl)
theorem dX5_rings_137 : decode cX5_rings 137 = .ok (.lload_n 3, 1) := dk_33 (dk_at dksX5_rings_5 19 rfl rfl)
theorem dX5_rings_138 : decode cX5_rings 138 = .ok (.aload_n 0, 1) := dk_42 (dk_at dksX5_rings_5 20 rfl rfl)
theorem dX5_rings_139 : decode cX5_rings 139 = .ok (.getfield 83, 3) := dk_180 0 83 (dk_at dksX5_rings_5 21 rfl rfl)
theorem dX5_rings_142 : decode cX5_rings 142 = .ok (.iload 6, 2) := dk_21 6 (dk_at dksX5_rings_6 0 rfl rfl)
theorem dX5_rings_144 : decode cX5_rings 144 = .ok (.laload, 1) := dk_47 (dk_at dksX5_rings_6 2 rfl rfl)
theorem dX5_rings_145 : decode cX5_rings 145 = .ok (.ladd, 1) := dk_97 (dk_at dksX5_rings_6 3 rfl rfl)
theorem dX5_rings_146 : decode cX5_rings 146 = .ok (.invokevirtual 318, 3) := dk_182 1 62 (dk_at dksX5_rings_6 4 rfl rfl)
theorem dX5_rings_149 : decode cX5_rings 149 = .ok (.ifCond .eq 5, 3) := dk_153 0 5 (dk_at dksX5_rings_6 7 rfl rfl)
theorem dX5_rings_152 : decode cX5_rings 152 = .ok (.iconst 1, 1) := dk_4 (dk_at dksX5_rings_6 10 rfl rfl)
theorem dX5_rings_153 : decode cX5_rings 153 = .ok (.ireturn, 1) := dk_172 (dk_at dksX5_rings_6 11 rfl rfl)
theorem dX5_rings_154 : decode cX5_rings 154 = .ok (.iinc 5 1, 3) := dk_132 5 1 (dk_at dksX5_rings_6 12 rfl rfl)
theorem dX5_rings_157 : decode cX5_rings 157 = .ok (.goto (-81), 3) := dk_167 255 175 (dk_at dksX5_rings_6 15 rfl rfl)
theorem dX5_rings_160 : decode cX5_rings 160 = .ok (.iconst 0, 1) := dk_3 (dk_at dksX5_rings_6 18 rfl rfl)
theorem dX5_rings_161 : decode cX5_rings 161 = .ok (.ireturn, 1) := dk_172 (dk_at dksX5_rings_6 19 rfl rfl)
abbrev cX5_isIn : ByteArray := prog_17_method_80_code
def yX5_isIn : MethodName := ⟨RX5, "isIn", "(II)Z"⟩
def dkwX5_isIn_1 : List UInt8 := [167, 255, 236, 3, 172]
abbrev dktX5_isIn_1 : List UInt8 := dkwX5_isIn_1 ++ []
def dkwX5_isIn_0 : List UInt8 := [3, 62, 29, 28, 162, 0, 21, 42, 180, 0, 80, 29, 46, 27, 160, 0, 5, 4, 172, 132, 3, 1]
abbrev dktX5_isIn_0 : List UInt8 := dkwX5_isIn_0 ++ dktX5_isIn_1
theorem dksX5_isIn_0 : cX5_isIn.data.toList.drop 0 = dktX5_isIn_0 := by decide +kernel
theorem dksX5_isIn_1 : cX5_isIn.data.toList.drop 22 = dktX5_isIn_1 := dk_seg dksX5_isIn_0 22 rfl rfl
theorem dX5_isIn_0 : decode cX5_isIn 0 = .ok (.iconst 0, 1) := dk_3 (dk_at dksX5_isIn_0 0 rfl rfl)
theorem dX5_isIn_1 : decode cX5_isIn 1 = .ok (.istore_n 3, 1) := dk_62 (dk_at dksX5_isIn_0 1 rfl rfl)
theorem dX5_isIn_2 : decode cX5_isIn 2 = .ok (.iload_n 3, 1) := dk_29 (dk_at dksX5_isIn_0 2 rfl rfl)
theorem dX5_isIn_3 : decode cX5_isIn 3 = .ok (.iload_n 2, 1) := dk_28 (dk_at dksX5_isIn_0 3 rfl rfl)
theorem dX5_isIn_4 : decode cX5_isIn 4 = .ok (.if_icmp .ge 21, 3) := dk_162 0 21 (dk_at dksX5_isIn_0 4 rfl rfl)
theorem dX5_isIn_7 : decode cX5_isIn 7 = .ok (.aload_n 0, 1) := dk_42 (dk_at dksX5_isIn_0 7 rfl rfl)
theorem dX5_isIn_8 : decode cX5_isIn 8 = .ok (.getfield 80, 3) := dk_180 0 80 (dk_at dksX5_isIn_0 8 rfl rfl)
theorem dX5_isIn_11 : decode cX5_isIn 11 = .ok (.iload_n 3, 1) := dk_29 (dk_at dksX5_isIn_0 11 rfl rfl)
theorem dX5_isIn_12 : decode cX5_isIn 12 = .ok (.iaload, 1) := dk_46 (dk_at dksX5_isIn_0 12 rfl rfl)
theorem dX5_isIn_13 : decode cX5_isIn 13 = .ok (.iload_n 1, 1) := dk_27 (dk_at dksX5_isIn_0 13 rfl rfl)
theorem dX5_isIn_14 : decode cX5_isIn 14 = .ok (.if_icmp .ne 5, 3) := dk_160 0 5 (dk_at dksX5_isIn_0 14 rfl rfl)
theorem dX5_isIn_17 : decode cX5_isIn 17 = .ok (.iconst 1, 1) := dk_4 (dk_at dksX5_isIn_0 17 rfl rfl)
theorem dX5_isIn_18 : decode cX5_isIn 18 = .ok (.ireturn, 1) := dk_172 (dk_at dksX5_isIn_0 18 rfl rfl)
theorem dX5_isIn_19 : decode cX5_isIn 19 = .ok (.iinc 3 1, 3) := dk_132 3 1 (dk_at dksX5_isIn_0 19 rfl rfl)
theorem dX5_isIn_22 : decode cX5_isIn 22 = .ok (.goto (-20), 3) := dk_167 255 236 (dk_at dksX5_isIn_1 0 rfl rfl)
theorem dX5_isIn_25 : decode cX5_isIn 25 = .ok (.iconst 0, 1) := dk_3 (dk_at dksX5_isIn_1 3 rfl rfl)
theorem dX5_isIn_26 : decode cX5_isIn 26 = .ok (.ireturn, 1) := dk_172 (dk_at dksX5_isIn_1 4 rfl rfl)
abbrev cX5_ring : ByteArray := prog_17_method_85_code
def yX5_ring : MethodName := ⟨RX5, "ring", "(III)I"⟩
def dkwX5_ring_3 : List UInt8 := [180, 1, 65, 163, 0, 14, 42, 180, 0, 80, 29, 4, 100, 46, 167, 0, 5, 16, 251, 172]
abbrev dktX5_ring_3 : List UInt8 := dkwX5_ring_3 ++ []
def dkwX5_ring_2 : List UInt8 := [172, 42, 182, 1, 74, 154, 0, 6, 16, 251, 172, 29, 154, 0, 10, 42, 180, 1, 65, 167, 0, 24, 29, 42]
abbrev dktX5_ring_2 : List UInt8 := dkwX5_ring_2 ++ dktX5_ring_3
def dkwX5_ring_1 : List UInt8 := [182, 1, 68, 54, 4, 21, 4, 153, 0, 6, 21, 4, 172, 42, 27, 28, 182, 1, 71, 154, 0, 6, 16, 253]
abbrev dktX5_ring_1 : List UInt8 := dkwX5_ring_1 ++ dktX5_ring_2
def dkwX5_ring_0 : List UInt8 := [27, 184, 1, 53, 153, 0, 15, 29, 133, 9, 20, 0, 124, 184, 0, 99, 154, 0, 5, 2, 172, 42, 27, 28]
abbrev dktX5_ring_0 : List UInt8 := dkwX5_ring_0 ++ dktX5_ring_1
theorem dksX5_ring_0 : cX5_ring.data.toList.drop 0 = dktX5_ring_0 := by decide +kernel
theorem dksX5_ring_1 : cX5_ring.data.toList.drop 24 = dktX5_ring_1 := dk_seg dksX5_ring_0 24 rfl rfl
theorem dksX5_ring_2 : cX5_ring.data.toList.drop 48 = dktX5_ring_2 := dk_seg dksX5_ring_1 24 rfl rfl
theorem dksX5_ring_3 : cX5_ring.data.toList.drop 72 = dktX5_ring_3 := dk_seg dksX5_ring_2 24 rfl rfl
theorem dX5_ring_0 : decode cX5_ring 0 = .ok (.iload_n 1, 1) := dk_27 (dk_at dksX5_ring_0 0 rfl rfl)
theorem dX5_ring_1 : decode cX5_ring 1 = .ok (.invokestatic 309, 3) := dk_184 1 53 (dk_at dksX5_ring_0 1 rfl rfl)
theorem dX5_ring_4 : decode cX5_ring 4 = .ok (.ifCond .eq 15, 3) := dk_153 0 15 (dk_at dksX5_ring_0 4 rfl rfl)
theorem dX5_ring_7 : decode cX5_ring 7 = .ok (.iload_n 3, 1) := dk_29 (dk_at dksX5_ring_0 7 rfl rfl)
theorem dX5_ring_8 : decode cX5_ring 8 = .ok (.i2l, 1) := dk_133 (dk_at dksX5_ring_0 8 rfl rfl)
theorem dX5_ring_9 : decode cX5_ring 9 = .ok (.lconst 0, 1) := dk_9 (dk_at dksX5_ring_0 9 rfl rfl)
theorem dX5_ring_10 : decode cX5_ring 10 = .ok (.ldc2_w 124, 3) := dk_20 0 124 (dk_at dksX5_ring_0 10 rfl rfl)
theorem dX5_ring_13 : decode cX5_ring 13 = .ok (.invokestatic 99, 3) := dk_184 0 99 (dk_at dksX5_ring_0 13 rfl rfl)
theorem dX5_ring_16 : decode cX5_ring 16 = .ok (.ifCond .ne 5, 3) := dk_154 0 5 (dk_at dksX5_ring_0 16 rfl rfl)
theorem dX5_ring_19 : decode cX5_ring 19 = .ok (.iconst (-1), 1) := dk_2 (dk_at dksX5_ring_0 19 rfl rfl)
theorem dX5_ring_20 : decode cX5_ring 20 = .ok (.ireturn, 1) := dk_172 (dk_at dksX5_ring_0 20 rfl rfl)
theorem dX5_ring_21 : decode cX5_ring 21 = .ok (.aload_n 0, 1) := dk_42 (dk_at dksX5_ring_0 21 rfl rfl)
theorem dX5_ring_22 : decode cX5_ring 22 = .ok (.iload_n 1, 1) := dk_27 (dk_at dksX5_ring_0 22 rfl rfl)
theorem dX5_ring_23 : decode cX5_ring 23 = .ok (.iload_n 2, 1) := dk_28 (dk_at dksX5_ring_0 23 rfl rfl)
theorem dX5_ring_24 : decode cX5_ring 24 = .ok (.invokevirtual 324, 3) := dk_182 1 68 (dk_at dksX5_ring_1 0 rfl rfl)
theorem dX5_ring_27 : decode cX5_ring 27 = .ok (.istore 4, 2) := dk_54 4 (dk_at dksX5_ring_1 3 rfl rfl)
theorem dX5_ring_29 : decode cX5_ring 29 = .ok (.iload 4, 2) := dk_21 4 (dk_at dksX5_ring_1 5 rfl rfl)
theorem dX5_ring_31 : decode cX5_ring 31 = .ok (.ifCond .eq 6, 3) := dk_153 0 6 (dk_at dksX5_ring_1 7 rfl rfl)
theorem dX5_ring_34 : decode cX5_ring 34 = .ok (.iload 4, 2) := dk_21 4 (dk_at dksX5_ring_1 10 rfl rfl)
theorem dX5_ring_36 : decode cX5_ring 36 = .ok (.ireturn, 1) := dk_172 (dk_at dksX5_ring_1 12 rfl rfl)
theorem dX5_ring_37 : decode cX5_ring 37 = .ok (.aload_n 0, 1) := dk_42 (dk_at dksX5_ring_1 13 rfl rfl)
theorem dX5_ring_38 : decode cX5_ring 38 = .ok (.iload_n 1, 1) := dk_27 (dk_at dksX5_ring_1 14 rfl rfl)
theorem dX5_ring_39 : decode cX5_ring 39 = .ok (.iload_n 2, 1) := dk_28 (dk_at dksX5_ring_1 15 rfl rfl)
theorem dX5_ring_40 : decode cX5_ring 40 = .ok (.invokevirtual 327, 3) := dk_182 1 71 (dk_at dksX5_ring_1 16 rfl rfl)
theorem dX5_ring_43 : decode cX5_ring 43 = .ok (.ifCond .ne 6, 3) := dk_154 0 6 (dk_at dksX5_ring_1 19 rfl rfl)
theorem dX5_ring_46 : decode cX5_ring 46 = .ok (.bipush (-3), 2) := dk_16 253 (dk_at dksX5_ring_1 22 rfl rfl)
theorem dX5_ring_48 : decode cX5_ring 48 = .ok (.ireturn, 1) := dk_172 (dk_at dksX5_ring_2 0 rfl rfl)
theorem dX5_ring_49 : decode cX5_ring 49 = .ok (.aload_n 0, 1) := dk_42 (dk_at dksX5_ring_2 1 rfl rfl)
theorem dX5_ring_50 : decode cX5_ring 50 = .ok (.invokevirtual 330, 3) := dk_182 1 74 (dk_at dksX5_ring_2 2 rfl rfl)
theorem dX5_ring_53 : decode cX5_ring 53 = .ok (.ifCond .ne 6, 3) := dk_154 0 6 (dk_at dksX5_ring_2 5 rfl rfl)
theorem dX5_ring_56 : decode cX5_ring 56 = .ok (.bipush (-5), 2) := dk_16 251 (dk_at dksX5_ring_2 8 rfl rfl)
theorem dX5_ring_58 : decode cX5_ring 58 = .ok (.ireturn, 1) := dk_172 (dk_at dksX5_ring_2 10 rfl rfl)
theorem dX5_ring_59 : decode cX5_ring 59 = .ok (.iload_n 3, 1) := dk_29 (dk_at dksX5_ring_2 11 rfl rfl)
theorem dX5_ring_60 : decode cX5_ring 60 = .ok (.ifCond .ne 10, 3) := dk_154 0 10 (dk_at dksX5_ring_2 12 rfl rfl)
theorem dX5_ring_63 : decode cX5_ring 63 = .ok (.aload_n 0, 1) := dk_42 (dk_at dksX5_ring_2 15 rfl rfl)
theorem dX5_ring_64 : decode cX5_ring 64 = .ok (.getfield 321, 3) := dk_180 1 65 (dk_at dksX5_ring_2 16 rfl rfl)
theorem dX5_ring_67 : decode cX5_ring 67 = .ok (.goto 24, 3) := dk_167 0 24 (dk_at dksX5_ring_2 19 rfl rfl)
theorem dX5_ring_70 : decode cX5_ring 70 = .ok (.iload_n 3, 1) := dk_29 (dk_at dksX5_ring_2 22 rfl rfl)
theorem dX5_ring_71 : decode cX5_ring 71 = .ok (.aload_n 0, 1) := dk_42 (dk_at dksX5_ring_2 23 rfl rfl)
theorem dX5_ring_72 : decode cX5_ring 72 = .ok (.getfield 321, 3) := dk_180 1 65 (dk_at dksX5_ring_3 0 rfl rfl)
theorem dX5_ring_75 : decode cX5_ring 75 = .ok (.if_icmp .gt 14, 3) := dk_163 0 14 (dk_at dksX5_ring_3 3 rfl rfl)
theorem dX5_ring_78 : decode cX5_ring 78 = .ok (.aload_n 0, 1) := dk_42 (dk_at dksX5_ring_3 6 rfl rfl)
theorem dX5_ring_79 : decode cX5_ring 79 = .ok (.getfield 80, 3) := dk_180 0 80 (dk_at dksX5_ring_3 7 rfl rfl)
theorem dX5_ring_82 : decode cX5_ring 82 = .ok (.iload_n 3, 1) := dk_29 (dk_at dksX5_ring_3 10 rfl rfl)
theorem dX5_ring_83 : decode cX5_ring 83 = .ok (.iconst 1, 1) := dk_4 (dk_at dksX5_ring_3 11 rfl rfl)
theorem dX5_ring_84 : decode cX5_ring 84 = .ok (.isub, 1) := dk_100 (dk_at dksX5_ring_3 12 rfl rfl)
theorem dX5_ring_85 : decode cX5_ring 85 = .ok (.iaload, 1) := dk_46 (dk_at dksX5_ring_3 13 rfl rfl)
theorem dX5_ring_86 : decode cX5_ring 86 = .ok (.goto 5, 3) := dk_167 0 5 (dk_at dksX5_ring_3 14 rfl rfl)
theorem dX5_ring_89 : decode cX5_ring 89 = .ok (.bipush (-5), 2) := dk_16 251 (dk_at dksX5_ring_3 17 rfl rfl)
theorem dX5_ring_91 : decode cX5_ring 91 = .ok (.ireturn, 1) := dk_172 (dk_at dksX5_ring_3 19 rfl rfl)
abbrev cX5_gain : ByteArray := prog_17_method_86_code
def yX5_gain : MethodName := ⟨RX5, "gain", "(II)J"⟩
def dkwX5_gain_1 : List UInt8 := [153, 0, 10, 42, 180, 1, 56, 167, 0, 6, 20, 0, 169, 173]
abbrev dktX5_gain_1 : List UInt8 := dkwX5_gain_1 ++ []
def dkwX5_gain_0 : List UInt8 := [42, 27, 28, 182, 1, 68, 154, 0, 26, 42, 27, 28, 182, 1, 71, 153, 0, 17, 42, 182, 1, 74]
abbrev dktX5_gain_0 : List UInt8 := dkwX5_gain_0 ++ dktX5_gain_1
theorem dksX5_gain_0 : cX5_gain.data.toList.drop 0 = dktX5_gain_0 := by decide +kernel
theorem dksX5_gain_1 : cX5_gain.data.toList.drop 22 = dktX5_gain_1 := dk_seg dksX5_gain_0 22 rfl rfl
theorem dX5_gain_0 : decode cX5_gain 0 = .ok (.aload_n 0, 1) := dk_42 (dk_at dksX5_gain_0 0 rfl rfl)
theorem dX5_gain_1 : decode cX5_gain 1 = .ok (.iload_n 1, 1) := dk_27 (dk_at dksX5_gain_0 1 rfl rfl)
theorem dX5_gain_2 : decode cX5_gain 2 = .ok (.iload_n 2, 1) := dk_28 (dk_at dksX5_gain_0 2 rfl rfl)
theorem dX5_gain_3 : decode cX5_gain 3 = .ok (.invokevirtual 324, 3) := dk_182 1 68 (dk_at dksX5_gain_0 3 rfl rfl)
theorem dX5_gain_6 : decode cX5_gain 6 = .ok (.ifCond .ne 26, 3) := dk_154 0 26 (dk_at dksX5_gain_0 6 rfl rfl)
theorem dX5_gain_9 : decode cX5_gain 9 = .ok (.aload_n 0, 1) := dk_42 (dk_at dksX5_gain_0 9 rfl rfl)
theorem dX5_gain_10 : decode cX5_gain 10 = .ok (.iload_n 1, 1) := dk_27 (dk_at dksX5_gain_0 10 rfl rfl)
theorem dX5_gain_11 : decode cX5_gain 11 = .ok (.iload_n 2, 1) := dk_28 (dk_at dksX5_gain_0 11 rfl rfl)
theorem dX5_gain_12 : decode cX5_gain 12 = .ok (.invokevirtual 327, 3) := dk_182 1 71 (dk_at dksX5_gain_0 12 rfl rfl)
theorem dX5_gain_15 : decode cX5_gain 15 = .ok (.ifCond .eq 17, 3) := dk_153 0 17 (dk_at dksX5_gain_0 15 rfl rfl)
theorem dX5_gain_18 : decode cX5_gain 18 = .ok (.aload_n 0, 1) := dk_42 (dk_at dksX5_gain_0 18 rfl rfl)
theorem dX5_gain_19 : decode cX5_gain 19 = .ok (.invokevirtual 330, 3) := dk_182 1 74 (dk_at dksX5_gain_0 19 rfl rfl)
theorem dX5_gain_22 : decode cX5_gain 22 = .ok (.ifCond .eq 10, 3) := dk_153 0 10 (dk_at dksX5_gain_1 0 rfl rfl)
theorem dX5_gain_25 : decode cX5_gain 25 = .ok (.aload_n 0, 1) := dk_42 (dk_at dksX5_gain_1 3 rfl rfl)
theorem dX5_gain_26 : decode cX5_gain 26 = .ok (.getfield 312, 3) := dk_180 1 56 (dk_at dksX5_gain_1 4 rfl rfl)
theorem dX5_gain_29 : decode cX5_gain 29 = .ok (.goto 6, 3) := dk_167 0 6 (dk_at dksX5_gain_1 7 rfl rfl)
theorem dX5_gain_32 : decode cX5_gain 32 = .ok (.ldc2_w 169, 3) := dk_20 0 169 (dk_at dksX5_gain_1 10 rfl rfl)
theorem dX5_gain_35 : decode cX5_gain 35 = .ok (.lreturn, 1) := dk_173 (dk_at dksX5_gain_1 13 rfl rfl)
abbrev cX5_mend : ByteArray := prog_17_method_87_code
def yX5_mend : MethodName := ⟨RX5, "mend", "(II)I"⟩
def dkwX5_mend_4 : List UInt8 := [172]
abbrev dktX5_mend_4 : List UInt8 := dkwX5_mend_4 ++ []
def dkwX5_mend_3 : List UInt8 := [27, 104, 28, 96, 21, 5, 96, 42, 180, 0, 43, 21, 5, 46, 133, 80, 132, 5, 1, 167, 255, 222, 21, 4]
abbrev dktX5_mend_3 : List UInt8 := dkwX5_mend_3 ++ dktX5_mend_4
def dkwX5_mend_2 : List UInt8 := [132, 4, 1, 167, 255, 235, 3, 54, 5, 21, 5, 42, 182, 0, 107, 162, 0, 31, 42, 180, 0, 40, 16, 30]
abbrev dktX5_mend_2 : List UInt8 := dkwX5_mend_2 ++ dktX5_mend_3
def dkwX5_mend_1 : List UInt8 := [172, 3, 54, 4, 21, 4, 16, 100, 162, 0, 20, 42, 182, 1, 74, 153, 0, 13, 42, 182, 1, 77]
abbrev dktX5_mend_1 : List UInt8 := dkwX5_mend_1 ++ dktX5_mend_2
def dkwX5_mend_0 : List UInt8 := [42, 27, 28, 182, 1, 68, 62, 29, 153, 0, 5, 29, 172, 42, 27, 28, 182, 1, 71, 154, 0, 6, 16, 253]
abbrev dktX5_mend_0 : List UInt8 := dkwX5_mend_0 ++ dktX5_mend_1
theorem dksX5_mend_0 : cX5_mend.data.toList.drop 0 = dktX5_mend_0 := by decide +kernel
theorem dksX5_mend_1 : cX5_mend.data.toList.drop 24 = dktX5_mend_1 := dk_seg dksX5_mend_0 24 rfl rfl
theorem dksX5_mend_2 : cX5_mend.data.toList.drop 46 = dktX5_mend_2 := dk_seg dksX5_mend_1 22 rfl rfl
theorem dksX5_mend_3 : cX5_mend.data.toList.drop 70 = dktX5_mend_3 := dk_seg dksX5_mend_2 24 rfl rfl
theorem dksX5_mend_4 : cX5_mend.data.toList.drop 94 = dktX5_mend_4 := dk_seg dksX5_mend_3 24 rfl rfl
theorem dX5_mend_0 : decode cX5_mend 0 = .ok (.aload_n 0, 1) := dk_42 (dk_at dksX5_mend_0 0 rfl rfl)
theorem dX5_mend_1 : decode cX5_mend 1 = .ok (.iload_n 1, 1) := dk_27 (dk_at dksX5_mend_0 1 rfl rfl)
theorem dX5_mend_2 : decode cX5_mend 2 = .ok (.iload_n 2, 1) := dk_28 (dk_at dksX5_mend_0 2 rfl rfl)
theorem dX5_mend_3 : decode cX5_mend 3 = .ok (.invokevirtual 324, 3) := dk_182 1 68 (dk_at dksX5_mend_0 3 rfl rfl)
theorem dX5_mend_6 : decode cX5_mend 6 = .ok (.istore_n 3, 1) := dk_62 (dk_at dksX5_mend_0 6 rfl rfl)
theorem dX5_mend_7 : decode cX5_mend 7 = .ok (.iload_n 3, 1) := dk_29 (dk_at dksX5_mend_0 7 rfl rfl)
theorem dX5_mend_8 : decode cX5_mend 8 = .ok (.ifCond .eq 5, 3) := dk_153 0 5 (dk_at dksX5_mend_0 8 rfl rfl)
theorem dX5_mend_11 : decode cX5_mend 11 = .ok (.iload_n 3, 1) := dk_29 (dk_at dksX5_mend_0 11 rfl rfl)
theorem dX5_mend_12 : decode cX5_mend 12 = .ok (.ireturn, 1) := dk_172 (dk_at dksX5_mend_0 12 rfl rfl)
theorem dX5_mend_13 : decode cX5_mend 13 = .ok (.aload_n 0, 1) := dk_42 (dk_at dksX5_mend_0 13 rfl rfl)
theorem dX5_mend_14 : decode cX5_mend 14 = .ok (.iload_n 1, 1) := dk_27 (dk_at dksX5_mend_0 14 rfl rfl)
theorem dX5_mend_15 : decode cX5_mend 15 = .ok (.iload_n 2, 1) := dk_28 (dk_at dksX5_mend_0 15 rfl rfl)
theorem dX5_mend_16 : decode cX5_mend 16 = .ok (.invokevirtual 327, 3) := dk_182 1 71 (dk_at dksX5_mend_0 16 rfl rfl)
theorem dX5_mend_19 : decode cX5_mend 19 = .ok (.ifCond .ne 6, 3) := dk_154 0 6 (dk_at dksX5_mend_0 19 rfl rfl)
theorem dX5_mend_22 : decode cX5_mend 22 = .ok (.bipush (-3), 2) := dk_16 253 (dk_at dksX5_mend_0 22 rfl rfl)
theorem dX5_mend_24 : decode cX5_mend 24 = .ok (.ireturn, 1) := dk_172 (dk_at dksX5_mend_1 0 rfl rfl)
theorem dX5_mend_25 : decode cX5_mend 25 = .ok (.iconst 0, 1) := dk_3 (dk_at dksX5_mend_1 1 rfl rfl)
theorem dX5_mend_26 : decode cX5_mend 26 = .ok (.istore 4, 2) := dk_54 4 (dk_at dksX5_mend_1 2 rfl rfl)
theorem dX5_mend_28 : decode cX5_mend 28 = .ok (.iload 4, 2) := dk_21 4 (dk_at dksX5_mend_1 4 rfl rfl)
theorem dX5_mend_30 : decode cX5_mend 30 = .ok (.bipush 100, 2) := dk_16 100 (dk_at dksX5_mend_1 6 rfl rfl)
theorem dX5_mend_32 : decode cX5_mend 32 = .ok (.if_icmp .ge 20, 3) := dk_162 0 20 (dk_at dksX5_mend_1 8 rfl rfl)
theorem dX5_mend_35 : decode cX5_mend 35 = .ok (.aload_n 0, 1) := dk_42 (dk_at dksX5_mend_1 11 rfl rfl)
theorem dX5_mend_36 : decode cX5_mend 36 = .ok (.invokevirtual 330, 3) := dk_182 1 74 (dk_at dksX5_mend_1 12 rfl rfl)
theorem dX5_mend_39 : decode cX5_mend 39 = .ok (.ifCond .eq 13, 3) := dk_153 0 13 (dk_at dksX5_mend_1 15 rfl rfl)
theorem dX5_mend_42 : decode cX5_mend 42 = .ok (.aload_n 0, 1) := dk_42 (dk_at dksX5_mend_1 18 rfl rfl)
theorem dX5_mend_43 : decode cX5_mend 43 = .ok (.invokevirtual 333, 3) := dk_182 1 77 (dk_at dksX5_mend_1 19 rfl rfl)
theorem dX5_mend_46 : decode cX5_mend 46 = .ok (.iinc 4 1, 3) := dk_132 4 1 (dk_at dksX5_mend_2 0 rfl rfl)
theorem dX5_mend_49 : decode cX5_mend 49 = .ok (.goto (-21), 3) := dk_167 255 235 (dk_at dksX5_mend_2 3 rfl rfl)
theorem dX5_mend_52 : decode cX5_mend 52 = .ok (.iconst 0, 1) := dk_3 (dk_at dksX5_mend_2 6 rfl rfl)
theorem dX5_mend_53 : decode cX5_mend 53 = .ok (.istore 5, 2) := dk_54 5 (dk_at dksX5_mend_2 7 rfl rfl)
theorem dX5_mend_55 : decode cX5_mend 55 = .ok (.iload 5, 2) := dk_21 5 (dk_at dksX5_mend_2 9 rfl rfl)
theorem dX5_mend_57 : decode cX5_mend 57 = .ok (.aload_n 0, 1) := dk_42 (dk_at dksX5_mend_2 11 rfl rfl)
theorem dX5_mend_58 : decode cX5_mend 58 = .ok (.invokevirtual 107, 3) := dk_182 0 107 (dk_at dksX5_mend_2 12 rfl rfl)
theorem dX5_mend_61 : decode cX5_mend 61 = .ok (.if_icmp .ge 31, 3) := dk_162 0 31 (dk_at dksX5_mend_2 15 rfl rfl)
theorem dX5_mend_64 : decode cX5_mend 64 = .ok (.aload_n 0, 1) := dk_42 (dk_at dksX5_mend_2 18 rfl rfl)
theorem dX5_mend_65 : decode cX5_mend 65 = .ok (.getfield 40, 3) := dk_180 0 40 (dk_at dksX5_mend_2 19 rfl rfl)
theorem dX5_mend_68 : decode cX5_mend 68 = .ok (.bipush 30, 2) := dk_16 30 (dk_at dksX5_mend_2 22 rfl rfl)
theorem dX5_mend_70 : decode cX5_mend 70 = .ok (.iload_n 1, 1) := dk_27 (dk_at dksX5_mend_3 0 rfl rfl)
theorem dX5_mend_71 : decode cX5_mend 71 = .ok (.imul, 1) := dk_104 (dk_at dksX5_mend_3 1 rfl rfl)
theorem dX5_mend_72 : decode cX5_mend 72 = .ok (.iload_n 2, 1) := dk_28 (dk_at dksX5_mend_3 2 rfl rfl)
theorem dX5_mend_73 : decode cX5_mend 73 = .ok (.iadd, 1) := dk_96 (dk_at dksX5_mend_3 3 rfl rfl)
theorem dX5_mend_74 : decode cX5_mend 74 = .ok (.iload 5, 2) := dk_21 5 (dk_at dksX5_mend_3 4 rfl rfl)
theorem dX5_mend_76 : decode cX5_mend 76 = .ok (.iadd, 1) := dk_96 (dk_at dksX5_mend_3 6 rfl rfl)
theorem dX5_mend_77 : decode cX5_mend 77 = .ok (.aload_n 0, 1) := dk_42 (dk_at dksX5_mend_3 7 rfl rfl)
theorem dX5_mend_78 : decode cX5_mend 78 = .ok (.getfield 43, 3) := dk_180 0 43 (dk_at dksX5_mend_3 8 rfl rfl)
theorem dX5_mend_81 : decode cX5_mend 81 = .ok (.iload 5, 2) := dk_21 5 (dk_at dksX5_mend_3 11 rfl rfl)
theorem dX5_mend_83 : decode cX5_mend 83 = .ok (.iaload, 1) := dk_46 (dk_at dksX5_mend_3 13 rfl rfl)
theorem dX5_mend_84 : decode cX5_mend 84 = .ok (.i2l, 1) := dk_133 (dk_at dksX5_mend_3 14 rfl rfl)
theorem dX5_mend_85 : decode cX5_mend 85 = .ok (.lastore, 1) := dk_80 (dk_at dksX5_mend_3 15 rfl rfl)
theorem dX5_mend_86 : decode cX5_mend 86 = .ok (.iinc 5 1, 3) := dk_132 5 1 (dk_at dksX5_mend_3 16 rfl rfl)
theorem dX5_mend_89 : decode cX5_mend 89 = .ok (.goto (-34), 3) := dk_167 255 222 (dk_at dksX5_mend_3 19 rfl rfl)
theorem dX5_mend_92 : decode cX5_mend 92 = .ok (.iload 4, 2) := dk_21 4 (dk_at dksX5_mend_3 22 rfl rfl)
theorem dX5_mend_94 : decode cX5_mend 94 = .ok (.ireturn, 1) := dk_172 (dk_at dksX5_mend_4 0 rfl rfl)
abbrev cX5_turnsRing : ByteArray := prog_17_method_83_code
def yX5_turnsRing : MethodName := ⟨RX5, "turnsRing", "()V"⟩
def dkwX5_turnsRing_4 : List UInt8 := [28, 4, 96, 42, 180, 1, 65, 112, 46, 96, 46, 27, 182, 0, 231, 132, 2, 1, 167, 255, 212, 177]
abbrev dktX5_turnsRing_4 : List UInt8 := dkwX5_turnsRing_4 ++ []
def dkwX5_turnsRing_3 : List UInt8 := [180, 1, 65, 162, 0, 42, 42, 42, 180, 0, 86, 16, 8, 42, 180, 0, 80, 28, 46, 104, 42, 180, 0, 80]
abbrev dktX5_turnsRing_3 : List UInt8 := dkwX5_turnsRing_3 ++ dktX5_turnsRing_4
def dkwX5_turnsRing_2 : List UInt8 := [162, 0, 11, 42, 29, 182, 0, 221, 167, 0, 4, 27, 60, 132, 2, 1, 167, 255, 197, 3, 61, 28, 42]
abbrev dktX5_turnsRing_2 : List UInt8 := dkwX5_turnsRing_2 ++ dktX5_turnsRing_3
def dkwX5_turnsRing_1 : List UInt8 := [46, 104, 42, 180, 0, 80, 28, 4, 96, 42, 180, 1, 65, 112, 46, 96, 46, 62, 42, 29, 182, 0, 221, 27]
abbrev dktX5_turnsRing_1 : List UInt8 := dkwX5_turnsRing_1 ++ dktX5_turnsRing_2
def dkwX5_turnsRing_0 : List UInt8 := [16, 99, 60, 3, 61, 28, 42, 180, 1, 65, 162, 0, 57, 42, 180, 0, 86, 16, 8, 42, 180, 0, 80, 28]
abbrev dktX5_turnsRing_0 : List UInt8 := dkwX5_turnsRing_0 ++ dktX5_turnsRing_1
theorem dksX5_turnsRing_0 : cX5_turnsRing.data.toList.drop 0 = dktX5_turnsRing_0 := by decide +kernel
theorem dksX5_turnsRing_1 : cX5_turnsRing.data.toList.drop 24 = dktX5_turnsRing_1 := dk_seg dksX5_turnsRing_0 24 rfl rfl
theorem dksX5_turnsRing_2 : cX5_turnsRing.data.toList.drop 48 = dktX5_turnsRing_2 := dk_seg dksX5_turnsRing_1 24 rfl rfl
theorem dksX5_turnsRing_3 : cX5_turnsRing.data.toList.drop 71 = dktX5_turnsRing_3 := dk_seg dksX5_turnsRing_2 23 rfl rfl
theorem dksX5_turnsRing_4 : cX5_turnsRing.data.toList.drop 95 = dktX5_turnsRing_4 := dk_seg dksX5_turnsRing_3 24 rfl rfl
theorem dX5_turnsRing_0 : decode cX5_turnsRing 0 = .ok (.bipush 99, 2) := dk_16 99 (dk_at dksX5_turnsRing_0 0 rfl rfl)
theorem dX5_turnsRing_2 : decode cX5_turnsRing 2 = .ok (.istore_n 1, 1) := dk_60 (dk_at dksX5_turnsRing_0 2 rfl rfl)
theorem dX5_turnsRing_3 : decode cX5_turnsRing 3 = .ok (.iconst 0, 1) := dk_3 (dk_at dksX5_turnsRing_0 3 rfl rfl)
theorem dX5_turnsRing_4 : decode cX5_turnsRing 4 = .ok (.istore_n 2, 1) := dk_61 (dk_at dksX5_turnsRing_0 4 rfl rfl)
theorem dX5_turnsRing_5 : decode cX5_turnsRing 5 = .ok (.iload_n 2, 1) := dk_28 (dk_at dksX5_turnsRing_0 5 rfl rfl)
theorem dX5_turnsRing_6 : decode cX5_turnsRing 6 = .ok (.aload_n 0, 1) := dk_42 (dk_at dksX5_turnsRing_0 6 rfl rfl)
theorem dX5_turnsRing_7 : decode cX5_turnsRing 7 = .ok (.getfield 321, 3) := dk_180 1 65 (dk_at dksX5_turnsRing_0 7 rfl rfl)
theorem dX5_turnsRing_10 : decode cX5_turnsRing 10 = .ok (.if_icmp .ge 57, 3) := dk_162 0 57 (dk_at dksX5_turnsRing_0 10 rfl rfl)
theorem dX5_turnsRing_13 : decode cX5_turnsRing 13 = .ok (.aload_n 0, 1) := dk_42 (dk_at dksX5_turnsRing_0 13 rfl rfl)
theorem dX5_turnsRing_14 : decode cX5_turnsRing 14 = .ok (.getfield 86, 3) := dk_180 0 86 (dk_at dksX5_turnsRing_0 14 rfl rfl)
theorem dX5_turnsRing_17 : decode cX5_turnsRing 17 = .ok (.bipush 8, 2) := dk_16 8 (dk_at dksX5_turnsRing_0 17 rfl rfl)
theorem dX5_turnsRing_19 : decode cX5_turnsRing 19 = .ok (.aload_n 0, 1) := dk_42 (dk_at dksX5_turnsRing_0 19 rfl rfl)
theorem dX5_turnsRing_20 : decode cX5_turnsRing 20 = .ok (.getfield 80, 3) := dk_180 0 80 (dk_at dksX5_turnsRing_0 20 rfl rfl)
theorem dX5_turnsRing_23 : decode cX5_turnsRing 23 = .ok (.iload_n 2, 1) := dk_28 (dk_at dksX5_turnsRing_0 23 rfl rfl)
theorem dX5_turnsRing_24 : decode cX5_turnsRing 24 = .ok (.iaload, 1) := dk_46 (dk_at dksX5_turnsRing_1 0 rfl rfl)
theorem dX5_turnsRing_25 : decode cX5_turnsRing 25 = .ok (.imul, 1) := dk_104 (dk_at dksX5_turnsRing_1 1 rfl rfl)
theorem dX5_turnsRing_26 : decode cX5_turnsRing 26 = .ok (.aload_n 0, 1) := dk_42 (dk_at dksX5_turnsRing_1 2 rfl rfl)
theorem dX5_turnsRing_27 : decode cX5_turnsRing 27 = .ok (.getfield 80, 3) := dk_180 0 80 (dk_at dksX5_turnsRing_1 3 rfl rfl)
theorem dX5_turnsRing_30 : decode cX5_turnsRing 30 = .ok (.iload_n 2, 1) := dk_28 (dk_at dksX5_turnsRing_1 6 rfl rfl)
theorem dX5_turnsRing_31 : decode cX5_turnsRing 31 = .ok (.iconst 1, 1) := dk_4 (dk_at dksX5_turnsRing_1 7 rfl rfl)
theorem dX5_turnsRing_32 : decode cX5_turnsRing 32 = .ok (.iadd, 1) := dk_96 (dk_at dksX5_turnsRing_1 8 rfl rfl)
theorem dX5_turnsRing_33 : decode cX5_turnsRing 33 = .ok (.aload_n 0, 1) := dk_42 (dk_at dksX5_turnsRing_1 9 rfl rfl)
theorem dX5_turnsRing_34 : decode cX5_turnsRing 34 = .ok (.getfield 321, 3) := dk_180 1 65 (dk_at dksX5_turnsRing_1 10 rfl rfl)
theorem dX5_turnsRing_37 : decode cX5_turnsRing 37 = .ok (.irem, 1) := dk_112 (dk_at dksX5_turnsRing_1 13 rfl rfl)
theorem dX5_turnsRing_38 : decode cX5_turnsRing 38 = .ok (.iaload, 1) := dk_46 (dk_at dksX5_turnsRing_1 14 rfl rfl)
theorem dX5_turnsRing_39 : decode cX5_turnsRing 39 = .ok (.iadd, 1) := dk_96 (dk_at dksX5_turnsRing_1 15 rfl rfl)
theorem dX5_turnsRing_40 : decode cX5_turnsRing 40 = .ok (.iaload, 1) := dk_46 (dk_at dksX5_turnsRing_1 16 rfl rfl)
theorem dX5_turnsRing_41 : decode cX5_turnsRing 41 = .ok (.istore_n 3, 1) := dk_62 (dk_at dksX5_turnsRing_1 17 rfl rfl)
theorem dX5_turnsRing_42 : decode cX5_turnsRing 42 = .ok (.aload_n 0, 1) := dk_42 (dk_at dksX5_turnsRing_1 18 rfl rfl)
theorem dX5_turnsRing_43 : decode cX5_turnsRing 43 = .ok (.iload_n 3, 1) := dk_29 (dk_at dksX5_turnsRing_1 19 rfl rfl)
theorem dX5_turnsRing_44 : decode cX5_turnsRing 44 = .ok (.invokevirtual 221, 3) := dk_182 0 221 (dk_at dksX5_turnsRing_1 20 rfl rfl)
theorem dX5_turnsRing_47 : decode cX5_turnsRing 47 = .ok (.iload_n 1, 1) := dk_27 (dk_at dksX5_turnsRing_1 23 rfl rfl)
theorem dX5_turnsRing_48 : decode cX5_turnsRing 48 = .ok (.if_icmp .ge 11, 3) := dk_162 0 11 (dk_at dksX5_turnsRing_2 0 rfl rfl)
theorem dX5_turnsRing_51 : decode cX5_turnsRing 51 = .ok (.aload_n 0, 1) := dk_42 (dk_at dksX5_turnsRing_2 3 rfl rfl)
theorem dX5_turnsRing_52 : decode cX5_turnsRing 52 = .ok (.iload_n 3, 1) := dk_29 (dk_at dksX5_turnsRing_2 4 rfl rfl)
theorem dX5_turnsRing_53 : decode cX5_turnsRing 53 = .ok (.invokevirtual 221, 3) := dk_182 0 221 (dk_at dksX5_turnsRing_2 5 rfl rfl)
theorem dX5_turnsRing_56 : decode cX5_turnsRing 56 = .ok (.goto 4, 3) := dk_167 0 4 (dk_at dksX5_turnsRing_2 8 rfl rfl)
theorem dX5_turnsRing_59 : decode cX5_turnsRing 59 = .ok (.iload_n 1, 1) := dk_27 (dk_at dksX5_turnsRing_2 11 rfl rfl)
theorem dX5_turnsRing_60 : decode cX5_turnsRing 60 = .ok (.istore_n 1, 1) := dk_60 (dk_at dksX5_turnsRing_2 12 rfl rfl)
theorem dX5_turnsRing_61 : decode cX5_turnsRing 61 = .ok (.iinc 2 1, 3) := dk_132 2 1 (dk_at dksX5_turnsRing_2 13 rfl rfl)
theorem dX5_turnsRing_64 : decode cX5_turnsRing 64 = .ok (.goto (-59), 3) := dk_167 255 197 (dk_at dksX5_turnsRing_2 16 rfl rfl)
theorem dX5_turnsRing_67 : decode cX5_turnsRing 67 = .ok (.iconst 0, 1) := dk_3 (dk_at dksX5_turnsRing_2 19 rfl rfl)
theorem dX5_turnsRing_68 : decode cX5_turnsRing 68 = .ok (.istore_n 2, 1) := dk_61 (dk_at dksX5_turnsRing_2 20 rfl rfl)
theorem dX5_turnsRing_69 : decode cX5_turnsRing 69 = .ok (.iload_n 2, 1) := dk_28 (dk_at dksX5_turnsRing_2 21 rfl rfl)
theorem dX5_turnsRing_70 : decode cX5_turnsRing 70 = .ok (.aload_n 0, 1) := dk_42 (dk_at dksX5_turnsRing_2 22 rfl rfl)
theorem dX5_turnsRing_71 : decode cX5_turnsRing 71 = .ok (.getfield 321, 3) := dk_180 1 65 (dk_at dksX5_turnsRing_3 0 rfl rfl)
theorem dX5_turnsRing_74 : decode cX5_turnsRing 74 = .ok (.if_icmp .ge 42, 3) := dk_162 0 42 (dk_at dksX5_turnsRing_3 3 rfl rfl)
theorem dX5_turnsRing_77 : decode cX5_turnsRing 77 = .ok (.aload_n 0, 1) := dk_42 (dk_at dksX5_turnsRing_3 6 rfl rfl)
theorem dX5_turnsRing_78 : decode cX5_turnsRing 78 = .ok (.aload_n 0, 1) := dk_42 (dk_at dksX5_turnsRing_3 7 rfl rfl)
theorem dX5_turnsRing_79 : decode cX5_turnsRing 79 = .ok (.getfield 86, 3) := dk_180 0 86 (dk_at dksX5_turnsRing_3 8 rfl rfl)
theorem dX5_turnsRing_82 : decode cX5_turnsRing 82 = .ok (.bipush 8, 2) := dk_16 8 (dk_at dksX5_turnsRing_3 11 rfl rfl)
theorem dX5_turnsRing_84 : decode cX5_turnsRing 84 = .ok (.aload_n 0, 1) := dk_42 (dk_at dksX5_turnsRing_3 13 rfl rfl)
theorem dX5_turnsRing_85 : decode cX5_turnsRing 85 = .ok (.getfield 80, 3) := dk_180 0 80 (dk_at dksX5_turnsRing_3 14 rfl rfl)
theorem dX5_turnsRing_88 : decode cX5_turnsRing 88 = .ok (.iload_n 2, 1) := dk_28 (dk_at dksX5_turnsRing_3 17 rfl rfl)
theorem dX5_turnsRing_89 : decode cX5_turnsRing 89 = .ok (.iaload, 1) := dk_46 (dk_at dksX5_turnsRing_3 18 rfl rfl)
theorem dX5_turnsRing_90 : decode cX5_turnsRing 90 = .ok (.imul, 1) := dk_104 (dk_at dksX5_turnsRing_3 19 rfl rfl)
theorem dX5_turnsRing_91 : decode cX5_turnsRing 91 = .ok (.aload_n 0, 1) := dk_42 (dk_at dksX5_turnsRing_3 20 rfl rfl)
theorem dX5_turnsRing_92 : decode cX5_turnsRing 92 = .ok (.getfield 80, 3) := dk_180 0 80 (dk_at dksX5_turnsRing_3 21 rfl rfl)
theorem dX5_turnsRing_95 : decode cX5_turnsRing 95 = .ok (.iload_n 2, 1) := dk_28 (dk_at dksX5_turnsRing_4 0 rfl rfl)
theorem dX5_turnsRing_96 : decode cX5_turnsRing 96 = .ok (.iconst 1, 1) := dk_4 (dk_at dksX5_turnsRing_4 1 rfl rfl)
theorem dX5_turnsRing_97 : decode cX5_turnsRing 97 = .ok (.iadd, 1) := dk_96 (dk_at dksX5_turnsRing_4 2 rfl rfl)
theorem dX5_turnsRing_98 : decode cX5_turnsRing 98 = .ok (.aload_n 0, 1) := dk_42 (dk_at dksX5_turnsRing_4 3 rfl rfl)
theorem dX5_turnsRing_99 : decode cX5_turnsRing 99 = .ok (.getfield 321, 3) := dk_180 1 65 (dk_at dksX5_turnsRing_4 4 rfl rfl)
theorem dX5_turnsRing_102 : decode cX5_turnsRing 102 = .ok (.irem, 1) := dk_112 (dk_at dksX5_turnsRing_4 7 rfl rfl)
theorem dX5_turnsRing_103 : decode cX5_turnsRing 103 = .ok (.iaload, 1) := dk_46 (dk_at dksX5_turnsRing_4 8 rfl rfl)
theorem dX5_turnsRing_104 : decode cX5_turnsRing 104 = .ok (.iadd, 1) := dk_96 (dk_at dksX5_turnsRing_4 9 rfl rfl)
theorem dX5_turnsRing_105 : decode cX5_turnsRing 105 = .ok (.iaload, 1) := dk_46 (dk_at dksX5_turnsRing_4 10 rfl rfl)
theorem dX5_turnsRing_106 : decode cX5_turnsRing 106 = .ok (.iload_n 1, 1) := dk_27 (dk_at dksX5_turnsRing_4 11 rfl rfl)
theorem dX5_turnsRing_107 : decode cX5_turnsRing 107 = .ok (.invokevirtual 231, 3) := dk_182 0 231 (dk_at dksX5_turnsRing_4 12 rfl rfl)
theorem dX5_turnsRing_110 : decode cX5_turnsRing 110 = .ok (.iinc 2 1, 3) := dk_132 2 1 (dk_at dksX5_turnsRing_4 15 rfl rfl)
theorem dX5_turnsRing_113 : decode cX5_turnsRing 113 = .ok (.goto (-44), 3) := dk_167 255 212 (dk_at dksX5_turnsRing_4 18 rfl rfl)
theorem dX5_turnsRing_116 : decode cX5_turnsRing 116 = .ok (.return_, 1) := dk_177 (dk_at dksX5_turnsRing_4 21 rfl rfl)
abbrev cX5_parts : ByteArray := prog_17_method_91_code
def yX5_parts : MethodName := ⟨RX5, "parts", "()I"⟩
def dkwX5_parts_0 : List UInt8 := [42, 182, 1, 89, 153, 0, 10, 42, 180, 1, 80, 167, 0, 5, 16, 253, 172]
abbrev dktX5_parts_0 : List UInt8 := dkwX5_parts_0 ++ []
theorem dksX5_parts_0 : cX5_parts.data.toList.drop 0 = dktX5_parts_0 := by decide +kernel
theorem dX5_parts_0 : decode cX5_parts 0 = .ok (.aload_n 0, 1) := dk_42 (dk_at dksX5_parts_0 0 rfl rfl)
theorem dX5_parts_1 : decode cX5_parts 1 = .ok (.invokevirtual 345, 3) := dk_182 1 89 (dk_at dksX5_parts_0 1 rfl rfl)
theorem dX5_parts_4 : decode cX5_parts 4 = .ok (.ifCond .eq 10, 3) := dk_153 0 10 (dk_at dksX5_parts_0 4 rfl rfl)
theorem dX5_parts_7 : decode cX5_parts 7 = .ok (.aload_n 0, 1) := dk_42 (dk_at dksX5_parts_0 7 rfl rfl)
theorem dX5_parts_8 : decode cX5_parts 8 = .ok (.getfield 336, 3) := dk_180 1 80 (dk_at dksX5_parts_0 8 rfl rfl)
theorem dX5_parts_11 : decode cX5_parts 11 = .ok (.goto 5, 3) := dk_167 0 5 (dk_at dksX5_parts_0 11 rfl rfl)
theorem dX5_parts_14 : decode cX5_parts 14 = .ok (.bipush (-3), 2) := dk_16 253 (dk_at dksX5_parts_0 14 rfl rfl)
theorem dX5_parts_16 : decode cX5_parts 16 = .ok (.ireturn, 1) := dk_172 (dk_at dksX5_parts_0 16 rfl rfl)
abbrev cX5_isParted : ByteArray := prog_17_method_90_code
def yX5_isParted : MethodName := ⟨RX5, "isParted", "()Z"⟩
def dkwX5_isParted_6 : List UInt8 := [167, 255, 165, 4, 172]
abbrev dktX5_isParted_6 : List UInt8 := dkwX5_isParted_6 ++ []
def dkwX5_isParted_5 : List UInt8 := [182, 0, 152, 61, 28, 155, 0, 7, 4, 167, 0, 4, 3, 60, 27, 153, 0, 9, 42, 28, 29, 182, 1, 86]
abbrev dktX5_isParted_5 : List UInt8 := dkwX5_isParted_5 ++ dktX5_isParted_6
def dkwX5_isParted_4 : List UInt8 := [153, 0, 7, 2, 167, 0, 8, 42, 2, 182, 1, 83, 54, 4, 21, 4, 155, 0, 10, 42, 21, 4]
abbrev dktX5_isParted_4 : List UInt8 := dkwX5_isParted_4 ++ dktX5_isParted_5
def dkwX5_isParted_3 : List UInt8 := [158, 0, 5, 29, 61, 132, 3, 255, 167, 255, 238, 28, 155, 0, 7, 4, 167, 0, 4, 3, 62, 29]
abbrev dktX5_isParted_3 : List UInt8 := dkwX5_isParted_3 ++ dktX5_isParted_4
def dkwX5_isParted_2 : List UInt8 := [153, 0, 93, 2, 61, 42, 182, 0, 95, 4, 100, 62, 29, 155, 0, 20, 42, 180, 0, 46, 29, 46]
abbrev dktX5_isParted_2 : List UInt8 := dkwX5_isParted_2 ++ dktX5_isParted_3
def dkwX5_isParted_1 : List UInt8 := [42, 180, 0, 46, 27, 42, 180, 0, 9, 5, 27, 96, 46, 79, 132, 1, 1, 167, 255, 231, 4, 60, 27]
abbrev dktX5_isParted_1 : List UInt8 := dkwX5_isParted_1 ++ dktX5_isParted_2
def dkwX5_isParted_0 : List UInt8 := [42, 3, 181, 1, 80, 42, 182, 1, 16, 154, 0, 5, 3, 172, 3, 60, 27, 42, 182, 0, 95, 162, 0, 23]
abbrev dktX5_isParted_0 : List UInt8 := dkwX5_isParted_0 ++ dktX5_isParted_1
theorem dksX5_isParted_0 : cX5_isParted.data.toList.drop 0 = dktX5_isParted_0 := by decide +kernel
theorem dksX5_isParted_1 : cX5_isParted.data.toList.drop 24 = dktX5_isParted_1 := dk_seg dksX5_isParted_0 24 rfl rfl
theorem dksX5_isParted_2 : cX5_isParted.data.toList.drop 47 = dktX5_isParted_2 := dk_seg dksX5_isParted_1 23 rfl rfl
theorem dksX5_isParted_3 : cX5_isParted.data.toList.drop 69 = dktX5_isParted_3 := dk_seg dksX5_isParted_2 22 rfl rfl
theorem dksX5_isParted_4 : cX5_isParted.data.toList.drop 91 = dktX5_isParted_4 := dk_seg dksX5_isParted_3 22 rfl rfl
theorem dksX5_isParted_5 : cX5_isParted.data.toList.drop 113 = dktX5_isParted_5 := dk_seg dksX5_isParted_4 22 rfl rfl
theorem dksX5_isParted_6 : cX5_isParted.data.toList.drop 137 = dktX5_isParted_6 := dk_seg dksX5_isParted_5 24 rfl rfl
theorem dX5_isParted_0 : decode cX5_isParted 0 = .ok (.aload_n 0, 1) := dk_42 (dk_at dksX5_isParted_0 0 rfl rfl)
theorem dX5_isParted_1 : decode cX5_isParted 1 = .ok (.iconst 0, 1) := dk_3 (dk_at dksX5_isParted_0 1 rfl rfl)
theorem dX5_isParted_2 : decode cX5_isParted 2 = .ok (.putfield 336, 3) := dk_181 1 80 (dk_at dksX5_isParted_0 2 rfl rfl)
theorem dX5_isParted_5 : decode cX5_isParted 5 = .ok (.aload_n 0, 1) := dk_42 (dk_at dksX5_isParted_0 5 rfl rfl)
theorem dX5_isParted_6 : decode cX5_isParted 6 = .ok (.invokevirtual 272, 3) := dk_182 1 16 (dk_at dksX5_isParted_0 6 rfl rfl)
theorem dX5_isParted_9 : decode cX5_isParted 9 = .ok (.ifCond .ne 5, 3) := dk_154 0 5 (dk_at dksX5_isParted_0 9 rfl rfl)
theorem dX5_isParted_12 : decode cX5_isParted 12 = .ok (.iconst 0, 1) := dk_3 (dk_at dksX5_isParted_0 12 rfl rfl)
theorem dX5_isParted_13 : decode cX5_isParted 13 = .ok (.ireturn, 1) := dk_172 (dk_at dksX5_isParted_0 13 rfl rfl)
theorem dX5_isParted_14 : decode cX5_isParted 14 = .ok (.iconst 0, 1) := dk_3 (dk_at dksX5_isParted_0 14 rfl rfl)
theorem dX5_isParted_15 : decode cX5_isParted 15 = .ok (.istore_n 1, 1) := dk_60 (dk_at dksX5_isParted_0 15 rfl rfl)
theorem dX5_isParted_16 : decode cX5_isParted 16 = .ok (.iload_n 1, 1) := dk_27 (dk_at dksX5_isParted_0 16 rfl rfl)
theorem dX5_isParted_17 : decode cX5_isParted 17 = .ok (.aload_n 0, 1) := dk_42 (dk_at dksX5_isParted_0 17 rfl rfl)
theorem dX5_isParted_18 : decode cX5_isParted 18 = .ok (.invokevirtual 95, 3) := dk_182 0 95 (dk_at dksX5_isParted_0 18 rfl rfl)
theorem dX5_isParted_21 : decode cX5_isParted 21 = .ok (.if_icmp .ge 23, 3) := dk_162 0 23 (dk_at dksX5_isParted_0 21 rfl rfl)
theorem dX5_isParted_24 : decode cX5_isParted 24 = .ok (.aload_n 0, 1) := dk_42 (dk_at dksX5_isParted_1 0 rfl rfl)
theorem dX5_isParted_25 : decode cX5_isParted 25 = .ok (.getfield 46, 3) := dk_180 0 46 (dk_at dksX5_isParted_1 1 rfl rfl)
theorem dX5_isParted_28 : decode cX5_isParted 28 = .ok (.iload_n 1, 1) := dk_27 (dk_at dksX5_isParted_1 4 rfl rfl)
theorem dX5_isParted_29 : decode cX5_isParted 29 = .ok (.aload_n 0, 1) := dk_42 (dk_at dksX5_isParted_1 5 rfl rfl)
theorem dX5_isParted_30 : decode cX5_isParted 30 = .ok (.getfield 9, 3) := dk_180 0 9 (dk_at dksX5_isParted_1 6 rfl rfl)
theorem dX5_isParted_33 : decode cX5_isParted 33 = .ok (.iconst 2, 1) := dk_5 (dk_at dksX5_isParted_1 9 rfl rfl)
theorem dX5_isParted_34 : decode cX5_isParted 34 = .ok (.iload_n 1, 1) := dk_27 (dk_at dksX5_isParted_1 10 rfl rfl)
theorem dX5_isParted_35 : decode cX5_isParted 35 = .ok (.iadd, 1) := dk_96 (dk_at dksX5_isParted_1 11 rfl rfl)
theorem dX5_isParted_36 : decode cX5_isParted 36 = .ok (.iaload, 1) := dk_46 (dk_at dksX5_isParted_1 12 rfl rfl)
theorem dX5_isParted_37 : decode cX5_isParted 37 = .ok (.iastore, 1) := dk_79 (dk_at dksX5_isParted_1 13 rfl rfl)
theorem dX5_isParted_38 : decode cX5_isParted 38 = .ok (.iinc 1 1, 3) := dk_132 1 1 (dk_at dksX5_isParted_1 14 rfl rfl)
theorem dX5_isParted_41 : decode cX5_isParted 41 = .ok (.goto (-25), 3) := dk_167 255 231 (dk_at dksX5_isParted_1 17 rfl rfl)
theorem dX5_isParted_44 : decode cX5_isParted 44 = .ok (.iconst 1, 1) := dk_4 (dk_at dksX5_isParted_1 20 rfl rfl)
theorem dX5_isParted_45 : decode cX5_isParted 45 = .ok (.istore_n 1, 1) := dk_60 (dk_at dksX5_isParted_1 21 rfl rfl)
theorem dX5_isParted_46 : decode cX5_isParted 46 = .ok (.iload_n 1, 1) := dk_27 (dk_at dksX5_isParted_1 22 rfl rfl)
theorem dX5_isParted_47 : decode cX5_isParted 47 = .ok (.ifCond .eq 93, 3) := dk_153 0 93 (dk_at dksX5_isParted_2 0 rfl rfl)
theorem dX5_isParted_50 : decode cX5_isParted 50 = .ok (.iconst (-1), 1) := dk_2 (dk_at dksX5_isParted_2 3 rfl rfl)
theorem dX5_isParted_51 : decode cX5_isParted 51 = .ok (.istore_n 2, 1) := dk_61 (dk_at dksX5_isParted_2 4 rfl rfl)
theorem dX5_isParted_52 : decode cX5_isParted 52 = .ok (.aload_n 0, 1) := dk_42 (dk_at dksX5_isParted_2 5 rfl rfl)
theorem dX5_isParted_53 : decode cX5_isParted 53 = .ok (.invokevirtual 95, 3) := dk_182 0 95 (dk_at dksX5_isParted_2 6 rfl rfl)
theorem dX5_isParted_56 : decode cX5_isParted 56 = .ok (.iconst 1, 1) := dk_4 (dk_at dksX5_isParted_2 9 rfl rfl)
theorem dX5_isParted_57 : decode cX5_isParted 57 = .ok (.isub, 1) := dk_100 (dk_at dksX5_isParted_2 10 rfl rfl)
theorem dX5_isParted_58 : decode cX5_isParted 58 = .ok (.istore_n 3, 1) := dk_62 (dk_at dksX5_isParted_2 11 rfl rfl)
theorem dX5_isParted_59 : decode cX5_isParted 59 = .ok (.iload_n 3, 1) := dk_29 (dk_at dksX5_isParted_2 12 rfl rfl)
theorem dX5_isParted_60 : decode cX5_isParted 60 = .ok (.ifCond .lt 20, 3) := dk_155 0 20 (dk_at dksX5_isParted_2 13 rfl rfl)
theorem dX5_isParted_63 : decode cX5_isParted 63 = .ok (.aload_n 0, 1) := dk_42 (dk_at dksX5_isParted_2 16 rfl rfl)
theorem dX5_isParted_64 : decode cX5_isParted 64 = .ok (.getfield 46, 3) := dk_180 0 46 (dk_at dksX5_isParted_2 17 rfl rfl)
theorem dX5_isParted_67 : decode cX5_isParted 67 = .ok (.iload_n 3, 1) := dk_29 (dk_at dksX5_isParted_2 20 rfl rfl)
theorem dX5_isParted_68 : decode cX5_isParted 68 = .ok (.iaload, 1) := dk_46 (dk_at dksX5_isParted_2 21 rfl rfl)
theorem dX5_isParted_69 : decode cX5_isParted 69 = .ok (.ifCond .le 5, 3) := dk_158 0 5 (dk_at dksX5_isParted_3 0 rfl rfl)
theorem dX5_isParted_72 : decode cX5_isParted 72 = .ok (.iload_n 3, 1) := dk_29 (dk_at dksX5_isParted_3 3 rfl rfl)
theorem dX5_isParted_73 : decode cX5_isParted 73 = .ok (.istore_n 2, 1) := dk_61 (dk_at dksX5_isParted_3 4 rfl rfl)
theorem dX5_isParted_74 : decode cX5_isParted 74 = .ok (.iinc 3 (-1), 3) := dk_132 3 255 (dk_at dksX5_isParted_3 5 rfl rfl)
theorem dX5_isParted_77 : decode cX5_isParted 77 = .ok (.goto (-18), 3) := dk_167 255 238 (dk_at dksX5_isParted_3 8 rfl rfl)
theorem dX5_isParted_80 : decode cX5_isParted 80 = .ok (.iload_n 2, 1) := dk_28 (dk_at dksX5_isParted_3 11 rfl rfl)
theorem dX5_isParted_81 : decode cX5_isParted 81 = .ok (.ifCond .lt 7, 3) := dk_155 0 7 (dk_at dksX5_isParted_3 12 rfl rfl)
theorem dX5_isParted_84 : decode cX5_isParted 84 = .ok (.iconst 1, 1) := dk_4 (dk_at dksX5_isParted_3 15 rfl rfl)
theorem dX5_isParted_85 : decode cX5_isParted 85 = .ok (.goto 4, 3) := dk_167 0 4 (dk_at dksX5_isParted_3 16 rfl rfl)
theorem dX5_isParted_88 : decode cX5_isParted 88 = .ok (.iconst 0, 1) := dk_3 (dk_at dksX5_isParted_3 19 rfl rfl)
theorem dX5_isParted_89 : decode cX5_isParted 89 = .ok (.istore_n 3, 1) := dk_62 (dk_at dksX5_isParted_3 20 rfl rfl)
theorem dX5_isParted_90 : decode cX5_isParted 90 = .ok (.iload_n 3, 1) := dk_29 (dk_at dksX5_isParted_3 21 rfl rfl)
theorem dX5_isParted_91 : decode cX5_isParted 91 = .ok (.ifCond .eq 7, 3) := dk_153 0 7 (dk_at dksX5_isParted_4 0 rfl rfl)
theorem dX5_isParted_94 : decode cX5_isParted 94 = .ok (.iconst (-1), 1) := dk_2 (dk_at dksX5_isParted_4 3 rfl rfl)
theorem dX5_isParted_95 : decode cX5_isParted 95 = .ok (.goto 8, 3) := dk_167 0 8 (dk_at dksX5_isParted_4 4 rfl rfl)
theorem dX5_isParted_98 : decode cX5_isParted 98 = .ok (.aload_n 0, 1) := dk_42 (dk_at dksX5_isParted_4 7 rfl rfl)
theorem dX5_isParted_99 : decode cX5_isParted 99 = .ok (.iconst (-1), 1) := dk_2 (dk_at dksX5_isParted_4 8 rfl rfl)
theorem dX5_isParted_100 : decode cX5_isParted 100 = .ok (.invokevirtual 339, 3) := dk_182 1 83 (dk_at dksX5_isParted_4 9 rfl rfl)
theorem dX5_isParted_103 : decode cX5_isParted 103 = .ok (.istore 4, 2) := dk_54 4 (dk_at dksX5_isParted_4 12 rfl rfl)
theorem dX5_isParted_105 : decode cX5_isParted 105 = .ok (.iload 4, 2) := dk_21 4 (dk_at dksX5_isParted_4 14 rfl rfl)
theorem dX5_isParted_107 : decode cX5_isParted 107 = .ok (.ifCond .lt 10, 3) := dk_155 0 10 (dk_at dksX5_isParted_4 16 rfl rfl)
theorem dX5_isParted_110 : decode cX5_isParted 110 = .ok (.aload_n 0, 1) := dk_42 (dk_at dksX5_isParted_4 19 rfl rfl)
theorem dX5_isParted_111 : decode cX5_isParted 111 = .ok (.iload 4, 2) := dk_21 4 (dk_at dksX5_isParted_4 20 rfl rfl)
theorem dX5_isParted_113 : decode cX5_isParted 113 = .ok (.invokevirtual 152, 3) := dk_182 0 152 (dk_at dksX5_isParted_5 0 rfl rfl)
theorem dX5_isParted_116 : decode cX5_isParted 116 = .ok (.istore_n 2, 1) := dk_61 (dk_at dksX5_isParted_5 3 rfl rfl)
theorem dX5_isParted_117 : decode cX5_isParted 117 = .ok (.iload_n 2, 1) := dk_28 (dk_at dksX5_isParted_5 4 rfl rfl)
theorem dX5_isParted_118 : decode cX5_isParted 118 = .ok (.ifCond .lt 7, 3) := dk_155 0 7 (dk_at dksX5_isParted_5 5 rfl rfl)
theorem dX5_isParted_121 : decode cX5_isParted 121 = .ok (.iconst 1, 1) := dk_4 (dk_at dksX5_isParted_5 8 rfl rfl)
theorem dX5_isParted_122 : decode cX5_isParted 122 = .ok (.goto 4, 3) := dk_167 0 4 (dk_at dksX5_isParted_5 9 rfl rfl)
theorem dX5_isParted_125 : decode cX5_isParted 125 = .ok (.iconst 0, 1) := dk_3 (dk_at dksX5_isParted_5 12 rfl rfl)
theorem dX5_isParted_126 : decode cX5_isParted 126 = .ok (.istore_n 1, 1) := dk_60 (dk_at dksX5_isParted_5 13 rfl rfl)
theorem dX5_isParted_127 : decode cX5_isParted 127 = .ok (.iload_n 1, 1) := dk_27 (dk_at dksX5_isParted_5 14 rfl rfl)
theorem dX5_isParted_128 : decode cX5_isParted 128 = .ok (.ifCond .eq 9, 3) := dk_153 0 9 (dk_at dksX5_isParted_5 15 rfl rfl)
theorem dX5_isParted_131 : decode cX5_isParted 131 = .ok (.aload_n 0, 1) := dk_42 (dk_at dksX5_isParted_5 18 rfl rfl)
theorem dX5_isParted_132 : decode cX5_isParted 132 = .ok (.iload_n 2, 1) := dk_28 (dk_at dksX5_isParted_5 19 rfl rfl)
theorem dX5_isParted_133 : decode cX5_isParted 133 = .ok (.iload_n 3, 1) := dk_29 (dk_at dksX5_isParted_5 20 rfl rfl)
theorem dX5_isParted_134 : decode cX5_isParted 134 = .ok (.invokevirtual 342, 3) := dk_182 1 86 (dk_at dksX5_isParted_5 21 rfl rfl)
theorem dX5_isParted_137 : decode cX5_isParted 137 = .ok (.goto (-91), 3) := dk_167 255 165 (dk_at dksX5_isParted_6 0 rfl rfl)
theorem dX5_isParted_140 : decode cX5_isParted 140 = .ok (.iconst 1, 1) := dk_4 (dk_at dksX5_isParted_6 3 rfl rfl)
theorem dX5_isParted_141 : decode cX5_isParted 141 = .ok (.ireturn, 1) := dk_172 (dk_at dksX5_isParted_6 4 rfl rfl)
abbrev cX5_leastRoad : ByteArray := prog_17_method_88_code
def yX5_leastRoad : MethodName := ⟨RX5, "leastRoad", "(I)I"⟩
def dkwX5_leastRoad_1 : List UInt8 := [28, 182, 0, 152, 27, 160, 0, 5, 28, 172, 132, 2, 1, 167, 255, 221, 2, 172]
abbrev dktX5_leastRoad_1 : List UInt8 := dkwX5_leastRoad_1 ++ []
def dkwX5_leastRoad_0 : List UInt8 := [3, 61, 28, 42, 182, 0, 107, 162, 0, 33, 42, 180, 0, 43, 28, 46, 158, 0, 18, 27, 155, 0, 12, 42]
abbrev dktX5_leastRoad_0 : List UInt8 := dkwX5_leastRoad_0 ++ dktX5_leastRoad_1
theorem dksX5_leastRoad_0 : cX5_leastRoad.data.toList.drop 0 = dktX5_leastRoad_0 := by decide +kernel
theorem dksX5_leastRoad_1 : cX5_leastRoad.data.toList.drop 24 = dktX5_leastRoad_1 := dk_seg dksX5_leastRoad_0 24 rfl rfl
theorem dX5_leastRoad_0 : decode cX5_leastRoad 0 = .ok (.iconst 0, 1) := dk_3 (dk_at dksX5_leastRoad_0 0 rfl rfl)
theorem dX5_leastRoad_1 : decode cX5_leastRoad 1 = .ok (.istore_n 2, 1) := dk_61 (dk_at dksX5_leastRoad_0 1 rfl rfl)
theorem dX5_leastRoad_2 : decode cX5_leastRoad 2 = .ok (.iload_n 2, 1) := dk_28 (dk_at dksX5_leastRoad_0 2 rfl rfl)
theorem dX5_leastRoad_3 : decode cX5_leastRoad 3 = .ok (.aload_n 0, 1) := dk_42 (dk_at dksX5_leastRoad_0 3 rfl rfl)
theorem dX5_leastRoad_4 : decode cX5_leastRoad 4 = .ok (.invokevirtual 107, 3) := dk_182 0 107 (dk_at dksX5_leastRoad_0 4 rfl rfl)
theorem dX5_leastRoad_7 : decode cX5_leastRoad 7 = .ok (.if_icmp .ge 33, 3) := dk_162 0 33 (dk_at dksX5_leastRoad_0 7 rfl rfl)
theorem dX5_leastRoad_10 : decode cX5_leastRoad 10 = .ok (.aload_n 0, 1) := dk_42 (dk_at dksX5_leastRoad_0 10 rfl rfl)
theorem dX5_leastRoad_11 : decode cX5_leastRoad 11 = .ok (.getfield 43, 3) := dk_180 0 43 (dk_at dksX5_leastRoad_0 11 rfl rfl)
theorem dX5_leastRoad_14 : decode cX5_leastRoad 14 = .ok (.iload_n 2, 1) := dk_28 (dk_at dksX5_leastRoad_0 14 rfl rfl)
theorem dX5_leastRoad_15 : decode cX5_leastRoad 15 = .ok (.iaload, 1) := dk_46 (dk_at dksX5_leastRoad_0 15 rfl rfl)
theorem dX5_leastRoad_16 : decode cX5_leastRoad 16 = .ok (.ifCond .le 18, 3) := dk_158 0 18 (dk_at dksX5_leastRoad_0 16 rfl rfl)
theorem dX5_leastRoad_19 : decode cX5_leastRoad 19 = .ok (.iload_n 1, 1) := dk_27 (dk_at dksX5_leastRoad_0 19 rfl rfl)
theorem dX5_leastRoad_20 : decode cX5_leastRoad 20 = .ok (.ifCond .lt 12, 3) := dk_155 0 12 (dk_at dksX5_leastRoad_0 20 rfl rfl)
theorem dX5_leastRoad_23 : decode cX5_leastRoad 23 = .ok (.aload_n 0, 1) := dk_42 (dk_at dksX5_leastRoad_0 23 rfl rfl)
theorem dX5_leastRoad_24 : decode cX5_leastRoad 24 = .ok (.iload_n 2, 1) := dk_28 (dk_at dksX5_leastRoad_1 0 rfl rfl)
theorem dX5_leastRoad_25 : decode cX5_leastRoad 25 = .ok (.invokevirtual 152, 3) := dk_182 0 152 (dk_at dksX5_leastRoad_1 1 rfl rfl)
theorem dX5_leastRoad_28 : decode cX5_leastRoad 28 = .ok (.iload_n 1, 1) := dk_27 (dk_at dksX5_leastRoad_1 4 rfl rfl)
theorem dX5_leastRoad_29 : decode cX5_leastRoad 29 = .ok (.if_icmp .ne 5, 3) := dk_160 0 5 (dk_at dksX5_leastRoad_1 5 rfl rfl)
theorem dX5_leastRoad_32 : decode cX5_leastRoad 32 = .ok (.iload_n 2, 1) := dk_28 (dk_at dksX5_leastRoad_1 8 rfl rfl)
theorem dX5_leastRoad_33 : decode cX5_leastRoad 33 = .ok (.ireturn, 1) := dk_172 (dk_at dksX5_leastRoad_1 9 rfl rfl)
theorem dX5_leastRoad_34 : decode cX5_leastRoad 34 = .ok (.iinc 2 1, 3) := dk_132 2 1 (dk_at dksX5_leastRoad_1 10 rfl rfl)
theorem dX5_leastRoad_37 : decode cX5_leastRoad 37 = .ok (.goto (-35), 3) := dk_167 255 221 (dk_at dksX5_leastRoad_1 13 rfl rfl)
theorem dX5_leastRoad_40 : decode cX5_leastRoad 40 = .ok (.iconst (-1), 1) := dk_2 (dk_at dksX5_leastRoad_1 16 rfl rfl)
theorem dX5_leastRoad_41 : decode cX5_leastRoad 41 = .ok (.ireturn, 1) := dk_172 (dk_at dksX5_leastRoad_1 17 rfl rfl)
abbrev cX5_parts_2 : ByteArray := prog_17_method_89_code
def yX5_parts_2 : MethodName := ⟨RX5, "parts", "(IZ)V"⟩
def dkwX5_parts_2_18 : List UInt8 := [180, 0, 80, 21, 7, 46, 79, 177]
abbrev dktX5_parts_2_18 : List UInt8 := dkwX5_parts_2_18 ++ []
def dkwX5_parts_2_17 : List UInt8 := [29, 5, 96, 21, 8, 153, 0, 7, 4, 167, 0, 4, 3, 79, 42, 180, 0, 92, 29, 6, 96, 42]
abbrev dktX5_parts_2_17 : List UInt8 := dkwX5_parts_2_17 ++ dktX5_parts_2_18
def dkwX5_parts_2_16 : List UInt8 := [180, 0, 92, 29, 21, 9, 79, 42, 180, 0, 92, 29, 4, 96, 21, 4, 21, 7, 100, 79, 42, 180, 0, 92]
abbrev dktX5_parts_2_16 : List UInt8 := dkwX5_parts_2_16 ++ dktX5_parts_2_17
def dkwX5_parts_2_15 : List UInt8 := [21, 7, 100, 42, 180, 0, 92, 29, 7, 96, 21, 10, 96, 46, 79, 132, 10, 1, 167, 255, 221, 42]
abbrev dktX5_parts_2_15 : List UInt8 := dkwX5_parts_2_15 ++ dktX5_parts_2_16
def dkwX5_parts_2_14 : List UInt8 := [96, 79, 21, 7, 54, 10, 21, 10, 21, 4, 162, 0, 34, 42, 180, 0, 92, 29, 7, 96, 21, 10, 96]
abbrev dktX5_parts_2_14 : List UInt8 := dkwX5_parts_2_14 ++ dktX5_parts_2_15
def dkwX5_parts_2_13 : List UInt8 := [154, 0, 26, 42, 180, 0, 46, 27, 92, 46, 21, 9, 100, 79, 42, 180, 0, 46, 21, 5, 92, 46, 21, 9]
abbrev dktX5_parts_2_13 : List UInt8 := dkwX5_parts_2_13 ++ dktX5_parts_2_14
def dkwX5_parts_2_12 : List UInt8 := [180, 0, 92, 29, 7, 96, 21, 10, 96, 46, 92, 46, 21, 9, 100, 79, 132, 10, 1, 167, 255, 225, 21, 8]
abbrev dktX5_parts_2_12 : List UInt8 := dkwX5_parts_2_12 ++ dktX5_parts_2_13
def dkwX5_parts_2_11 : List UInt8 := [132, 10, 1, 167, 255, 202, 21, 7, 54, 10, 21, 10, 21, 4, 162, 0, 30, 42, 180, 0, 43, 42]
abbrev dktX5_parts_2_11 : List UInt8 := dkwX5_parts_2_11 ++ dktX5_parts_2_12
def dkwX5_parts_2_10 : List UInt8 := [180, 0, 43, 42, 180, 0, 92, 29, 7, 96, 21, 10, 96, 46, 46, 167, 0, 5, 21, 9, 54, 9]
abbrev dktX5_parts_2_10 : List UInt8 := dkwX5_parts_2_10 ++ dktX5_parts_2_11
def dkwX5_parts_2_9 : List UInt8 := [42, 180, 0, 43, 42, 180, 0, 92, 29, 7, 96, 21, 10, 96, 46, 46, 21, 9, 162, 0, 22, 42]
abbrev dktX5_parts_2_9 : List UInt8 := dkwX5_parts_2_9 ++ dktX5_parts_2_10
def dkwX5_parts_2_8 : List UInt8 := [167, 0, 11, 42, 180, 0, 46, 21, 5, 46, 116, 54, 9, 21, 7, 54, 10, 21, 10, 21, 4, 162, 0, 53]
abbrev dktX5_parts_2_8 : List UInt8 := dkwX5_parts_2_8 ++ dktX5_parts_2_9
def dkwX5_parts_2_7 : List UInt8 := [42, 180, 0, 46, 27, 46, 42, 180, 0, 46, 21, 5, 46, 116, 162, 0, 12, 42, 180, 0, 46, 27, 46]
abbrev dktX5_parts_2_7 : List UInt8 := dkwX5_parts_2_7 ++ dktX5_parts_2_8
def dkwX5_parts_2_6 : List UInt8 := [167, 0, 4, 3, 54, 8, 21, 8, 154, 0, 6, 3, 54, 7, 21, 8, 153, 0, 8, 16, 99, 167, 0, 37]
abbrev dktX5_parts_2_6 : List UInt8 := dkwX5_parts_2_6 ++ dktX5_parts_2_7
def dkwX5_parts_2_5 : List UInt8 := [21, 7, 46, 21, 5, 159, 0, 9, 132, 7, 1, 167, 255, 234, 21, 7, 21, 4, 162, 0, 7, 4]
abbrev dktX5_parts_2_5 : List UInt8 := dkwX5_parts_2_5 ++ dktX5_parts_2_6
def dkwX5_parts_2_4 : List UInt8 := [4, 167, 0, 4, 3, 54, 6, 167, 255, 178, 3, 54, 7, 21, 7, 21, 4, 162, 0, 21, 42, 180, 0, 80]
abbrev dktX5_parts_2_4 : List UInt8 := dkwX5_parts_2_4 ++ dktX5_parts_2_5
def dkwX5_parts_2_3 : List UInt8 := [21, 5, 21, 4, 182, 1, 59, 154, 0, 17, 28, 153, 0, 17, 42, 180, 0, 46, 21, 5, 46, 156, 0, 7]
abbrev dktX5_parts_2_3 : List UInt8 := dkwX5_parts_2_3 ++ dktX5_parts_2_4
def dkwX5_parts_2_2 : List UInt8 := [180, 0, 92, 29, 7, 96, 21, 4, 96, 21, 7, 79, 132, 4, 1, 42, 21, 7, 182, 0, 156, 54, 5, 42]
abbrev dktX5_parts_2_2 : List UInt8 := dkwX5_parts_2_2 ++ dktX5_parts_2_3
def dkwX5_parts_2_1 : List UInt8 := [21, 6, 154, 0, 79, 42, 180, 0, 80, 21, 4, 21, 5, 79, 42, 21, 5, 182, 1, 83, 54, 7, 42]
abbrev dktX5_parts_2_1 : List UInt8 := dkwX5_parts_2_1 ++ dktX5_parts_2_2
def dkwX5_parts_2_0 : List UInt8 := [16, 12, 42, 89, 180, 1, 80, 90, 4, 96, 181, 1, 80, 104, 62, 3, 54, 4, 27, 54, 5, 3, 54, 6]
abbrev dktX5_parts_2_0 : List UInt8 := dkwX5_parts_2_0 ++ dktX5_parts_2_1
theorem dksX5_parts_2_0 : cX5_parts_2.data.toList.drop 0 = dktX5_parts_2_0 := by decide +kernel
theorem dksX5_parts_2_1 : cX5_parts_2.data.toList.drop 24 = dktX5_parts_2_1 := dk_seg dksX5_parts_2_0 24 rfl rfl
theorem dksX5_parts_2_2 : cX5_parts_2.data.toList.drop 47 = dktX5_parts_2_2 := dk_seg dksX5_parts_2_1 23 rfl rfl
theorem dksX5_parts_2_3 : cX5_parts_2.data.toList.drop 71 = dktX5_parts_2_3 := dk_seg dksX5_parts_2_2 24 rfl rfl
theorem dksX5_parts_2_4 : cX5_parts_2.data.toList.drop 95 = dktX5_parts_2_4 := dk_seg dksX5_parts_2_3 24 rfl rfl
theorem dksX5_parts_2_5 : cX5_parts_2.data.toList.drop 119 = dktX5_parts_2_5 := dk_seg dksX5_parts_2_4 24 rfl rfl
theorem dksX5_parts_2_6 : cX5_parts_2.data.toList.drop 141 = dktX5_parts_2_6 := dk_seg dksX5_parts_2_5 22 rfl rfl
theorem dksX5_parts_2_7 : cX5_parts_2.data.toList.drop 165 = dktX5_parts_2_7 := dk_seg dksX5_parts_2_6 24 rfl rfl
theorem dksX5_parts_2_8 : cX5_parts_2.data.toList.drop 188 = dktX5_parts_2_8 := dk_seg dksX5_parts_2_7 23 rfl rfl
theorem dksX5_parts_2_9 : cX5_parts_2.data.toList.drop 212 = dktX5_parts_2_9 := dk_seg dksX5_parts_2_8 24 rfl rfl
theorem dksX5_parts_2_10 : cX5_parts_2.data.toList.drop 234 = dktX5_parts_2_10 := dk_seg dksX5_parts_2_9 22 rfl rfl
theorem dksX5_parts_2_11 : cX5_parts_2.data.toList.drop 256 = dktX5_parts_2_11 := dk_seg dksX5_parts_2_10 22 rfl rfl
theorem dksX5_parts_2_12 : cX5_parts_2.data.toList.drop 278 = dktX5_parts_2_12 := dk_seg dksX5_parts_2_11 22 rfl rfl
theorem dksX5_parts_2_13 : cX5_parts_2.data.toList.drop 302 = dktX5_parts_2_13 := dk_seg dksX5_parts_2_12 24 rfl rfl
theorem dksX5_parts_2_14 : cX5_parts_2.data.toList.drop 326 = dktX5_parts_2_14 := dk_seg dksX5_parts_2_13 24 rfl rfl
theorem dksX5_parts_2_15 : cX5_parts_2.data.toList.drop 349 = dktX5_parts_2_15 := dk_seg dksX5_parts_2_14 23 rfl rfl
theorem dksX5_parts_2_16 : cX5_parts_2.data.toList.drop 371 = dktX5_parts_2_16 := dk_seg dksX5_parts_2_15 22 rfl rfl
theorem dksX5_parts_2_17 : cX5_parts_2.data.toList.drop 395 = dktX5_parts_2_17 := dk_seg dksX5_parts_2_16 24 rfl rfl
theorem dksX5_parts_2_18 : cX5_parts_2.data.toList.drop 417 = dktX5_parts_2_18 := dk_seg dksX5_parts_2_17 22 rfl rfl
theorem dX5_parts_2_0 : decode cX5_parts_2 0 = .ok (.bipush 12, 2) := dk_16 12 (dk_at dksX5_parts_2_0 0 rfl rfl)
theorem dX5_parts_2_2 : decode cX5_parts_2 2 = .ok (.aload_n 0, 1) := dk_42 (dk_at dksX5_parts_2_0 2 rfl rfl)
theorem dX5_parts_2_3 : decode cX5_parts_2 3 = .ok (.dup, 1) := dk_89 (dk_at dksX5_parts_2_0 3 rfl rfl)
theorem dX5_parts_2_4 : decode cX5_parts_2 4 = .ok (.getfield 336, 3) := dk_180 1 80 (dk_at dksX5_parts_2_0 4 rfl rfl)
theorem dX5_parts_2_7 : decode cX5_parts_2 7 = .ok (.dup_x1, 1) := dk_90 (dk_at dksX5_parts_2_0 7 rfl rfl)
theorem dX5_parts_2_8 : decode cX5_parts_2 8 = .ok (.iconst 1, 1) := dk_4 (dk_at dksX5_parts_2_0 8 rfl rfl)
theorem dX5_parts_2_9 : decode cX5_parts_2 9 = .ok (.iadd, 1) := dk_96 (dk_at dksX5_parts_2_0 9 rfl rfl)
theorem dX5_parts_2_10 : decode cX5_parts_2 10 = .ok (.putfield 336, 3) := dk_181 1 80 (dk_at dksX5_parts_2_0 10 rfl rfl)
theorem dX5_parts_2_13 : decode cX5_parts_2 13 = .ok (.imul, 1) := dk_104 (dk_at dksX5_parts_2_0 13 rfl rfl)
theorem dX5_parts_2_14 : decode cX5_parts_2 14 = .ok (.istore_n 3, 1) := dk_62 (dk_at dksX5_parts_2_0 14 rfl rfl)
theorem dX5_parts_2_15 : decode cX5_parts_2 15 = .ok (.iconst 0, 1) := dk_3 (dk_at dksX5_parts_2_0 15 rfl rfl)
theorem dX5_parts_2_16 : decode cX5_parts_2 16 = .ok (.istore 4, 2) := dk_54 4 (dk_at dksX5_parts_2_0 16 rfl rfl)
theorem dX5_parts_2_18 : decode cX5_parts_2 18 = .ok (.iload_n 1, 1) := dk_27 (dk_at dksX5_parts_2_0 18 rfl rfl)
theorem dX5_parts_2_19 : decode cX5_parts_2 19 = .ok (.istore 5, 2) := dk_54 5 (dk_at dksX5_parts_2_0 19 rfl rfl)
theorem dX5_parts_2_21 : decode cX5_parts_2 21 = .ok (.iconst 0, 1) := dk_3 (dk_at dksX5_parts_2_0 21 rfl rfl)
theorem dX5_parts_2_22 : decode cX5_parts_2 22 = .ok (.istore 6, 2) := dk_54 6 (dk_at dksX5_parts_2_0 22 rfl rfl)
theorem dX5_parts_2_24 : decode cX5_parts_2 24 = .ok (.iload 6, 2) := dk_21 6 (dk_at dksX5_parts_2_1 0 rfl rfl)
theorem dX5_parts_2_26 : decode cX5_parts_2 26 = .ok (.ifCond .ne 79, 3) := dk_154 0 79 (dk_at dksX5_parts_2_1 2 rfl rfl)
theorem dX5_parts_2_29 : decode cX5_parts_2 29 = .ok (.aload_n 0, 1) := dk_42 (dk_at dksX5_parts_2_1 5 rfl rfl)
theorem dX5_parts_2_30 : decode cX5_parts_2 30 = .ok (.getfield 80, 3) := dk_180 0 80 (dk_at dksX5_parts_2_1 6 rfl rfl)
theorem dX5_parts_2_33 : decode cX5_parts_2 33 = .ok (.iload 4, 2) := dk_21 4 (dk_at dksX5_parts_2_1 9 rfl rfl)
theorem dX5_parts_2_35 : decode cX5_parts_2 35 = .ok (.iload 5, 2) := dk_21 5 (dk_at dksX5_parts_2_1 11 rfl rfl)
theorem dX5_parts_2_37 : decode cX5_parts_2 37 = .ok (.iastore, 1) := dk_79 (dk_at dksX5_parts_2_1 13 rfl rfl)
theorem dX5_parts_2_38 : decode cX5_parts_2 38 = .ok (.aload_n 0, 1) := dk_42 (dk_at dksX5_parts_2_1 14 rfl rfl)
theorem dX5_parts_2_39 : decode cX5_parts_2 39 = .ok (.iload 5, 2) := dk_21 5 (dk_at dksX5_parts_2_1 15 rfl rfl)
theorem dX5_parts_2_41 : decode cX5_parts_2 41 = .ok (.invokevirtual 339, 3) := dk_182 1 83 (dk_at dksX5_parts_2_1 17 rfl rfl)
theorem dX5_parts_2_44 : decode cX5_parts_2 44 = .ok (.istore 7, 2) := dk_54 7 (dk_at dksX5_parts_2_1 20 rfl rfl)
theorem dX5_parts_2_46 : decode cX5_parts_2 46 = .ok (.aload_n 0, 1) := dk_42 (dk_at dksX5_parts_2_1 22 rfl rfl)
theorem dX5_parts_2_47 : decode cX5_parts_2 47 = .ok (.getfield 92, 3) := dk_180 0 92 (dk_at dksX5_parts_2_2 0 rfl rfl)
theorem dX5_parts_2_50 : decode cX5_parts_2 50 = .ok (.iload_n 3, 1) := dk_29 (dk_at dksX5_parts_2_2 3 rfl rfl)
theorem dX5_parts_2_51 : decode cX5_parts_2 51 = .ok (.iconst 4, 1) := dk_7 (dk_at dksX5_parts_2_2 4 rfl rfl)
theorem dX5_parts_2_52 : decode cX5_parts_2 52 = .ok (.iadd, 1) := dk_96 (dk_at dksX5_parts_2_2 5 rfl rfl)
theorem dX5_parts_2_53 : decode cX5_parts_2 53 = .ok (.iload 4, 2) := dk_21 4 (dk_at dksX5_parts_2_2 6 rfl rfl)
theorem dX5_parts_2_55 : decode cX5_parts_2 55 = .ok (.iadd, 1) := dk_96 (dk_at dksX5_parts_2_2 8 rfl rfl)
theorem dX5_parts_2_56 : decode cX5_parts_2 56 = .ok (.iload 7, 2) := dk_21 7 (dk_at dksX5_parts_2_2 9 rfl rfl)
theorem dX5_parts_2_58 : decode cX5_parts_2 58 = .ok (.iastore, 1) := dk_79 (dk_at dksX5_parts_2_2 11 rfl rfl)
theorem dX5_parts_2_59 : decode cX5_parts_2 59 = .ok (.iinc 4 1, 3) := dk_132 4 1 (dk_at dksX5_parts_2_2 12 rfl rfl)
theorem dX5_parts_2_62 : decode cX5_parts_2 62 = .ok (.aload_n 0, 1) := dk_42 (dk_at dksX5_parts_2_2 15 rfl rfl)
theorem dX5_parts_2_63 : decode cX5_parts_2 63 = .ok (.iload 7, 2) := dk_21 7 (dk_at dksX5_parts_2_2 16 rfl rfl)
theorem dX5_parts_2_65 : decode cX5_parts_2 65 = .ok (.invokevirtual 156, 3) := dk_182 0 156 (dk_at dksX5_parts_2_2 18 rfl rfl)
theorem dX5_parts_2_68 : decode cX5_parts_2 68 = .ok (.istore 5, 2) := dk_54 5 (dk_at dksX5_parts_2_2 21 rfl rfl)
theorem dX5_parts_2_70 : decode cX5_parts_2 70 = .ok (.aload_n 0, 1) := dk_42 (dk_at dksX5_parts_2_2 23 rfl rfl)
theorem dX5_parts_2_71 : decode cX5_parts_2 71 = .ok (.iload 5, 2) := dk_21 5 (dk_at dksX5_parts_2_3 0 rfl rfl)
theorem dX5_parts_2_73 : decode cX5_parts_2 73 = .ok (.iload 4, 2) := dk_21 4 (dk_at dksX5_parts_2_3 2 rfl rfl)
theorem dX5_parts_2_75 : decode cX5_parts_2 75 = .ok (.invokevirtual 315, 3) := dk_182 1 59 (dk_at dksX5_parts_2_3 4 rfl rfl)
theorem dX5_parts_2_78 : decode cX5_parts_2 78 = .ok (.ifCond .ne 17, 3) := dk_154 0 17 (dk_at dksX5_parts_2_3 7 rfl rfl)
theorem dX5_parts_2_81 : decode cX5_parts_2 81 = .ok (.iload_n 2, 1) := dk_28 (dk_at dksX5_parts_2_3 10 rfl rfl)
theorem dX5_parts_2_82 : decode cX5_parts_2 82 = .ok (.ifCond .eq 17, 3) := dk_153 0 17 (dk_at dksX5_parts_2_3 11 rfl rfl)
theorem dX5_parts_2_85 : decode cX5_parts_2 85 = .ok (.aload_n 0, 1) := dk_42 (dk_at dksX5_parts_2_3 14 rfl rfl)
theorem dX5_parts_2_86 : decode cX5_parts_2 86 = .ok (.getfield 46, 3) := dk_180 0 46 (dk_at dksX5_parts_2_3 15 rfl rfl)
theorem dX5_parts_2_89 : decode cX5_parts_2 89 = .ok (.iload 5, 2) := dk_21 5 (dk_at dksX5_parts_2_3 18 rfl rfl)
theorem dX5_parts_2_91 : decode cX5_parts_2 91 = .ok (.iaload, 1) := dk_46 (dk_at dksX5_parts_2_3 20 rfl rfl)
theorem dX5_parts_2_92 : decode cX5_parts_2 92 = .ok (.ifCond .ge 7, 3) := dk_156 0 7 (dk_at dksX5_parts_2_3 21 rfl rfl)
theorem dX5_parts_2_95 : decode cX5_parts_2 95 = .ok (.iconst 1, 1) := dk_4 (dk_at dksX5_parts_2_4 0 rfl rfl)
theorem dX5_parts_2_96 : decode cX5_parts_2 96 = .ok (.goto 4, 3) := dk_167 0 4 (dk_at dksX5_parts_2_4 1 rfl rfl)
theorem dX5_parts_2_99 : decode cX5_parts_2 99 = .ok (.iconst 0, 1) := dk_3 (dk_at dksX5_parts_2_4 4 rfl rfl)
theorem dX5_parts_2_100 : decode cX5_parts_2 100 = .ok (.istore 6, 2) := dk_54 6 (dk_at dksX5_parts_2_4 5 rfl rfl)
theorem dX5_parts_2_102 : decode cX5_parts_2 102 = .ok (.goto (-78), 3) := dk_167 255 178 (dk_at dksX5_parts_2_4 7 rfl rfl)
theorem dX5_parts_2_105 : decode cX5_parts_2 105 = .ok (.iconst 0, 1) := dk_3 (dk_at dksX5_parts_2_4 10 rfl rfl)
theorem dX5_parts_2_106 : decode cX5_parts_2 106 = .ok (.istore 7, 2) := dk_54 7 (dk_at dksX5_parts_2_4 11 rfl rfl)
theorem dX5_parts_2_108 : decode cX5_parts_2 108 = .ok (.iload 7, 2) := dk_21 7 (dk_at dksX5_parts_2_4 13 rfl rfl)
theorem dX5_parts_2_110 : decode cX5_parts_2 110 = .ok (.iload 4, 2) := dk_21 4 (dk_at dksX5_parts_2_4 15 rfl rfl)
theorem dX5_parts_2_112 : decode cX5_parts_2 112 = .ok (.if_icmp .ge 21, 3) := dk_162 0 21 (dk_at dksX5_parts_2_4 17 rfl rfl)
theorem dX5_parts_2_115 : decode cX5_parts_2 115 = .ok (.aload_n 0, 1) := dk_42 (dk_at dksX5_parts_2_4 20 rfl rfl)
theorem dX5_parts_2_116 : decode cX5_parts_2 116 = .ok (.getfield 80, 3) := dk_180 0 80 (dk_at dksX5_parts_2_4 21 rfl rfl)
theorem dX5_parts_2_119 : decode cX5_parts_2 119 = .ok (.iload 7, 2) := dk_21 7 (dk_at dksX5_parts_2_5 0 rfl rfl)
theorem dX5_parts_2_121 : decode cX5_parts_2 121 = .ok (.iaload, 1) := dk_46 (dk_at dksX5_parts_2_5 2 rfl rfl)
theorem dX5_parts_2_122 : decode cX5_parts_2 122 = .ok (.iload 5, 2) := dk_21 5 (dk_at dksX5_parts_2_5 3 rfl rfl)
theorem dX5_parts_2_124 : decode cX5_parts_2 124 = .ok (.if_icmp .eq 9, 3) := dk_159 0 9 (dk_at dksX5_parts_2_5 5 rfl rfl)
theorem dX5_parts_2_127 : decode cX5_parts_2 127 = .ok (.iinc 7 1, 3) := dk_132 7 1 (dk_at dksX5_parts_2_5 8 rfl rfl)
theorem dX5_parts_2_130 : decode cX5_parts_2 130 = .ok (.goto (-22), 3) := dk_167 255 234 (dk_at dksX5_parts_2_5 11 rfl rfl)
theorem dX5_parts_2_133 : decode cX5_parts_2 133 = .ok (.iload 7, 2) := dk_21 7 (dk_at dksX5_parts_2_5 14 rfl rfl)
theorem dX5_parts_2_135 : decode cX5_parts_2 135 = .ok (.iload 4, 2) := dk_21 4 (dk_at dksX5_parts_2_5 16 rfl rfl)
theorem dX5_parts_2_137 : decode cX5_parts_2 137 = .ok (.if_icmp .ge 7, 3) := dk_162 0 7 (dk_at dksX5_parts_2_5 18 rfl rfl)
theorem dX5_parts_2_140 : decode cX5_parts_2 140 = .ok (.iconst 1, 1) := dk_4 (dk_at dksX5_parts_2_5 21 rfl rfl)
theorem dX5_parts_2_141 : decode cX5_parts_2 141 = .ok (.goto 4, 3) := dk_167 0 4 (dk_at dksX5_parts_2_6 0 rfl rfl)
theorem dX5_parts_2_144 : decode cX5_parts_2 144 = .ok (.iconst 0, 1) := dk_3 (dk_at dksX5_parts_2_6 3 rfl rfl)
theorem dX5_parts_2_145 : decode cX5_parts_2 145 = .ok (.istore 8, 2) := dk_54 8 (dk_at dksX5_parts_2_6 4 rfl rfl)
theorem dX5_parts_2_147 : decode cX5_parts_2 147 = .ok (.iload 8, 2) := dk_21 8 (dk_at dksX5_parts_2_6 6 rfl rfl)
theorem dX5_parts_2_149 : decode cX5_parts_2 149 = .ok (.ifCond .ne 6, 3) := dk_154 0 6 (dk_at dksX5_parts_2_6 8 rfl rfl)
theorem dX5_parts_2_152 : decode cX5_parts_2 152 = .ok (.iconst 0, 1) := dk_3 (dk_at dksX5_parts_2_6 11 rfl rfl)
theorem dX5_parts_2_153 : decode cX5_parts_2 153 = .ok (.istore 7, 2) := dk_54 7 (dk_at dksX5_parts_2_6 12 rfl rfl)
theorem dX5_parts_2_155 : decode cX5_parts_2 155 = .ok (.iload 8, 2) := dk_21 8 (dk_at dksX5_parts_2_6 14 rfl rfl)
theorem dX5_parts_2_157 : decode cX5_parts_2 157 = .ok (.ifCond .eq 8, 3) := dk_153 0 8 (dk_at dksX5_parts_2_6 16 rfl rfl)
theorem dX5_parts_2_160 : decode cX5_parts_2 160 = .ok (.bipush 99, 2) := dk_16 99 (dk_at dksX5_parts_2_6 19 rfl rfl)
theorem dX5_parts_2_162 : decode cX5_parts_2 162 = .ok (.goto 37, 3) := dk_167 0 37 (dk_at dksX5_parts_2_6 21 rfl rfl)
theorem dX5_parts_2_165 : decode cX5_parts_2 165 = .ok (.aload_n 0, 1) := dk_42 (dk_at dksX5_parts_2_7 0 rfl rfl)
theorem dX5_parts_2_166 : decode cX5_parts_2 166 = .ok (.getfield 46, 3) := dk_180 0 46 (dk_at dksX5_parts_2_7 1 rfl rfl)
theorem dX5_parts_2_169 : decode cX5_parts_2 169 = .ok (.iload_n 1, 1) := dk_27 (dk_at dksX5_parts_2_7 4 rfl rfl)
theorem dX5_parts_2_170 : decode cX5_parts_2 170 = .ok (.iaload, 1) := dk_46 (dk_at dksX5_parts_2_7 5 rfl rfl)
theorem dX5_parts_2_171 : decode cX5_parts_2 171 = .ok (.aload_n 0, 1) := dk_42 (dk_at dksX5_parts_2_7 6 rfl rfl)
theorem dX5_parts_2_172 : decode cX5_parts_2 172 = .ok (.getfield 46, 3) := dk_180 0 46 (dk_at dksX5_parts_2_7 7 rfl rfl)
theorem dX5_parts_2_175 : decode cX5_parts_2 175 = .ok (.iload 5, 2) := dk_21 5 (dk_at dksX5_parts_2_7 10 rfl rfl)
theorem dX5_parts_2_177 : decode cX5_parts_2 177 = .ok (.iaload, 1) := dk_46 (dk_at dksX5_parts_2_7 12 rfl rfl)
theorem dX5_parts_2_178 : decode cX5_parts_2 178 = .ok (.ineg, 1) := dk_116 (dk_at dksX5_parts_2_7 13 rfl rfl)
theorem dX5_parts_2_179 : decode cX5_parts_2 179 = .ok (.if_icmp .ge 12, 3) := dk_162 0 12 (dk_at dksX5_parts_2_7 14 rfl rfl)
theorem dX5_parts_2_182 : decode cX5_parts_2 182 = .ok (.aload_n 0, 1) := dk_42 (dk_at dksX5_parts_2_7 17 rfl rfl)
theorem dX5_parts_2_183 : decode cX5_parts_2 183 = .ok (.getfield 46, 3) := dk_180 0 46 (dk_at dksX5_parts_2_7 18 rfl rfl)
theorem dX5_parts_2_186 : decode cX5_parts_2 186 = .ok (.iload_n 1, 1) := dk_27 (dk_at dksX5_parts_2_7 21 rfl rfl)
theorem dX5_parts_2_187 : decode cX5_parts_2 187 = .ok (.iaload, 1) := dk_46 (dk_at dksX5_parts_2_7 22 rfl rfl)
theorem dX5_parts_2_188 : decode cX5_parts_2 188 = .ok (.goto 11, 3) := dk_167 0 11 (dk_at dksX5_parts_2_8 0 rfl rfl)
theorem dX5_parts_2_191 : decode cX5_parts_2 191 = .ok (.aload_n 0, 1) := dk_42 (dk_at dksX5_parts_2_8 3 rfl rfl)
theorem dX5_parts_2_192 : decode cX5_parts_2 192 = .ok (.getfield 46, 3) := dk_180 0 46 (dk_at dksX5_parts_2_8 4 rfl rfl)
theorem dX5_parts_2_195 : decode cX5_parts_2 195 = .ok (.iload 5, 2) := dk_21 5 (dk_at dksX5_parts_2_8 7 rfl rfl)
theorem dX5_parts_2_197 : decode cX5_parts_2 197 = .ok (.iaload, 1) := dk_46 (dk_at dksX5_parts_2_8 9 rfl rfl)
theorem dX5_parts_2_198 : decode cX5_parts_2 198 = .ok (.ineg, 1) := dk_116 (dk_at dksX5_parts_2_8 10 rfl rfl)
theorem dX5_parts_2_199 : decode cX5_parts_2 199 = .ok (.istore 9, 2) := dk_54 9 (dk_at dksX5_parts_2_8 11 rfl rfl)
theorem dX5_parts_2_201 : decode cX5_parts_2 201 = .ok (.iload 7, 2) := dk_21 7 (dk_at dksX5_parts_2_8 13 rfl rfl)
theorem dX5_parts_2_203 : decode cX5_parts_2 203 = .ok (.istore 10, 2) := dk_54 10 (dk_at dksX5_parts_2_8 15 rfl rfl)
theorem dX5_parts_2_205 : decode cX5_parts_2 205 = .ok (.iload 10, 2) := dk_21 10 (dk_at dksX5_parts_2_8 17 rfl rfl)
theorem dX5_parts_2_207 : decode cX5_parts_2 207 = .ok (.iload 4, 2) := dk_21 4 (dk_at dksX5_parts_2_8 19 rfl rfl)
theorem dX5_parts_2_209 : decode cX5_parts_2 209 = .ok (.if_icmp .ge 53, 3) := dk_162 0 53 (dk_at dksX5_parts_2_8 21 rfl rfl)
theorem dX5_parts_2_212 : decode cX5_parts_2 212 = .ok (.aload_n 0, 1) := dk_42 (dk_at dksX5_parts_2_9 0 rfl rfl)
theorem dX5_parts_2_213 : decode cX5_parts_2 213 = .ok (.getfield 43, 3) := dk_180 0 43 (dk_at dksX5_parts_2_9 1 rfl rfl)
theorem dX5_parts_2_216 : decode cX5_parts_2 216 = .ok (.aload_n 0, 1) := dk_42 (dk_at dksX5_parts_2_9 4 rfl rfl)
theorem dX5_parts_2_217 : decode cX5_parts_2 217 = .ok (.getfield 92, 3) := dk_180 0 92 (dk_at dksX5_parts_2_9 5 rfl rfl)
theorem dX5_parts_2_220 : decode cX5_parts_2 220 = .ok (.iload_n 3, 1) := dk_29 (dk_at dksX5_parts_2_9 8 rfl rfl)
theorem dX5_parts_2_221 : decode cX5_parts_2 221 = .ok (.iconst 4, 1) := dk_7 (dk_at dksX5_parts_2_9 9 rfl rfl)
theorem dX5_parts_2_222 : decode cX5_parts_2 222 = .ok (.iadd, 1) := dk_96 (dk_at dksX5_parts_2_9 10 rfl rfl)
theorem dX5_parts_2_223 : decode cX5_parts_2 223 = .ok (.iload 10, 2) := dk_21 10 (dk_at dksX5_parts_2_9 11 rfl rfl)
theorem dX5_parts_2_225 : decode cX5_parts_2 225 = .ok (.iadd, 1) := dk_96 (dk_at dksX5_parts_2_9 13 rfl rfl)
theorem dX5_parts_2_226 : decode cX5_parts_2 226 = .ok (.iaload, 1) := dk_46 (dk_at dksX5_parts_2_9 14 rfl rfl)
theorem dX5_parts_2_227 : decode cX5_parts_2 227 = .ok (.iaload, 1) := dk_46 (dk_at dksX5_parts_2_9 15 rfl rfl)
theorem dX5_parts_2_228 : decode cX5_parts_2 228 = .ok (.iload 9, 2) := dk_21 9 (dk_at dksX5_parts_2_9 16 rfl rfl)
theorem dX5_parts_2_230 : decode cX5_parts_2 230 = .ok (.if_icmp .ge 22, 3) := dk_162 0 22 (dk_at dksX5_parts_2_9 18 rfl rfl)
theorem dX5_parts_2_233 : decode cX5_parts_2 233 = .ok (.aload_n 0, 1) := dk_42 (dk_at dksX5_parts_2_9 21 rfl rfl)
theorem dX5_parts_2_234 : decode cX5_parts_2 234 = .ok (.getfield 43, 3) := dk_180 0 43 (dk_at dksX5_parts_2_10 0 rfl rfl)
theorem dX5_parts_2_237 : decode cX5_parts_2 237 = .ok (.aload_n 0, 1) := dk_42 (dk_at dksX5_parts_2_10 3 rfl rfl)
theorem dX5_parts_2_238 : decode cX5_parts_2 238 = .ok (.getfield 92, 3) := dk_180 0 92 (dk_at dksX5_parts_2_10 4 rfl rfl)
theorem dX5_parts_2_241 : decode cX5_parts_2 241 = .ok (.iload_n 3, 1) := dk_29 (dk_at dksX5_parts_2_10 7 rfl rfl)
theorem dX5_parts_2_242 : decode cX5_parts_2 242 = .ok (.iconst 4, 1) := dk_7 (dk_at dksX5_parts_2_10 8 rfl rfl)
theorem dX5_parts_2_243 : decode cX5_parts_2 243 = .ok (.iadd, 1) := dk_96 (dk_at dksX5_parts_2_10 9 rfl rfl)
theorem dX5_parts_2_244 : decode cX5_parts_2 244 = .ok (.iload 10, 2) := dk_21 10 (dk_at dksX5_parts_2_10 10 rfl rfl)
theorem dX5_parts_2_246 : decode cX5_parts_2 246 = .ok (.iadd, 1) := dk_96 (dk_at dksX5_parts_2_10 12 rfl rfl)
theorem dX5_parts_2_247 : decode cX5_parts_2 247 = .ok (.iaload, 1) := dk_46 (dk_at dksX5_parts_2_10 13 rfl rfl)
theorem dX5_parts_2_248 : decode cX5_parts_2 248 = .ok (.iaload, 1) := dk_46 (dk_at dksX5_parts_2_10 14 rfl rfl)
theorem dX5_parts_2_249 : decode cX5_parts_2 249 = .ok (.goto 5, 3) := dk_167 0 5 (dk_at dksX5_parts_2_10 15 rfl rfl)
theorem dX5_parts_2_252 : decode cX5_parts_2 252 = .ok (.iload 9, 2) := dk_21 9 (dk_at dksX5_parts_2_10 18 rfl rfl)
theorem dX5_parts_2_254 : decode cX5_parts_2 254 = .ok (.istore 9, 2) := dk_54 9 (dk_at dksX5_parts_2_10 20 rfl rfl)
theorem dX5_parts_2_256 : decode cX5_parts_2 256 = .ok (.iinc 10 1, 3) := dk_132 10 1 (dk_at dksX5_parts_2_11 0 rfl rfl)
theorem dX5_parts_2_259 : decode cX5_parts_2 259 = .ok (.goto (-54), 3) := dk_167 255 202 (dk_at dksX5_parts_2_11 3 rfl rfl)
theorem dX5_parts_2_262 : decode cX5_parts_2 262 = .ok (.iload 7, 2) := dk_21 7 (dk_at dksX5_parts_2_11 6 rfl rfl)
theorem dX5_parts_2_264 : decode cX5_parts_2 264 = .ok (.istore 10, 2) := dk_54 10 (dk_at dksX5_parts_2_11 8 rfl rfl)
theorem dX5_parts_2_266 : decode cX5_parts_2 266 = .ok (.iload 10, 2) := dk_21 10 (dk_at dksX5_parts_2_11 10 rfl rfl)
theorem dX5_parts_2_268 : decode cX5_parts_2 268 = .ok (.iload 4, 2) := dk_21 4 (dk_at dksX5_parts_2_11 12 rfl rfl)
theorem dX5_parts_2_270 : decode cX5_parts_2 270 = .ok (.if_icmp .ge 30, 3) := dk_162 0 30 (dk_at dksX5_parts_2_11 14 rfl rfl)
theorem dX5_parts_2_273 : decode cX5_parts_2 273 = .ok (.aload_n 0, 1) := dk_42 (dk_at dksX5_parts_2_11 17 rfl rfl)
theorem dX5_parts_2_274 : decode cX5_parts_2 274 = .ok (.getfield 43, 3) := dk_180 0 43 (dk_at dksX5_parts_2_11 18 rfl rfl)
theorem dX5_parts_2_277 : decode cX5_parts_2 277 = .ok (.aload_n 0, 1) := dk_42 (dk_at dksX5_parts_2_11 21 rfl rfl)
theorem dX5_parts_2_278 : decode cX5_parts_2 278 = .ok (.getfield 92, 3) := dk_180 0 92 (dk_at dksX5_parts_2_12 0 rfl rfl)
theorem dX5_parts_2_281 : decode cX5_parts_2 281 = .ok (.iload_n 3, 1) := dk_29 (dk_at dksX5_parts_2_12 3 rfl rfl)
theorem dX5_parts_2_282 : decode cX5_parts_2 282 = .ok (.iconst 4, 1) := dk_7 (dk_at dksX5_parts_2_12 4 rfl rfl)
theorem dX5_parts_2_283 : decode cX5_parts_2 283 = .ok (.iadd, 1) := dk_96 (dk_at dksX5_parts_2_12 5 rfl rfl)
theorem dX5_parts_2_284 : decode cX5_parts_2 284 = .ok (.iload 10, 2) := dk_21 10 (dk_at dksX5_parts_2_12 6 rfl rfl)
theorem dX5_parts_2_286 : decode cX5_parts_2 286 = .ok (.iadd, 1) := dk_96 (dk_at dksX5_parts_2_12 8 rfl rfl)
theorem dX5_parts_2_287 : decode cX5_parts_2 287 = .ok (.iaload, 1) := dk_46 (dk_at dksX5_parts_2_12 9 rfl rfl)
theorem dX5_parts_2_288 : decode cX5_parts_2 288 = .ok (.dup2, 1) := dk_92 (dk_at dksX5_parts_2_12 10 rfl rfl)
theorem dX5_parts_2_289 : decode cX5_parts_2 289 = .ok (.iaload, 1) := dk_46 (dk_at dksX5_parts_2_12 11 rfl rfl)
theorem dX5_parts_2_290 : decode cX5_parts_2 290 = .ok (.iload 9, 2) := dk_21 9 (dk_at dksX5_parts_2_12 12 rfl rfl)
theorem dX5_parts_2_292 : decode cX5_parts_2 292 = .ok (.isub, 1) := dk_100 (dk_at dksX5_parts_2_12 14 rfl rfl)
theorem dX5_parts_2_293 : decode cX5_parts_2 293 = .ok (.iastore, 1) := dk_79 (dk_at dksX5_parts_2_12 15 rfl rfl)
theorem dX5_parts_2_294 : decode cX5_parts_2 294 = .ok (.iinc 10 1, 3) := dk_132 10 1 (dk_at dksX5_parts_2_12 16 rfl rfl)
theorem dX5_parts_2_297 : decode cX5_parts_2 297 = .ok (.goto (-31), 3) := dk_167 255 225 (dk_at dksX5_parts_2_12 19 rfl rfl)
theorem dX5_parts_2_300 : decode cX5_parts_2 300 = .ok (.iload 8, 2) := dk_21 8 (dk_at dksX5_parts_2_12 22 rfl rfl)
theorem dX5_parts_2_302 : decode cX5_parts_2 302 = .ok (.ifCond .ne 26, 3) := dk_154 0 26 (dk_at dksX5_parts_2_13 0 rfl rfl)
theorem dX5_parts_2_305 : decode cX5_parts_2 305 = .ok (.aload_n 0, 1) := dk_42 (dk_at dksX5_parts_2_13 3 rfl rfl)
theorem dX5_parts_2_306 : decode cX5_parts_2 306 = .ok (.getfield 46, 3) := dk_180 0 46 (dk_at dksX5_parts_2_13 4 rfl rfl)
theorem dX5_parts_2_309 : decode cX5_parts_2 309 = .ok (.iload_n 1, 1) := dk_27 (dk_at dksX5_parts_2_13 7 rfl rfl)
theorem dX5_parts_2_310 : decode cX5_parts_2 310 = .ok (.dup2, 1) := dk_92 (dk_at dksX5_parts_2_13 8 rfl rfl)
theorem dX5_parts_2_311 : decode cX5_parts_2 311 = .ok (.iaload, 1) := dk_46 (dk_at dksX5_parts_2_13 9 rfl rfl)
theorem dX5_parts_2_312 : decode cX5_parts_2 312 = .ok (.iload 9, 2) := dk_21 9 (dk_at dksX5_parts_2_13 10 rfl rfl)
theorem dX5_parts_2_314 : decode cX5_parts_2 314 = .ok (.isub, 1) := dk_100 (dk_at dksX5_parts_2_13 12 rfl rfl)
theorem dX5_parts_2_315 : decode cX5_parts_2 315 = .ok (.iastore, 1) := dk_79 (dk_at dksX5_parts_2_13 13 rfl rfl)
theorem dX5_parts_2_316 : decode cX5_parts_2 316 = .ok (.aload_n 0, 1) := dk_42 (dk_at dksX5_parts_2_13 14 rfl rfl)
theorem dX5_parts_2_317 : decode cX5_parts_2 317 = .ok (.getfield 46, 3) := dk_180 0 46 (dk_at dksX5_parts_2_13 15 rfl rfl)
theorem dX5_parts_2_320 : decode cX5_parts_2 320 = .ok (.iload 5, 2) := dk_21 5 (dk_at dksX5_parts_2_13 18 rfl rfl)
theorem dX5_parts_2_322 : decode cX5_parts_2 322 = .ok (.dup2, 1) := dk_92 (dk_at dksX5_parts_2_13 20 rfl rfl)
theorem dX5_parts_2_323 : decode cX5_parts_2 323 = .ok (.iaload, 1) := dk_46 (dk_at dksX5_parts_2_13 21 rfl rfl)
theorem dX5_parts_2_324 : decode cX5_parts_2 324 = .ok (.iload 9, 2) := dk_21 9 (dk_at dksX5_parts_2_13 22 rfl rfl)
theorem dX5_parts_2_326 : decode cX5_parts_2 326 = .ok (.iadd, 1) := dk_96 (dk_at dksX5_parts_2_14 0 rfl rfl)
theorem dX5_parts_2_327 : decode cX5_parts_2 327 = .ok (.iastore, 1) := dk_79 (dk_at dksX5_parts_2_14 1 rfl rfl)
theorem dX5_parts_2_328 : decode cX5_parts_2 328 = .ok (.iload 7, 2) := dk_21 7 (dk_at dksX5_parts_2_14 2 rfl rfl)
theorem dX5_parts_2_330 : decode cX5_parts_2 330 = .ok (.istore 10, 2) := dk_54 10 (dk_at dksX5_parts_2_14 4 rfl rfl)
theorem dX5_parts_2_332 : decode cX5_parts_2 332 = .ok (.iload 10, 2) := dk_21 10 (dk_at dksX5_parts_2_14 6 rfl rfl)
theorem dX5_parts_2_334 : decode cX5_parts_2 334 = .ok (.iload 4, 2) := dk_21 4 (dk_at dksX5_parts_2_14 8 rfl rfl)
theorem dX5_parts_2_336 : decode cX5_parts_2 336 = .ok (.if_icmp .ge 34, 3) := dk_162 0 34 (dk_at dksX5_parts_2_14 10 rfl rfl)
theorem dX5_parts_2_339 : decode cX5_parts_2 339 = .ok (.aload_n 0, 1) := dk_42 (dk_at dksX5_parts_2_14 13 rfl rfl)
theorem dX5_parts_2_340 : decode cX5_parts_2 340 = .ok (.getfield 92, 3) := dk_180 0 92 (dk_at dksX5_parts_2_14 14 rfl rfl)
theorem dX5_parts_2_343 : decode cX5_parts_2 343 = .ok (.iload_n 3, 1) := dk_29 (dk_at dksX5_parts_2_14 17 rfl rfl)
theorem dX5_parts_2_344 : decode cX5_parts_2 344 = .ok (.iconst 4, 1) := dk_7 (dk_at dksX5_parts_2_14 18 rfl rfl)
theorem dX5_parts_2_345 : decode cX5_parts_2 345 = .ok (.iadd, 1) := dk_96 (dk_at dksX5_parts_2_14 19 rfl rfl)
theorem dX5_parts_2_346 : decode cX5_parts_2 346 = .ok (.iload 10, 2) := dk_21 10 (dk_at dksX5_parts_2_14 20 rfl rfl)
theorem dX5_parts_2_348 : decode cX5_parts_2 348 = .ok (.iadd, 1) := dk_96 (dk_at dksX5_parts_2_14 22 rfl rfl)
theorem dX5_parts_2_349 : decode cX5_parts_2 349 = .ok (.iload 7, 2) := dk_21 7 (dk_at dksX5_parts_2_15 0 rfl rfl)
theorem dX5_parts_2_351 : decode cX5_parts_2 351 = .ok (.isub, 1) := dk_100 (dk_at dksX5_parts_2_15 2 rfl rfl)
theorem dX5_parts_2_352 : decode cX5_parts_2 352 = .ok (.aload_n 0, 1) := dk_42 (dk_at dksX5_parts_2_15 3 rfl rfl)
theorem dX5_parts_2_353 : decode cX5_parts_2 353 = .ok (.getfield 92, 3) := dk_180 0 92 (dk_at dksX5_parts_2_15 4 rfl rfl)
theorem dX5_parts_2_356 : decode cX5_parts_2 356 = .ok (.iload_n 3, 1) := dk_29 (dk_at dksX5_parts_2_15 7 rfl rfl)
theorem dX5_parts_2_357 : decode cX5_parts_2 357 = .ok (.iconst 4, 1) := dk_7 (dk_at dksX5_parts_2_15 8 rfl rfl)
theorem dX5_parts_2_358 : decode cX5_parts_2 358 = .ok (.iadd, 1) := dk_96 (dk_at dksX5_parts_2_15 9 rfl rfl)
theorem dX5_parts_2_359 : decode cX5_parts_2 359 = .ok (.iload 10, 2) := dk_21 10 (dk_at dksX5_parts_2_15 10 rfl rfl)
theorem dX5_parts_2_361 : decode cX5_parts_2 361 = .ok (.iadd, 1) := dk_96 (dk_at dksX5_parts_2_15 12 rfl rfl)
theorem dX5_parts_2_362 : decode cX5_parts_2 362 = .ok (.iaload, 1) := dk_46 (dk_at dksX5_parts_2_15 13 rfl rfl)
theorem dX5_parts_2_363 : decode cX5_parts_2 363 = .ok (.iastore, 1) := dk_79 (dk_at dksX5_parts_2_15 14 rfl rfl)
theorem dX5_parts_2_364 : decode cX5_parts_2 364 = .ok (.iinc 10 1, 3) := dk_132 10 1 (dk_at dksX5_parts_2_15 15 rfl rfl)
theorem dX5_parts_2_367 : decode cX5_parts_2 367 = .ok (.goto (-35), 3) := dk_167 255 221 (dk_at dksX5_parts_2_15 18 rfl rfl)
theorem dX5_parts_2_370 : decode cX5_parts_2 370 = .ok (.aload_n 0, 1) := dk_42 (dk_at dksX5_parts_2_15 21 rfl rfl)
theorem dX5_parts_2_371 : decode cX5_parts_2 371 = .ok (.getfield 92, 3) := dk_180 0 92 (dk_at dksX5_parts_2_16 0 rfl rfl)
theorem dX5_parts_2_374 : decode cX5_parts_2 374 = .ok (.iload_n 3, 1) := dk_29 (dk_at dksX5_parts_2_16 3 rfl rfl)
theorem dX5_parts_2_375 : decode cX5_parts_2 375 = .ok (.iload 9, 2) := dk_21 9 (dk_at dksX5_parts_2_16 4 rfl rfl)
theorem dX5_parts_2_377 : decode cX5_parts_2 377 = .ok (.iastore, 1) := dk_79 (dk_at dksX5_parts_2_16 6 rfl rfl)
theorem dX5_parts_2_378 : decode cX5_parts_2 378 = .ok (.aload_n 0, 1) := dk_42 (dk_at dksX5_parts_2_16 7 rfl rfl)
theorem dX5_parts_2_379 : decode cX5_parts_2 379 = .ok (.getfield 92, 3) := dk_180 0 92 (dk_at dksX5_parts_2_16 8 rfl rfl)
theorem dX5_parts_2_382 : decode cX5_parts_2 382 = .ok (.iload_n 3, 1) := dk_29 (dk_at dksX5_parts_2_16 11 rfl rfl)
theorem dX5_parts_2_383 : decode cX5_parts_2 383 = .ok (.iconst 1, 1) := dk_4 (dk_at dksX5_parts_2_16 12 rfl rfl)
theorem dX5_parts_2_384 : decode cX5_parts_2 384 = .ok (.iadd, 1) := dk_96 (dk_at dksX5_parts_2_16 13 rfl rfl)
theorem dX5_parts_2_385 : decode cX5_parts_2 385 = .ok (.iload 4, 2) := dk_21 4 (dk_at dksX5_parts_2_16 14 rfl rfl)
theorem dX5_parts_2_387 : decode cX5_parts_2 387 = .ok (.iload 7, 2) := dk_21 7 (dk_at dksX5_parts_2_16 16 rfl rfl)
theorem dX5_parts_2_389 : decode cX5_parts_2 389 = .ok (.isub, 1) := dk_100 (dk_at dksX5_parts_2_16 18 rfl rfl)
theorem dX5_parts_2_390 : decode cX5_parts_2 390 = .ok (.iastore, 1) := dk_79 (dk_at dksX5_parts_2_16 19 rfl rfl)
theorem dX5_parts_2_391 : decode cX5_parts_2 391 = .ok (.aload_n 0, 1) := dk_42 (dk_at dksX5_parts_2_16 20 rfl rfl)
theorem dX5_parts_2_392 : decode cX5_parts_2 392 = .ok (.getfield 92, 3) := dk_180 0 92 (dk_at dksX5_parts_2_16 21 rfl rfl)
theorem dX5_parts_2_395 : decode cX5_parts_2 395 = .ok (.iload_n 3, 1) := dk_29 (dk_at dksX5_parts_2_17 0 rfl rfl)
theorem dX5_parts_2_396 : decode cX5_parts_2 396 = .ok (.iconst 2, 1) := dk_5 (dk_at dksX5_parts_2_17 1 rfl rfl)
theorem dX5_parts_2_397 : decode cX5_parts_2 397 = .ok (.iadd, 1) := dk_96 (dk_at dksX5_parts_2_17 2 rfl rfl)
theorem dX5_parts_2_398 : decode cX5_parts_2 398 = .ok (.iload 8, 2) := dk_21 8 (dk_at dksX5_parts_2_17 3 rfl rfl)
theorem dX5_parts_2_400 : decode cX5_parts_2 400 = .ok (.ifCond .eq 7, 3) := dk_153 0 7 (dk_at dksX5_parts_2_17 5 rfl rfl)
theorem dX5_parts_2_403 : decode cX5_parts_2 403 = .ok (.iconst 1, 1) := dk_4 (dk_at dksX5_parts_2_17 8 rfl rfl)
theorem dX5_parts_2_404 : decode cX5_parts_2 404 = .ok (.goto 4, 3) := dk_167 0 4 (dk_at dksX5_parts_2_17 9 rfl rfl)
theorem dX5_parts_2_407 : decode cX5_parts_2 407 = .ok (.iconst 0, 1) := dk_3 (dk_at dksX5_parts_2_17 12 rfl rfl)
theorem dX5_parts_2_408 : decode cX5_parts_2 408 = .ok (.iastore, 1) := dk_79 (dk_at dksX5_parts_2_17 13 rfl rfl)
theorem dX5_parts_2_409 : decode cX5_parts_2 409 = .ok (.aload_n 0, 1) := dk_42 (dk_at dksX5_parts_2_17 14 rfl rfl)
theorem dX5_parts_2_410 : decode cX5_parts_2 410 = .ok (.getfield 92, 3) := dk_180 0 92 (dk_at dksX5_parts_2_17 15 rfl rfl)
theorem dX5_parts_2_413 : decode cX5_parts_2 413 = .ok (.iload_n 3, 1) := dk_29 (dk_at dksX5_parts_2_17 18 rfl rfl)
theorem dX5_parts_2_414 : decode cX5_parts_2 414 = .ok (.iconst 3, 1) := dk_6 (dk_at dksX5_parts_2_17 19 rfl rfl)
theorem dX5_parts_2_415 : decode cX5_parts_2 415 = .ok (.iadd, 1) := dk_96 (dk_at dksX5_parts_2_17 20 rfl rfl)
theorem dX5_parts_2_416 : decode cX5_parts_2 416 = .ok (.aload_n 0, 1) := dk_42 (dk_at dksX5_parts_2_17 21 rfl rfl)
theorem dX5_parts_2_417 : decode cX5_parts_2 417 = .ok (.getfield 80, 3) := dk_180 0 80 (dk_at dksX5_parts_2_18 0 rfl rfl)
theorem dX5_parts_2_420 : decode cX5_parts_2 420 = .ok (.iload 7, 2) := dk_21 7 (dk_at dksX5_parts_2_18 3 rfl rfl)
theorem dX5_parts_2_422 : decode cX5_parts_2 422 = .ok (.iaload, 1) := dk_46 (dk_at dksX5_parts_2_18 5 rfl rfl)
theorem dX5_parts_2_423 : decode cX5_parts_2 423 = .ok (.iastore, 1) := dk_79 (dk_at dksX5_parts_2_18 6 rfl rfl)
theorem dX5_parts_2_424 : decode cX5_parts_2 424 = .ok (.return_, 1) := dk_177 (dk_at dksX5_parts_2_18 7 rfl rfl)
abbrev cX5_part : ByteArray := prog_17_method_92_code
def yX5_part : MethodName := ⟨RX5, "part", "(II)I"⟩
def dkwX5_part_5 : List UInt8 := [16, 251, 172]
abbrev dktX5_part_5 : List UInt8 := dkwX5_part_5 ++ []
def dkwX5_part_4 : List UInt8 := [96, 46, 162, 0, 22, 42, 180, 0, 92, 16, 12, 27, 104, 7, 96, 28, 96, 16, 10, 100, 46, 167, 0, 5]
abbrev dktX5_part_4 : List UInt8 := dkwX5_part_4 ++ dktX5_part_5
def dkwX5_part_3 : List UInt8 := [180, 0, 92, 16, 12, 27, 104, 28, 96, 46, 172, 28, 16, 10, 100, 42, 180, 0, 92, 16, 12, 27, 104, 4]
abbrev dktX5_part_3 : List UInt8 := dkwX5_part_3 ++ dktX5_part_4
def dkwX5_part_2 : List UInt8 := [133, 9, 42, 180, 1, 80, 4, 100, 133, 184, 0, 99, 154, 0, 5, 2, 172, 28, 7, 162, 0, 15, 42]
abbrev dktX5_part_2 : List UInt8 := dkwX5_part_2 ++ dktX5_part_3
def dkwX5_part_1 : List UInt8 := [154, 0, 5, 2, 172, 42, 182, 1, 89, 154, 0, 14, 27, 156, 0, 7, 2, 167, 0, 5, 16, 253, 172, 27]
abbrev dktX5_part_1 : List UInt8 := dkwX5_part_1 ++ dktX5_part_2
def dkwX5_part_0 : List UInt8 := [28, 133, 9, 20, 1, 51, 184, 0, 99, 154, 0, 19, 28, 133, 20, 1, 92, 20, 1, 94, 184, 0, 99]
abbrev dktX5_part_0 : List UInt8 := dkwX5_part_0 ++ dktX5_part_1
theorem dksX5_part_0 : cX5_part.data.toList.drop 0 = dktX5_part_0 := by decide +kernel
theorem dksX5_part_1 : cX5_part.data.toList.drop 23 = dktX5_part_1 := dk_seg dksX5_part_0 23 rfl rfl
theorem dksX5_part_2 : cX5_part.data.toList.drop 47 = dktX5_part_2 := dk_seg dksX5_part_1 24 rfl rfl
theorem dksX5_part_3 : cX5_part.data.toList.drop 70 = dktX5_part_3 := dk_seg dksX5_part_2 23 rfl rfl
theorem dksX5_part_4 : cX5_part.data.toList.drop 94 = dktX5_part_4 := dk_seg dksX5_part_3 24 rfl rfl
theorem dksX5_part_5 : cX5_part.data.toList.drop 118 = dktX5_part_5 := dk_seg dksX5_part_4 24 rfl rfl
theorem dX5_part_0 : decode cX5_part 0 = .ok (.iload_n 2, 1) := dk_28 (dk_at dksX5_part_0 0 rfl rfl)
theorem dX5_part_1 : decode cX5_part 1 = .ok (.i2l, 1) := dk_133 (dk_at dksX5_part_0 1 rfl rfl)
theorem dX5_part_2 : decode cX5_part 2 = .ok (.lconst 0, 1) := dk_9 (dk_at dksX5_part_0 2 rfl rfl)
theorem dX5_part_3 : decode cX5_part 3 = .ok (.ldc2_w 307, 3) := dk_20 1 51 (dk_at dksX5_part_0 3 rfl rfl)
theorem dX5_part_6 : decode cX5_part 6 = .ok (.invokestatic 99, 3) := dk_184 0 99 (dk_at dksX5_part_0 6 rfl rfl)
theorem dX5_part_9 : decode cX5_part 9 = .ok (.ifCond .ne 19, 3) := dk_154 0 19 (dk_at dksX5_part_0 9 rfl rfl)
theorem dX5_part_12 : decode cX5_part 12 = .ok (.iload_n 2, 1) := dk_28 (dk_at dksX5_part_0 12 rfl rfl)
theorem dX5_part_13 : decode cX5_part 13 = .ok (.i2l, 1) := dk_133 (dk_at dksX5_part_0 13 rfl rfl)
theorem dX5_part_14 : decode cX5_part 14 = .ok (.ldc2_w 348, 3) := dk_20 1 92 (dk_at dksX5_part_0 14 rfl rfl)
theorem dX5_part_17 : decode cX5_part 17 = .ok (.ldc2_w 350, 3) := dk_20 1 94 (dk_at dksX5_part_0 17 rfl rfl)
theorem dX5_part_20 : decode cX5_part 20 = .ok (.invokestatic 99, 3) := dk_184 0 99 (dk_at dksX5_part_0 20 rfl rfl)
theorem dX5_part_23 : decode cX5_part 23 = .ok (.ifCond .ne 5, 3) := dk_154 0 5 (dk_at dksX5_part_1 0 rfl rfl)
theorem dX5_part_26 : decode cX5_part 26 = .ok (.iconst (-1), 1) := dk_2 (dk_at dksX5_part_1 3 rfl rfl)
theorem dX5_part_27 : decode cX5_part 27 = .ok (.ireturn, 1) := dk_172 (dk_at dksX5_part_1 4 rfl rfl)
theorem dX5_part_28 : decode cX5_part 28 = .ok (.aload_n 0, 1) := dk_42 (dk_at dksX5_part_1 5 rfl rfl)
theorem dX5_part_29 : decode cX5_part 29 = .ok (.invokevirtual 345, 3) := dk_182 1 89 (dk_at dksX5_part_1 6 rfl rfl)
theorem dX5_part_32 : decode cX5_part 32 = .ok (.ifCond .ne 14, 3) := dk_154 0 14 (dk_at dksX5_part_1 9 rfl rfl)
theorem dX5_part_35 : decode cX5_part 35 = .ok (.iload_n 1, 1) := dk_27 (dk_at dksX5_part_1 12 rfl rfl)
theorem dX5_part_36 : decode cX5_part 36 = .ok (.ifCond .ge 7, 3) := dk_156 0 7 (dk_at dksX5_part_1 13 rfl rfl)
theorem dX5_part_39 : decode cX5_part 39 = .ok (.iconst (-1), 1) := dk_2 (dk_at dksX5_part_1 16 rfl rfl)
theorem dX5_part_40 : decode cX5_part 40 = .ok (.goto 5, 3) := dk_167 0 5 (dk_at dksX5_part_1 17 rfl rfl)
theorem dX5_part_43 : decode cX5_part 43 = .ok (.bipush (-3), 2) := dk_16 253 (dk_at dksX5_part_1 20 rfl rfl)
theorem dX5_part_45 : decode cX5_part 45 = .ok (.ireturn, 1) := dk_172 (dk_at dksX5_part_1 22 rfl rfl)
theorem dX5_part_46 : decode cX5_part 46 = .ok (.iload_n 1, 1) := dk_27 (dk_at dksX5_part_1 23 rfl rfl)
theorem dX5_part_47 : decode cX5_part 47 = .ok (.i2l, 1) := dk_133 (dk_at dksX5_part_2 0 rfl rfl)
theorem dX5_part_48 : decode cX5_part 48 = .ok (.lconst 0, 1) := dk_9 (dk_at dksX5_part_2 1 rfl rfl)
theorem dX5_part_49 : decode cX5_part 49 = .ok (.aload_n 0, 1) := dk_42 (dk_at dksX5_part_2 2 rfl rfl)
theorem dX5_part_50 : decode cX5_part 50 = .ok (.getfield 336, 3) := dk_180 1 80 (dk_at dksX5_part_2 3 rfl rfl)
theorem dX5_part_53 : decode cX5_part 53 = .ok (.iconst 1, 1) := dk_4 (dk_at dksX5_part_2 6 rfl rfl)
theorem dX5_part_54 : decode cX5_part 54 = .ok (.isub, 1) := dk_100 (dk_at dksX5_part_2 7 rfl rfl)
theorem dX5_part_55 : decode cX5_part 55 = .ok (.i2l, 1) := dk_133 (dk_at dksX5_part_2 8 rfl rfl)
theorem dX5_part_56 : decode cX5_part 56 = .ok (.invokestatic 99, 3) := dk_184 0 99 (dk_at dksX5_part_2 9 rfl rfl)
theorem dX5_part_59 : decode cX5_part 59 = .ok (.ifCond .ne 5, 3) := dk_154 0 5 (dk_at dksX5_part_2 12 rfl rfl)
theorem dX5_part_62 : decode cX5_part 62 = .ok (.iconst (-1), 1) := dk_2 (dk_at dksX5_part_2 15 rfl rfl)
theorem dX5_part_63 : decode cX5_part 63 = .ok (.ireturn, 1) := dk_172 (dk_at dksX5_part_2 16 rfl rfl)
theorem dX5_part_64 : decode cX5_part 64 = .ok (.iload_n 2, 1) := dk_28 (dk_at dksX5_part_2 17 rfl rfl)
theorem dX5_part_65 : decode cX5_part 65 = .ok (.iconst 4, 1) := dk_7 (dk_at dksX5_part_2 18 rfl rfl)
theorem dX5_part_66 : decode cX5_part 66 = .ok (.if_icmp .ge 15, 3) := dk_162 0 15 (dk_at dksX5_part_2 19 rfl rfl)
theorem dX5_part_69 : decode cX5_part 69 = .ok (.aload_n 0, 1) := dk_42 (dk_at dksX5_part_2 22 rfl rfl)
theorem dX5_part_70 : decode cX5_part 70 = .ok (.getfield 92, 3) := dk_180 0 92 (dk_at dksX5_part_3 0 rfl rfl)
theorem dX5_part_73 : decode cX5_part 73 = .ok (.bipush 12, 2) := dk_16 12 (dk_at dksX5_part_3 3 rfl rfl)
theorem dX5_part_75 : decode cX5_part 75 = .ok (.iload_n 1, 1) := dk_27 (dk_at dksX5_part_3 5 rfl rfl)
theorem dX5_part_76 : decode cX5_part 76 = .ok (.imul, 1) := dk_104 (dk_at dksX5_part_3 6 rfl rfl)
theorem dX5_part_77 : decode cX5_part 77 = .ok (.iload_n 2, 1) := dk_28 (dk_at dksX5_part_3 7 rfl rfl)
theorem dX5_part_78 : decode cX5_part 78 = .ok (.iadd, 1) := dk_96 (dk_at dksX5_part_3 8 rfl rfl)
theorem dX5_part_79 : decode cX5_part 79 = .ok (.iaload, 1) := dk_46 (dk_at dksX5_part_3 9 rfl rfl)
theorem dX5_part_80 : decode cX5_part 80 = .ok (.ireturn, 1) := dk_172 (dk_at dksX5_part_3 10 rfl rfl)
theorem dX5_part_81 : decode cX5_part 81 = .ok (.iload_n 2, 1) := dk_28 (dk_at dksX5_part_3 11 rfl rfl)
theorem dX5_part_82 : decode cX5_part 82 = .ok (.bipush 10, 2) := dk_16 10 (dk_at dksX5_part_3 12 rfl rfl)
theorem dX5_part_84 : decode cX5_part 84 = .ok (.isub, 1) := dk_100 (dk_at dksX5_part_3 14 rfl rfl)
theorem dX5_part_85 : decode cX5_part 85 = .ok (.aload_n 0, 1) := dk_42 (dk_at dksX5_part_3 15 rfl rfl)
theorem dX5_part_86 : decode cX5_part 86 = .ok (.getfield 92, 3) := dk_180 0 92 (dk_at dksX5_part_3 16 rfl rfl)
theorem dX5_part_89 : decode cX5_part 89 = .ok (.bipush 12, 2) := dk_16 12 (dk_at dksX5_part_3 19 rfl rfl)
theorem dX5_part_91 : decode cX5_part 91 = .ok (.iload_n 1, 1) := dk_27 (dk_at dksX5_part_3 21 rfl rfl)
theorem dX5_part_92 : decode cX5_part 92 = .ok (.imul, 1) := dk_104 (dk_at dksX5_part_3 22 rfl rfl)
theorem dX5_part_93 : decode cX5_part 93 = .ok (.iconst 1, 1) := dk_4 (dk_at dksX5_part_3 23 rfl rfl)
theorem dX5_part_94 : decode cX5_part 94 = .ok (.iadd, 1) := dk_96 (dk_at dksX5_part_4 0 rfl rfl)
theorem dX5_part_95 : decode cX5_part 95 = .ok (.iaload, 1) := dk_46 (dk_at dksX5_part_4 1 rfl rfl)
theorem dX5_part_96 : decode cX5_part 96 = .ok (.if_icmp .ge 22, 3) := dk_162 0 22 (dk_at dksX5_part_4 2 rfl rfl)
theorem dX5_part_99 : decode cX5_part 99 = .ok (.aload_n 0, 1) := dk_42 (dk_at dksX5_part_4 5 rfl rfl)
theorem dX5_part_100 : decode cX5_part 100 = .ok (.getfield 92, 3) := dk_180 0 92 (dk_at dksX5_part_4 6 rfl rfl)
theorem dX5_part_103 : decode cX5_part 103 = .ok (.bipush 12, 2) := dk_16 12 (dk_at dksX5_part_4 9 rfl rfl)
theorem dX5_part_105 : decode cX5_part 105 = .ok (.iload_n 1, 1) := dk_27 (dk_at dksX5_part_4 11 rfl rfl)
theorem dX5_part_106 : decode cX5_part 106 = .ok (.imul, 1) := dk_104 (dk_at dksX5_part_4 12 rfl rfl)
theorem dX5_part_107 : decode cX5_part 107 = .ok (.iconst 4, 1) := dk_7 (dk_at dksX5_part_4 13 rfl rfl)
theorem dX5_part_108 : decode cX5_part 108 = .ok (.iadd, 1) := dk_96 (dk_at dksX5_part_4 14 rfl rfl)
theorem dX5_part_109 : decode cX5_part 109 = .ok (.iload_n 2, 1) := dk_28 (dk_at dksX5_part_4 15 rfl rfl)
theorem dX5_part_110 : decode cX5_part 110 = .ok (.iadd, 1) := dk_96 (dk_at dksX5_part_4 16 rfl rfl)
theorem dX5_part_111 : decode cX5_part 111 = .ok (.bipush 10, 2) := dk_16 10 (dk_at dksX5_part_4 17 rfl rfl)
theorem dX5_part_113 : decode cX5_part 113 = .ok (.isub, 1) := dk_100 (dk_at dksX5_part_4 19 rfl rfl)
theorem dX5_part_114 : decode cX5_part 114 = .ok (.iaload, 1) := dk_46 (dk_at dksX5_part_4 20 rfl rfl)
theorem dX5_part_115 : decode cX5_part 115 = .ok (.goto 5, 3) := dk_167 0 5 (dk_at dksX5_part_4 21 rfl rfl)
theorem dX5_part_118 : decode cX5_part 118 = .ok (.bipush (-5), 2) := dk_16 251 (dk_at dksX5_part_5 0 rfl rfl)
theorem dX5_part_120 : decode cX5_part 120 = .ok (.ireturn, 1) := dk_172 (dk_at dksX5_part_5 2 rfl rfl)
abbrev cX5_partCost : ByteArray := prog_17_method_93_code
def yX5_partCost : MethodName := ⟨RX5, "partCost", "(I)J"⟩
def dkwX5_partCost_3 : List UInt8 := [65, 132, 4, 1, 167, 255, 215, 32, 173]
abbrev dktX5_partCost_3 : List UInt8 := dkwX5_partCost_3 ++ []
def dkwX5_partCost_2 : List UInt8 := [162, 0, 31, 32, 42, 180, 0, 15, 42, 180, 0, 92, 16, 12, 27, 104, 7, 96, 21, 4, 96, 46, 47, 97]
abbrev dktX5_partCost_2 : List UInt8 := dkwX5_partCost_2 ++ dktX5_partCost_3
def dkwX5_partCost_1 : List UInt8 := [20, 0, 169, 173, 9, 65, 3, 54, 4, 21, 4, 42, 180, 0, 92, 16, 12, 27, 104, 4, 96, 46]
abbrev dktX5_partCost_1 : List UInt8 := dkwX5_partCost_1 ++ dktX5_partCost_2
def dkwX5_partCost_0 : List UInt8 := [42, 182, 1, 89, 153, 0, 19, 27, 133, 9, 42, 180, 1, 80, 4, 100, 133, 184, 0, 99, 154, 0, 7]
abbrev dktX5_partCost_0 : List UInt8 := dkwX5_partCost_0 ++ dktX5_partCost_1
theorem dksX5_partCost_0 : cX5_partCost.data.toList.drop 0 = dktX5_partCost_0 := by decide +kernel
theorem dksX5_partCost_1 : cX5_partCost.data.toList.drop 23 = dktX5_partCost_1 := dk_seg dksX5_partCost_0 23 rfl rfl
theorem dksX5_partCost_2 : cX5_partCost.data.toList.drop 45 = dktX5_partCost_2 := dk_seg dksX5_partCost_1 22 rfl rfl
theorem dksX5_partCost_3 : cX5_partCost.data.toList.drop 69 = dktX5_partCost_3 := dk_seg dksX5_partCost_2 24 rfl rfl
theorem dX5_partCost_0 : decode cX5_partCost 0 = .ok (.aload_n 0, 1) := dk_42 (dk_at dksX5_partCost_0 0 rfl rfl)
theorem dX5_partCost_1 : decode cX5_partCost 1 = .ok (.invokevirtual 345, 3) := dk_182 1 89 (dk_at dksX5_partCost_0 1 rfl rfl)
theorem dX5_partCost_4 : decode cX5_partCost 4 = .ok (.ifCond .eq 19, 3) := dk_153 0 19 (dk_at dksX5_partCost_0 4 rfl rfl)
theorem dX5_partCost_7 : decode cX5_partCost 7 = .ok (.iload_n 1, 1) := dk_27 (dk_at dksX5_partCost_0 7 rfl rfl)
theorem dX5_partCost_8 : decode cX5_partCost 8 = .ok (.i2l, 1) := dk_133 (dk_at dksX5_partCost_0 8 rfl rfl)
theorem dX5_partCost_9 : decode cX5_partCost 9 = .ok (.lconst 0, 1) := dk_9 (dk_at dksX5_partCost_0 9 rfl rfl)
theorem dX5_partCost_10 : decode cX5_partCost 10 = .ok (.aload_n 0, 1) := dk_42 (dk_at dksX5_partCost_0 10 rfl rfl)
theorem dX5_partCost_11 : decode cX5_partCost 11 = .ok (.getfield 336, 3) := dk_180 1 80 (dk_at dksX5_partCost_0 11 rfl rfl)
theorem dX5_partCost_14 : decode cX5_partCost 14 = .ok (.iconst 1, 1) := dk_4 (dk_at dksX5_partCost_0 14 rfl rfl)
theorem dX5_partCost_15 : decode cX5_partCost 15 = .ok (.isub, 1) := dk_100 (dk_at dksX5_partCost_0 15 rfl rfl)
theorem dX5_partCost_16 : decode cX5_partCost 16 = .ok (.i2l, 1) := dk_133 (dk_at dksX5_partCost_0 16 rfl rfl)
theorem dX5_partCost_17 : decode cX5_partCost 17 = .ok (.invokestatic 99, 3) := dk_184 0 99 (dk_at dksX5_partCost_0 17 rfl rfl)
theorem dX5_partCost_20 : decode cX5_partCost 20 = .ok (.ifCond .ne 7, 3) := dk_154 0 7 (dk_at dksX5_partCost_0 20 rfl rfl)
theorem dX5_partCost_23 : decode cX5_partCost 23 = .ok (.ldc2_w 169, 3) := dk_20 0 169 (dk_at dksX5_partCost_1 0 rfl rfl)
theorem dX5_partCost_26 : decode cX5_partCost 26 = .ok (.lreturn, 1) := dk_173 (dk_at dksX5_partCost_1 3 rfl rfl)
theorem dX5_partCost_27 : decode cX5_partCost 27 = .ok (.lconst 0, 1) := dk_9 (dk_at dksX5_partCost_1 4 rfl rfl)
theorem dX5_partCost_28 : decode cX5_partCost 28 = .ok (.lstore_n 2, 1) := dk_65 (dk_at dksX5_partCost_1 5 rfl rfl)
theorem dX5_partCost_29 : decode cX5_partCost 29 = .ok (.iconst 0, 1) := dk_3 (dk_at dksX5_partCost_1 6 rfl rfl)
theorem dX5_partCost_30 : decode cX5_partCost 30 = .ok (.istore 4, 2) := dk_54 4 (dk_at dksX5_partCost_1 7 rfl rfl)
theorem dX5_partCost_32 : decode cX5_partCost 32 = .ok (.iload 4, 2) := dk_21 4 (dk_at dksX5_partCost_1 9 rfl rfl)
theorem dX5_partCost_34 : decode cX5_partCost 34 = .ok (.aload_n 0, 1) := dk_42 (dk_at dksX5_partCost_1 11 rfl rfl)
theorem dX5_partCost_35 : decode cX5_partCost 35 = .ok (.getfield 92, 3) := dk_180 0 92 (dk_at dksX5_partCost_1 12 rfl rfl)
theorem dX5_partCost_38 : decode cX5_partCost 38 = .ok (.bipush 12, 2) := dk_16 12 (dk_at dksX5_partCost_1 15 rfl rfl)
theorem dX5_partCost_40 : decode cX5_partCost 40 = .ok (.iload_n 1, 1) := dk_27 (dk_at dksX5_partCost_1 17 rfl rfl)
theorem dX5_partCost_41 : decode cX5_partCost 41 = .ok (.imul, 1) := dk_104 (dk_at dksX5_partCost_1 18 rfl rfl)
theorem dX5_partCost_42 : decode cX5_partCost 42 = .ok (.iconst 1, 1) := dk_4 (dk_at dksX5_partCost_1 19 rfl rfl)
theorem dX5_partCost_43 : decode cX5_partCost 43 = .ok (.iadd, 1) := dk_96 (dk_at dksX5_partCost_1 20 rfl rfl)
theorem dX5_partCost_44 : decode cX5_partCost 44 = .ok (.iaload, 1) := dk_46 (dk_at dksX5_partCost_1 21 rfl rfl)
theorem dX5_partCost_45 : decode cX5_partCost 45 = .ok (.if_icmp .ge 31, 3) := dk_162 0 31 (dk_at dksX5_partCost_2 0 rfl rfl)
theorem dX5_partCost_48 : decode cX5_partCost 48 = .ok (.lload_n 2, 1) := dk_32 (dk_at dksX5_partCost_2 3 rfl rfl)
theorem dX5_partCost_49 : decode cX5_partCost 49 = .ok (.aload_n 0, 1) := dk_42 (dk_at dksX5_partCost_2 4 rfl rfl)
theorem dX5_partCost_50 : decode cX5_partCost 50 = .ok (.getfield 15, 3) := dk_180 0 15 (dk_at dksX5_partCost_2 5 rfl rfl)
theorem dX5_partCost_53 : decode cX5_partCost 53 = .ok (.aload_n 0, 1) := dk_42 (dk_at dksX5_partCost_2 8 rfl rfl)
theorem dX5_partCost_54 : decode cX5_partCost 54 = .ok (.getfield 92, 3) := dk_180 0 92 (dk_at dksX5_partCost_2 9 rfl rfl)
theorem dX5_partCost_57 : decode cX5_partCost 57 = .ok (.bipush 12, 2) := dk_16 12 (dk_at dksX5_partCost_2 12 rfl rfl)
theorem dX5_partCost_59 : decode cX5_partCost 59 = .ok (.iload_n 1, 1) := dk_27 (dk_at dksX5_partCost_2 14 rfl rfl)
theorem dX5_partCost_60 : decode cX5_partCost 60 = .ok (.imul, 1) := dk_104 (dk_at dksX5_partCost_2 15 rfl rfl)
theorem dX5_partCost_61 : decode cX5_partCost 61 = .ok (.iconst 4, 1) := dk_7 (dk_at dksX5_partCost_2 16 rfl rfl)
theorem dX5_partCost_62 : decode cX5_partCost 62 = .ok (.iadd, 1) := dk_96 (dk_at dksX5_partCost_2 17 rfl rfl)
theorem dX5_partCost_63 : decode cX5_partCost 63 = .ok (.iload 4, 2) := dk_21 4 (dk_at dksX5_partCost_2 18 rfl rfl)
theorem dX5_partCost_65 : decode cX5_partCost 65 = .ok (.iadd, 1) := dk_96 (dk_at dksX5_partCost_2 20 rfl rfl)
theorem dX5_partCost_66 : decode cX5_partCost 66 = .ok (.iaload, 1) := dk_46 (dk_at dksX5_partCost_2 21 rfl rfl)
theorem dX5_partCost_67 : decode cX5_partCost 67 = .ok (.laload, 1) := dk_47 (dk_at dksX5_partCost_2 22 rfl rfl)
theorem dX5_partCost_68 : decode cX5_partCost 68 = .ok (.ladd, 1) := dk_97 (dk_at dksX5_partCost_2 23 rfl rfl)
theorem dX5_partCost_69 : decode cX5_partCost 69 = .ok (.lstore_n 2, 1) := dk_65 (dk_at dksX5_partCost_3 0 rfl rfl)
theorem dX5_partCost_70 : decode cX5_partCost 70 = .ok (.iinc 4 1, 3) := dk_132 4 1 (dk_at dksX5_partCost_3 1 rfl rfl)
theorem dX5_partCost_73 : decode cX5_partCost 73 = .ok (.goto (-41), 3) := dk_167 255 215 (dk_at dksX5_partCost_3 4 rfl rfl)
theorem dX5_partCost_76 : decode cX5_partCost 76 = .ok (.lload_n 2, 1) := dk_32 (dk_at dksX5_partCost_3 7 rfl rfl)
theorem dX5_partCost_77 : decode cX5_partCost 77 = .ok (.lreturn, 1) := dk_173 (dk_at dksX5_partCost_3 8 rfl rfl)
abbrev cX5_spell : ByteArray := prog_17_method_95_code
def yX5_spell : MethodName := ⟨RX5, "spell", "()I"⟩
def dkwX5_spell_5 : List UInt8 := [42, 180, 0, 43, 27, 46, 16, 10, 112, 96, 182, 1, 99, 132, 1, 1, 167, 255, 141, 42, 180, 1, 96, 172]
abbrev dktX5_spell_5 : List UInt8 := dkwX5_spell_5 ++ []
def dkwX5_spell_4 : List UInt8 := [16, 9, 164, 0, 19, 42, 16, 48, 42, 180, 0, 43, 27, 46, 16, 10, 108, 96, 182, 1, 99, 42, 16, 48]
abbrev dktX5_spell_4 : List UInt8 := dkwX5_spell_4 ++ dktX5_spell_5
def dkwX5_spell_3 : List UInt8 := [16, 48, 42, 27, 182, 0, 156, 96, 182, 1, 99, 42, 16, 42, 182, 1, 99, 42, 180, 0, 43, 27, 46]
abbrev dktX5_spell_3 : List UInt8 := dkwX5_spell_3 ++ dktX5_spell_4
def dkwX5_spell_2 : List UInt8 := [16, 32, 182, 1, 99, 42, 16, 48, 42, 27, 182, 0, 152, 96, 182, 1, 99, 42, 16, 62, 182, 1, 99, 42]
abbrev dktX5_spell_2 : List UInt8 := dkwX5_spell_2 ++ dktX5_spell_3
def dkwX5_spell_1 : List UInt8 := [162, 0, 113, 42, 180, 0, 43, 27, 46, 154, 0, 6, 167, 0, 95, 42, 180, 1, 96, 158, 0, 9, 42]
abbrev dktX5_spell_1 : List UInt8 := dkwX5_spell_1 ++ dktX5_spell_2
def dkwX5_spell_0 : List UInt8 := [42, 182, 1, 16, 154, 0, 6, 16, 253, 172, 42, 3, 181, 1, 96, 3, 60, 27, 42, 182, 0, 107]
abbrev dktX5_spell_0 : List UInt8 := dkwX5_spell_0 ++ dktX5_spell_1
theorem dksX5_spell_0 : cX5_spell.data.toList.drop 0 = dktX5_spell_0 := by decide +kernel
theorem dksX5_spell_1 : cX5_spell.data.toList.drop 22 = dktX5_spell_1 := dk_seg dksX5_spell_0 22 rfl rfl
theorem dksX5_spell_2 : cX5_spell.data.toList.drop 45 = dktX5_spell_2 := dk_seg dksX5_spell_1 23 rfl rfl
theorem dksX5_spell_3 : cX5_spell.data.toList.drop 69 = dktX5_spell_3 := dk_seg dksX5_spell_2 24 rfl rfl
theorem dksX5_spell_4 : cX5_spell.data.toList.drop 92 = dktX5_spell_4 := dk_seg dksX5_spell_3 23 rfl rfl
theorem dksX5_spell_5 : cX5_spell.data.toList.drop 116 = dktX5_spell_5 := dk_seg dksX5_spell_4 24 rfl rfl
theorem dX5_spell_0 : decode cX5_spell 0 = .ok (.aload_n 0, 1) := dk_42 (dk_at dksX5_spell_0 0 rfl rfl)
theorem dX5_spell_1 : decode cX5_spell 1 = .ok (.invokevirtual 272, 3) := dk_182 1 16 (dk_at dksX5_spell_0 1 rfl rfl)
theorem dX5_spell_4 : decode cX5_spell 4 = .ok (.ifCond .ne 6, 3) := dk_154 0 6 (dk_at dksX5_spell_0 4 rfl rfl)
theorem dX5_spell_7 : decode cX5_spell 7 = .ok (.bipush (-3), 2) := dk_16 253 (dk_at dksX5_spell_0 7 rfl rfl)
theorem dX5_spell_9 : decode cX5_spell 9 = .ok (.ireturn, 1) := dk_172 (dk_at dksX5_spell_0 9 rfl rfl)
theorem dX5_spell_10 : decode cX5_spell 10 = .ok (.aload_n 0, 1) := dk_42 (dk_at dksX5_spell_0 10 rfl rfl)
theorem dX5_spell_11 : decode cX5_spell 11 = .ok (.iconst 0, 1) := dk_3 (dk_at dksX5_spell_0 11 rfl rfl)
theorem dX5_spell_12 : decode cX5_spell 12 = .ok (.putfield 352, 3) := dk_181 1 96 (dk_at dksX5_spell_0 12 rfl rfl)
theorem dX5_spell_15 : decode cX5_spell 15 = .ok (.iconst 0, 1) := dk_3 (dk_at dksX5_spell_0 15 rfl rfl)
theorem dX5_spell_16 : decode cX5_spell 16 = .ok (.istore_n 1, 1) := dk_60 (dk_at dksX5_spell_0 16 rfl rfl)
theorem dX5_spell_17 : decode cX5_spell 17 = .ok (.iload_n 1, 1) := dk_27 (dk_at dksX5_spell_0 17 rfl rfl)
theorem dX5_spell_18 : decode cX5_spell 18 = .ok (.aload_n 0, 1) := dk_42 (dk_at dksX5_spell_0 18 rfl rfl)
theorem dX5_spell_19 : decode cX5_spell 19 = .ok (.invokevirtual 107, 3) := dk_182 0 107 (dk_at dksX5_spell_0 19 rfl rfl)
theorem dX5_spell_22 : decode cX5_spell 22 = .ok (.if_icmp .ge 113, 3) := dk_162 0 113 (dk_at dksX5_spell_1 0 rfl rfl)
theorem dX5_spell_25 : decode cX5_spell 25 = .ok (.aload_n 0, 1) := dk_42 (dk_at dksX5_spell_1 3 rfl rfl)
theorem dX5_spell_26 : decode cX5_spell 26 = .ok (.getfield 43, 3) := dk_180 0 43 (dk_at dksX5_spell_1 4 rfl rfl)
theorem dX5_spell_29 : decode cX5_spell 29 = .ok (.iload_n 1, 1) := dk_27 (dk_at dksX5_spell_1 7 rfl rfl)
theorem dX5_spell_30 : decode cX5_spell 30 = .ok (.iaload, 1) := dk_46 (dk_at dksX5_spell_1 8 rfl rfl)
theorem dX5_spell_31 : decode cX5_spell 31 = .ok (.ifCond .ne 6, 3) := dk_154 0 6 (dk_at dksX5_spell_1 9 rfl rfl)
theorem dX5_spell_34 : decode cX5_spell 34 = .ok (.goto 95, 3) := dk_167 0 95 (dk_at dksX5_spell_1 12 rfl rfl)
theorem dX5_spell_37 : decode cX5_spell 37 = .ok (.aload_n 0, 1) := dk_42 (dk_at dksX5_spell_1 15 rfl rfl)
theorem dX5_spell_38 : decode cX5_spell 38 = .ok (.getfield 352, 3) := dk_180 1 96 (dk_at dksX5_spell_1 16 rfl rfl)
theorem dX5_spell_41 : decode cX5_spell 41 = .ok (.ifCond .le 9, 3) := dk_158 0 9 (dk_at dksX5_spell_1 19 rfl rfl)
theorem dX5_spell_44 : decode cX5_spell 44 = .ok (.aload_n 0, 1) := dk_42 (dk_at dksX5_spell_1 22 rfl rfl)
theorem dX5_spell_45 : decode cX5_spell 45 = .ok (.bipush 32, 2) := dk_16 32 (dk_at dksX5_spell_2 0 rfl rfl)
theorem dX5_spell_47 : decode cX5_spell 47 = .ok (.invokevirtual 355, 3) := dk_182 1 99 (dk_at dksX5_spell_2 2 rfl rfl)
theorem dX5_spell_50 : decode cX5_spell 50 = .ok (.aload_n 0, 1) := dk_42 (dk_at dksX5_spell_2 5 rfl rfl)
theorem dX5_spell_51 : decode cX5_spell 51 = .ok (.bipush 48, 2) := dk_16 48 (dk_at dksX5_spell_2 6 rfl rfl)
theorem dX5_spell_53 : decode cX5_spell 53 = .ok (.aload_n 0, 1) := dk_42 (dk_at dksX5_spell_2 8 rfl rfl)
theorem dX5_spell_54 : decode cX5_spell 54 = .ok (.iload_n 1, 1) := dk_27 (dk_at dksX5_spell_2 9 rfl rfl)
theorem dX5_spell_55 : decode cX5_spell 55 = .ok (.invokevirtual 152, 3) := dk_182 0 152 (dk_at dksX5_spell_2 10 rfl rfl)
theorem dX5_spell_58 : decode cX5_spell 58 = .ok (.iadd, 1) := dk_96 (dk_at dksX5_spell_2 13 rfl rfl)
theorem dX5_spell_59 : decode cX5_spell 59 = .ok (.invokevirtual 355, 3) := dk_182 1 99 (dk_at dksX5_spell_2 14 rfl rfl)
theorem dX5_spell_62 : decode cX5_spell 62 = .ok (.aload_n 0, 1) := dk_42 (dk_at dksX5_spell_2 17 rfl rfl)
theorem dX5_spell_63 : decode cX5_spell 63 = .ok (.bipush 62, 2) := dk_16 62 (dk_at dksX5_spell_2 18 rfl rfl)
theorem dX5_spell_65 : decode cX5_spell 65 = .ok (.invokevirtual 355, 3) := dk_182 1 99 (dk_at dksX5_spell_2 20 rfl rfl)
theorem dX5_spell_68 : decode cX5_spell 68 = .ok (.aload_n 0, 1) := dk_42 (dk_at dksX5_spell_2 23 rfl rfl)
theorem dX5_spell_69 : decode cX5_spell 69 = .ok (.bipush 48, 2) := dk_16 48 (dk_at dksX5_spell_3 0 rfl rfl)
theorem dX5_spell_71 : decode cX5_spell 71 = .ok (.aload_n 0, 1) := dk_42 (dk_at dksX5_spell_3 2 rfl rfl)
theorem dX5_spell_72 : decode cX5_spell 72 = .ok (.iload_n 1, 1) := dk_27 (dk_at dksX5_spell_3 3 rfl rfl)
theorem dX5_spell_73 : decode cX5_spell 73 = .ok (.invokevirtual 156, 3) := dk_182 0 156 (dk_at dksX5_spell_3 4 rfl rfl)
theorem dX5_spell_76 : decode cX5_spell 76 = .ok (.iadd, 1) := dk_96 (dk_at dksX5_spell_3 7 rfl rfl)
theorem dX5_spell_77 : decode cX5_spell 77 = .ok (.invokevirtual 355, 3) := dk_182 1 99 (dk_at dksX5_spell_3 8 rfl rfl)
theorem dX5_spell_80 : decode cX5_spell 80 = .ok (.aload_n 0, 1) := dk_42 (dk_at dksX5_spell_3 11 rfl rfl)
theorem dX5_spell_81 : decode cX5_spell 81 = .ok (.bipush 42, 2) := dk_16 42 (dk_at dksX5_spell_3 12 rfl rfl)
theorem dX5_spell_83 : decode cX5_spell 83 = .ok (.invokevirtual 355, 3) := dk_182 1 99 (dk_at dksX5_spell_3 14 rfl rfl)
theorem dX5_spell_86 : decode cX5_spell 86 = .ok (.aload_n 0, 1) := dk_42 (dk_at dksX5_spell_3 17 rfl rfl)
theorem dX5_spell_87 : decode cX5_spell 87 = .ok (.getfield 43, 3) := dk_180 0 43 (dk_at dksX5_spell_3 18 rfl rfl)
theorem dX5_spell_90 : decode cX5_spell 90 = .ok (.iload_n 1, 1) := dk_27 (dk_at dksX5_spell_3 21 rfl rfl)
theorem dX5_spell_91 : decode cX5_spell 91 = .ok (.iaload, 1) := dk_46 (dk_at dksX5_spell_3 22 rfl rfl)
theorem dX5_spell_92 : decode cX5_spell 92 = .ok (.bipush 9, 2) := dk_16 9 (dk_at dksX5_spell_4 0 rfl rfl)
theorem dX5_spell_94 : decode cX5_spell 94 = .ok (.if_icmp .le 19, 3) := dk_164 0 19 (dk_at dksX5_spell_4 2 rfl rfl)
theorem dX5_spell_97 : decode cX5_spell 97 = .ok (.aload_n 0, 1) := dk_42 (dk_at dksX5_spell_4 5 rfl rfl)
theorem dX5_spell_98 : decode cX5_spell 98 = .ok (.bipush 48, 2) := dk_16 48 (dk_at dksX5_spell_4 6 rfl rfl)
theorem dX5_spell_100 : decode cX5_spell 100 = .ok (.aload_n 0, 1) := dk_42 (dk_at dksX5_spell_4 8 rfl rfl)
theorem dX5_spell_101 : decode cX5_spell 101 = .ok (.getfield 43, 3) := dk_180 0 43 (dk_at dksX5_spell_4 9 rfl rfl)
theorem dX5_spell_104 : decode cX5_spell 104 = .ok (.iload_n 1, 1) := dk_27 (dk_at dksX5_spell_4 12 rfl rfl)
theorem dX5_spell_105 : decode cX5_spell 105 = .ok (.iaload, 1) := dk_46 (dk_at dksX5_spell_4 13 rfl rfl)
theorem dX5_spell_106 : decode cX5_spell 106 = .ok (.bipush 10, 2) := dk_16 10 (dk_at dksX5_spell_4 14 rfl rfl)
theorem dX5_spell_108 : decode cX5_spell 108 = .ok (.idiv, 1) := dk_108 (dk_at dksX5_spell_4 16 rfl rfl)
theorem dX5_spell_109 : decode cX5_spell 109 = .ok (.iadd, 1) := dk_96 (dk_at dksX5_spell_4 17 rfl rfl)
theorem dX5_spell_110 : decode cX5_spell 110 = .ok (.invokevirtual 355, 3) := dk_182 1 99 (dk_at dksX5_spell_4 18 rfl rfl)
theorem dX5_spell_113 : decode cX5_spell 113 = .ok (.aload_n 0, 1) := dk_42 (dk_at dksX5_spell_4 21 rfl rfl)
theorem dX5_spell_114 : decode cX5_spell 114 = .ok (.bipush 48, 2) := dk_16 48 (dk_at dksX5_spell_4 22 rfl rfl)
theorem dX5_spell_116 : decode cX5_spell 116 = .ok (.aload_n 0, 1) := dk_42 (dk_at dksX5_spell_5 0 rfl rfl)
theorem dX5_spell_117 : decode cX5_spell 117 = .ok (.getfield 43, 3) := dk_180 0 43 (dk_at dksX5_spell_5 1 rfl rfl)
theorem dX5_spell_120 : decode cX5_spell 120 = .ok (.iload_n 1, 1) := dk_27 (dk_at dksX5_spell_5 4 rfl rfl)
theorem dX5_spell_121 : decode cX5_spell 121 = .ok (.iaload, 1) := dk_46 (dk_at dksX5_spell_5 5 rfl rfl)
theorem dX5_spell_122 : decode cX5_spell 122 = .ok (.bipush 10, 2) := dk_16 10 (dk_at dksX5_spell_5 6 rfl rfl)
theorem dX5_spell_124 : decode cX5_spell 124 = .ok (.irem, 1) := dk_112 (dk_at dksX5_spell_5 8 rfl rfl)
theorem dX5_spell_125 : decode cX5_spell 125 = .ok (.iadd, 1) := dk_96 (dk_at dksX5_spell_5 9 rfl rfl)
theorem dX5_spell_126 : decode cX5_spell 126 = .ok (.invokevirtual 355, 3) := dk_182 1 99 (dk_at dksX5_spell_5 10 rfl rfl)
theorem dX5_spell_129 : decode cX5_spell 129 = .ok (.iinc 1 1, 3) := dk_132 1 1 (dk_at dksX5_spell_5 13 rfl rfl)
theorem dX5_spell_132 : decode cX5_spell 132 = .ok (.goto (-115), 3) := dk_167 255 141 (dk_at dksX5_spell_5 16 rfl rfl)
theorem dX5_spell_135 : decode cX5_spell 135 = .ok (.aload_n 0, 1) := dk_42 (dk_at dksX5_spell_5 19 rfl rfl)
theorem dX5_spell_136 : decode cX5_spell 136 = .ok (.getfield 352, 3) := dk_180 1 96 (dk_at dksX5_spell_5 20 rfl rfl)
theorem dX5_spell_139 : decode cX5_spell 139 = .ok (.ireturn, 1) := dk_172 (dk_at dksX5_spell_5 23 rfl rfl)
abbrev cX5_writes : ByteArray := prog_17_method_94_code
def yX5_writes : MethodName := ⟨RX5, "writes", "(I)V"⟩
def dkwX5_writes_0 : List UInt8 := [42, 180, 0, 34, 42, 89, 180, 1, 96, 90, 4, 96, 181, 1, 96, 27, 79, 177]
abbrev dktX5_writes_0 : List UInt8 := dkwX5_writes_0 ++ []
theorem dksX5_writes_0 : cX5_writes.data.toList.drop 0 = dktX5_writes_0 := by decide +kernel
theorem dX5_writes_0 : decode cX5_writes 0 = .ok (.aload_n 0, 1) := dk_42 (dk_at dksX5_writes_0 0 rfl rfl)
theorem dX5_writes_1 : decode cX5_writes 1 = .ok (.getfield 34, 3) := dk_180 0 34 (dk_at dksX5_writes_0 1 rfl rfl)
theorem dX5_writes_4 : decode cX5_writes 4 = .ok (.aload_n 0, 1) := dk_42 (dk_at dksX5_writes_0 4 rfl rfl)
theorem dX5_writes_5 : decode cX5_writes 5 = .ok (.dup, 1) := dk_89 (dk_at dksX5_writes_0 5 rfl rfl)
theorem dX5_writes_6 : decode cX5_writes 6 = .ok (.getfield 352, 3) := dk_180 1 96 (dk_at dksX5_writes_0 6 rfl rfl)
theorem dX5_writes_9 : decode cX5_writes 9 = .ok (.dup_x1, 1) := dk_90 (dk_at dksX5_writes_0 9 rfl rfl)
theorem dX5_writes_10 : decode cX5_writes 10 = .ok (.iconst 1, 1) := dk_4 (dk_at dksX5_writes_0 10 rfl rfl)
theorem dX5_writes_11 : decode cX5_writes 11 = .ok (.iadd, 1) := dk_96 (dk_at dksX5_writes_0 11 rfl rfl)
theorem dX5_writes_12 : decode cX5_writes 12 = .ok (.putfield 352, 3) := dk_181 1 96 (dk_at dksX5_writes_0 12 rfl rfl)
theorem dX5_writes_15 : decode cX5_writes 15 = .ok (.iload_n 1, 1) := dk_27 (dk_at dksX5_writes_0 15 rfl rfl)
theorem dX5_writes_16 : decode cX5_writes 16 = .ok (.iastore, 1) := dk_79 (dk_at dksX5_writes_0 16 rfl rfl)
theorem dX5_writes_17 : decode cX5_writes 17 = .ok (.return_, 1) := dk_177 (dk_at dksX5_writes_0 17 rfl rfl)
abbrev cX5_paper : ByteArray := prog_17_method_96_code
def yX5_paper : MethodName := ⟨RX5, "paper", "(I)I"⟩
def dkwX5_paper_1 : List UInt8 := [167, 0, 4, 2, 172]
abbrev dktX5_paper_1 : List UInt8 := dkwX5_paper_1 ++ []
def dkwX5_paper_0 : List UInt8 := [27, 133, 9, 42, 180, 1, 96, 4, 100, 133, 184, 0, 99, 153, 0, 12, 42, 180, 0, 34, 27, 46]
abbrev dktX5_paper_0 : List UInt8 := dkwX5_paper_0 ++ dktX5_paper_1
theorem dksX5_paper_0 : cX5_paper.data.toList.drop 0 = dktX5_paper_0 := by decide +kernel
theorem dksX5_paper_1 : cX5_paper.data.toList.drop 22 = dktX5_paper_1 := dk_seg dksX5_paper_0 22 rfl rfl
theorem dX5_paper_0 : decode cX5_paper 0 = .ok (.iload_n 1, 1) := dk_27 (dk_at dksX5_paper_0 0 rfl rfl)
theorem dX5_paper_1 : decode cX5_paper 1 = .ok (.i2l, 1) := dk_133 (dk_at dksX5_paper_0 1 rfl rfl)
theorem dX5_paper_2 : decode cX5_paper 2 = .ok (.lconst 0, 1) := dk_9 (dk_at dksX5_paper_0 2 rfl rfl)
theorem dX5_paper_3 : decode cX5_paper 3 = .ok (.aload_n 0, 1) := dk_42 (dk_at dksX5_paper_0 3 rfl rfl)
theorem dX5_paper_4 : decode cX5_paper 4 = .ok (.getfield 352, 3) := dk_180 1 96 (dk_at dksX5_paper_0 4 rfl rfl)
theorem dX5_paper_7 : decode cX5_paper 7 = .ok (.iconst 1, 1) := dk_4 (dk_at dksX5_paper_0 7 rfl rfl)
theorem dX5_paper_8 : decode cX5_paper 8 = .ok (.isub, 1) := dk_100 (dk_at dksX5_paper_0 8 rfl rfl)
theorem dX5_paper_9 : decode cX5_paper 9 = .ok (.i2l, 1) := dk_133 (dk_at dksX5_paper_0 9 rfl rfl)
theorem dX5_paper_10 : decode cX5_paper 10 = .ok (.invokestatic 99, 3) := dk_184 0 99 (dk_at dksX5_paper_0 10 rfl rfl)
theorem dX5_paper_13 : decode cX5_paper 13 = .ok (.ifCond .eq 12, 3) := dk_153 0 12 (dk_at dksX5_paper_0 13 rfl rfl)
theorem dX5_paper_16 : decode cX5_paper 16 = .ok (.aload_n 0, 1) := dk_42 (dk_at dksX5_paper_0 16 rfl rfl)
theorem dX5_paper_17 : decode cX5_paper 17 = .ok (.getfield 34, 3) := dk_180 0 34 (dk_at dksX5_paper_0 17 rfl rfl)
theorem dX5_paper_20 : decode cX5_paper 20 = .ok (.iload_n 1, 1) := dk_27 (dk_at dksX5_paper_0 20 rfl rfl)
theorem dX5_paper_21 : decode cX5_paper 21 = .ok (.iaload, 1) := dk_46 (dk_at dksX5_paper_0 21 rfl rfl)
theorem dX5_paper_22 : decode cX5_paper 22 = .ok (.goto 4, 3) := dk_167 0 4 (dk_at dksX5_paper_1 0 rfl rfl)
theorem dX5_paper_25 : decode cX5_paper 25 = .ok (.iconst (-1), 1) := dk_2 (dk_at dksX5_paper_1 3 rfl rfl)
theorem dX5_paper_26 : decode cX5_paper 26 = .ok (.ireturn, 1) := dk_172 (dk_at dksX5_paper_1 4 rfl rfl)
abbrev cX5_told : ByteArray := prog_17_method_98_code
def yX5_told : MethodName := ⟨RX5, "told", "(I)J"⟩
def dkwX5_told_4 : List UInt8 := [42, 180, 0, 173, 133, 173, 42, 180, 1, 96, 133, 173, 42, 182, 1, 102, 133, 173, 20, 0, 169, 173]
abbrev dktX5_told_4 : List UInt8 := dkwX5_told_4 ++ []
def dkwX5_told_3 : List UInt8 := [42, 182, 0, 95, 133, 173, 42, 182, 0, 107, 133, 173, 42, 182, 0, 241, 133, 173, 42, 180, 0, 110, 133, 173]
abbrev dktX5_told_3 : List UInt8 := dkwX5_told_3 ++ dktX5_told_4
def dkwX5_told_2 : List UInt8 := [170, 0, 0, 0, 0, 0, 85, 0, 0, 0, 0, 0, 0, 0, 6, 0, 0, 0, 43, 0, 0, 0, 49, 0, 0, 0, 55, 0, 0, 0, 61, 0, 0, 0, 67, 0, 0, 0, 73, 0, 0, 0, 79]
abbrev dktX5_told_2 : List UInt8 := dkwX5_told_2 ++ dktX5_told_3
def dkwX5_told_1 : List UInt8 := [153, 0, 18, 42, 180, 0, 9, 5, 27, 96, 16, 10, 100, 46, 133, 167, 0, 6, 20, 0, 169, 173, 27]
abbrev dktX5_told_1 : List UInt8 := dkwX5_told_1 ++ dktX5_told_2
def dkwX5_told_0 : List UInt8 := [27, 133, 20, 1, 92, 20, 1, 94, 184, 0, 99, 153, 0, 33, 42, 27, 16, 10, 100, 182, 0, 103]
abbrev dktX5_told_0 : List UInt8 := dkwX5_told_0 ++ dktX5_told_1
theorem dksX5_told_0 : cX5_told.data.toList.drop 0 = dktX5_told_0 := by decide +kernel
theorem dksX5_told_1 : cX5_told.data.toList.drop 22 = dktX5_told_1 := dk_seg dksX5_told_0 22 rfl rfl
theorem dksX5_told_2 : cX5_told.data.toList.drop 45 = dktX5_told_2 := dk_seg dksX5_told_1 23 rfl rfl
theorem dksX5_told_3 : cX5_told.data.toList.drop 88 = dktX5_told_3 := dk_seg dksX5_told_2 43 rfl rfl
theorem dksX5_told_4 : cX5_told.data.toList.drop 112 = dktX5_told_4 := dk_seg dksX5_told_3 24 rfl rfl
theorem dX5_told_0 : decode cX5_told 0 = .ok (.iload_n 1, 1) := dk_27 (dk_at dksX5_told_0 0 rfl rfl)
theorem dX5_told_1 : decode cX5_told 1 = .ok (.i2l, 1) := dk_133 (dk_at dksX5_told_0 1 rfl rfl)
theorem dX5_told_2 : decode cX5_told 2 = .ok (.ldc2_w 348, 3) := dk_20 1 92 (dk_at dksX5_told_0 2 rfl rfl)
theorem dX5_told_5 : decode cX5_told 5 = .ok (.ldc2_w 350, 3) := dk_20 1 94 (dk_at dksX5_told_0 5 rfl rfl)
theorem dX5_told_8 : decode cX5_told 8 = .ok (.invokestatic 99, 3) := dk_184 0 99 (dk_at dksX5_told_0 8 rfl rfl)
theorem dX5_told_11 : decode cX5_told 11 = .ok (.ifCond .eq 33, 3) := dk_153 0 33 (dk_at dksX5_told_0 11 rfl rfl)
theorem dX5_told_14 : decode cX5_told 14 = .ok (.aload_n 0, 1) := dk_42 (dk_at dksX5_told_0 14 rfl rfl)
theorem dX5_told_15 : decode cX5_told 15 = .ok (.iload_n 1, 1) := dk_27 (dk_at dksX5_told_0 15 rfl rfl)
theorem dX5_told_16 : decode cX5_told 16 = .ok (.bipush 10, 2) := dk_16 10 (dk_at dksX5_told_0 16 rfl rfl)
theorem dX5_told_18 : decode cX5_told 18 = .ok (.isub, 1) := dk_100 (dk_at dksX5_told_0 18 rfl rfl)
theorem dX5_told_19 : decode cX5_told 19 = .ok (.invokevirtual 103, 3) := dk_182 0 103 (dk_at dksX5_told_0 19 rfl rfl)
theorem dX5_told_22 : decode cX5_told 22 = .ok (.ifCond .eq 18, 3) := dk_153 0 18 (dk_at dksX5_told_1 0 rfl rfl)
theorem dX5_told_25 : decode cX5_told 25 = .ok (.aload_n 0, 1) := dk_42 (dk_at dksX5_told_1 3 rfl rfl)
theorem dX5_told_26 : decode cX5_told 26 = .ok (.getfield 9, 3) := dk_180 0 9 (dk_at dksX5_told_1 4 rfl rfl)
theorem dX5_told_29 : decode cX5_told 29 = .ok (.iconst 2, 1) := dk_5 (dk_at dksX5_told_1 7 rfl rfl)
theorem dX5_told_30 : decode cX5_told 30 = .ok (.iload_n 1, 1) := dk_27 (dk_at dksX5_told_1 8 rfl rfl)
theorem dX5_told_31 : decode cX5_told 31 = .ok (.iadd, 1) := dk_96 (dk_at dksX5_told_1 9 rfl rfl)
theorem dX5_told_32 : decode cX5_told 32 = .ok (.bipush 10, 2) := dk_16 10 (dk_at dksX5_told_1 10 rfl rfl)
theorem dX5_told_34 : decode cX5_told 34 = .ok (.isub, 1) := dk_100 (dk_at dksX5_told_1 12 rfl rfl)
theorem dX5_told_35 : decode cX5_told 35 = .ok (.iaload, 1) := dk_46 (dk_at dksX5_told_1 13 rfl rfl)
theorem dX5_told_36 : decode cX5_told 36 = .ok (.i2l, 1) := dk_133 (dk_at dksX5_told_1 14 rfl rfl)
theorem dX5_told_37 : decode cX5_told 37 = .ok (.goto 6, 3) := dk_167 0 6 (dk_at dksX5_told_1 15 rfl rfl)
theorem dX5_told_40 : decode cX5_told 40 = .ok (.ldc2_w 169, 3) := dk_20 0 169 (dk_at dksX5_told_1 18 rfl rfl)
theorem dX5_told_43 : decode cX5_told 43 = .ok (.lreturn, 1) := dk_173 (dk_at dksX5_told_1 21 rfl rfl)
theorem dX5_told_44 : decode cX5_told 44 = .ok (.iload_n 1, 1) := dk_27 (dk_at dksX5_told_1 22 rfl rfl)
theorem dX5_told_45 : decode cX5_told 45 = .ok (.tableswitch 85 0 6 #[43, 49, 55, 61, 67, 73, 79], 43) := by decide +kernel
theorem dX5_told_88 : decode cX5_told 88 = .ok (.aload_n 0, 1) := dk_42 (dk_at dksX5_told_3 0 rfl rfl)
theorem dX5_told_89 : decode cX5_told 89 = .ok (.invokevirtual 95, 3) := dk_182 0 95 (dk_at dksX5_told_3 1 rfl rfl)
theorem dX5_told_92 : decode cX5_told 92 = .ok (.i2l, 1) := dk_133 (dk_at dksX5_told_3 4 rfl rfl)
theorem dX5_told_93 : decode cX5_told 93 = .ok (.lreturn, 1) := dk_173 (dk_at dksX5_told_3 5 rfl rfl)
theorem dX5_told_94 : decode cX5_told 94 = .ok (.aload_n 0, 1) := dk_42 (dk_at dksX5_told_3 6 rfl rfl)
theorem dX5_told_95 : decode cX5_told 95 = .ok (.invokevirtual 107, 3) := dk_182 0 107 (dk_at dksX5_told_3 7 rfl rfl)
theorem dX5_told_98 : decode cX5_told 98 = .ok (.i2l, 1) := dk_133 (dk_at dksX5_told_3 10 rfl rfl)
theorem dX5_told_99 : decode cX5_told 99 = .ok (.lreturn, 1) := dk_173 (dk_at dksX5_told_3 11 rfl rfl)
theorem dX5_told_100 : decode cX5_told 100 = .ok (.aload_n 0, 1) := dk_42 (dk_at dksX5_told_3 12 rfl rfl)
theorem dX5_told_101 : decode cX5_told 101 = .ok (.invokevirtual 241, 3) := dk_182 0 241 (dk_at dksX5_told_3 13 rfl rfl)
theorem dX5_told_104 : decode cX5_told 104 = .ok (.i2l, 1) := dk_133 (dk_at dksX5_told_3 16 rfl rfl)
theorem dX5_told_105 : decode cX5_told 105 = .ok (.lreturn, 1) := dk_173 (dk_at dksX5_told_3 17 rfl rfl)
theorem dX5_told_106 : decode cX5_told 106 = .ok (.aload_n 0, 1) := dk_42 (dk_at dksX5_told_3 18 rfl rfl)
theorem dX5_told_107 : decode cX5_told 107 = .ok (.getfield 110, 3) := dk_180 0 110 (dk_at dksX5_told_3 19 rfl rfl)
theorem dX5_told_110 : decode cX5_told 110 = .ok (.i2l, 1) := dk_133 (dk_at dksX5_told_3 22 rfl rfl)
theorem dX5_told_111 : decode cX5_told 111 = .ok (.lreturn, 1) := dk_173 (dk_at dksX5_told_3 23 rfl rfl)
theorem dX5_told_112 : decode cX5_told 112 = .ok (.aload_n 0, 1) := dk_42 (dk_at dksX5_told_4 0 rfl rfl)
theorem dX5_told_113 : decode cX5_told 113 = .ok (.getfield 173, 3) := dk_180 0 173 (dk_at dksX5_told_4 1 rfl rfl)
theorem dX5_told_116 : decode cX5_told 116 = .ok (.i2l, 1) := dk_133 (dk_at dksX5_told_4 4 rfl rfl)
theorem dX5_told_117 : decode cX5_told 117 = .ok (.lreturn, 1) := dk_173 (dk_at dksX5_told_4 5 rfl rfl)
theorem dX5_told_118 : decode cX5_told 118 = .ok (.aload_n 0, 1) := dk_42 (dk_at dksX5_told_4 6 rfl rfl)
theorem dX5_told_119 : decode cX5_told 119 = .ok (.getfield 352, 3) := dk_180 1 96 (dk_at dksX5_told_4 7 rfl rfl)
theorem dX5_told_122 : decode cX5_told 122 = .ok (.i2l, 1) := dk_133 (dk_at dksX5_told_4 10 rfl rfl)
theorem dX5_told_123 : decode cX5_told 123 = .ok (.lreturn, 1) := dk_173 (dk_at dksX5_told_4 11 rfl rfl)
theorem dX5_told_124 : decode cX5_told 124 = .ok (.aload_n 0, 1) := dk_42 (dk_at dksX5_told_4 12 rfl rfl)
theorem dX5_told_125 : decode cX5_told 125 = .ok (.invokevirtual 358, 3) := dk_182 1 102 (dk_at dksX5_told_4 13 rfl rfl)
theorem dX5_told_128 : decode cX5_told 128 = .ok (.i2l, 1) := dk_133 (dk_at dksX5_told_4 16 rfl rfl)
theorem dX5_told_129 : decode cX5_told 129 = .ok (.lreturn, 1) := dk_173 (dk_at dksX5_told_4 17 rfl rfl)
theorem dX5_told_130 : decode cX5_told 130 = .ok (.ldc2_w 169, 3) := dk_20 0 169 (dk_at dksX5_told_4 18 rfl rfl)
theorem dX5_told_133 : decode cX5_told 133 = .ok (.lreturn, 1) := dk_173 (dk_at dksX5_told_4 21 rfl rfl)
abbrev cX5_fixed : ByteArray := prog_17_method_97_code
def yX5_fixed : MethodName := ⟨RX5, "fixed", "()I"⟩
def dkwX5_fixed_1 : List UInt8 := [160, 0, 6, 132, 1, 1, 132, 2, 1, 167, 255, 229, 27, 172]
abbrev dktX5_fixed_1 : List UInt8 := dkwX5_fixed_1 ++ []
def dkwX5_fixed_0 : List UInt8 := [3, 60, 3, 61, 28, 42, 182, 0, 107, 162, 0, 25, 42, 28, 182, 0, 159, 42, 28, 182, 0, 162]
abbrev dktX5_fixed_0 : List UInt8 := dkwX5_fixed_0 ++ dktX5_fixed_1
theorem dksX5_fixed_0 : cX5_fixed.data.toList.drop 0 = dktX5_fixed_0 := by decide +kernel
theorem dksX5_fixed_1 : cX5_fixed.data.toList.drop 22 = dktX5_fixed_1 := dk_seg dksX5_fixed_0 22 rfl rfl
theorem dX5_fixed_0 : decode cX5_fixed 0 = .ok (.iconst 0, 1) := dk_3 (dk_at dksX5_fixed_0 0 rfl rfl)
theorem dX5_fixed_1 : decode cX5_fixed 1 = .ok (.istore_n 1, 1) := dk_60 (dk_at dksX5_fixed_0 1 rfl rfl)
theorem dX5_fixed_2 : decode cX5_fixed 2 = .ok (.iconst 0, 1) := dk_3 (dk_at dksX5_fixed_0 2 rfl rfl)
theorem dX5_fixed_3 : decode cX5_fixed 3 = .ok (.istore_n 2, 1) := dk_61 (dk_at dksX5_fixed_0 3 rfl rfl)
theorem dX5_fixed_4 : decode cX5_fixed 4 = .ok (.iload_n 2, 1) := dk_28 (dk_at dksX5_fixed_0 4 rfl rfl)
theorem dX5_fixed_5 : decode cX5_fixed 5 = .ok (.aload_n 0, 1) := dk_42 (dk_at dksX5_fixed_0 5 rfl rfl)
theorem dX5_fixed_6 : decode cX5_fixed 6 = .ok (.invokevirtual 107, 3) := dk_182 0 107 (dk_at dksX5_fixed_0 6 rfl rfl)
theorem dX5_fixed_9 : decode cX5_fixed 9 = .ok (.if_icmp .ge 25, 3) := dk_162 0 25 (dk_at dksX5_fixed_0 9 rfl rfl)
theorem dX5_fixed_12 : decode cX5_fixed 12 = .ok (.aload_n 0, 1) := dk_42 (dk_at dksX5_fixed_0 12 rfl rfl)
theorem dX5_fixed_13 : decode cX5_fixed 13 = .ok (.iload_n 2, 1) := dk_28 (dk_at dksX5_fixed_0 13 rfl rfl)
theorem dX5_fixed_14 : decode cX5_fixed 14 = .ok (.invokevirtual 159, 3) := dk_182 0 159 (dk_at dksX5_fixed_0 14 rfl rfl)
theorem dX5_fixed_17 : decode cX5_fixed 17 = .ok (.aload_n 0, 1) := dk_42 (dk_at dksX5_fixed_0 17 rfl rfl)
theorem dX5_fixed_18 : decode cX5_fixed 18 = .ok (.iload_n 2, 1) := dk_28 (dk_at dksX5_fixed_0 18 rfl rfl)
theorem dX5_fixed_19 : decode cX5_fixed 19 = .ok (.invokevirtual 162, 3) := dk_182 0 162 (dk_at dksX5_fixed_0 19 rfl rfl)
theorem dX5_fixed_22 : decode cX5_fixed 22 = .ok (.if_icmp .ne 6, 3) := dk_160 0 6 (dk_at dksX5_fixed_1 0 rfl rfl)
theorem dX5_fixed_25 : decode cX5_fixed 25 = .ok (.iinc 1 1, 3) := dk_132 1 1 (dk_at dksX5_fixed_1 3 rfl rfl)
theorem dX5_fixed_28 : decode cX5_fixed 28 = .ok (.iinc 2 1, 3) := dk_132 2 1 (dk_at dksX5_fixed_1 6 rfl rfl)
theorem dX5_fixed_31 : decode cX5_fixed 31 = .ok (.goto (-27), 3) := dk_167 255 229 (dk_at dksX5_fixed_1 9 rfl rfl)
theorem dX5_fixed_34 : decode cX5_fixed 34 = .ok (.iload_n 1, 1) := dk_27 (dk_at dksX5_fixed_1 12 rfl rfl)
theorem dX5_fixed_35 : decode cX5_fixed 35 = .ok (.ireturn, 1) := dk_172 (dk_at dksX5_fixed_1 13 rfl rfl)
abbrev cX5_lay : ByteArray := prog_17_method_99_code
def yX5_lay : MethodName := ⟨RX5, "lay", "(II)I"⟩
def dkwX5_lay_3 : List UInt8 := [29, 96, 42, 180, 0, 43, 29, 46, 133, 80, 132, 3, 1, 167, 255, 206, 42, 182, 0, 107, 172]
abbrev dktX5_lay_3 : List UInt8 := dkwX5_lay_3 ++ []
def dkwX5_lay_2 : List UInt8 := [42, 180, 0, 37, 27, 46, 28, 100, 161, 0, 6, 16, 243, 172, 42, 180, 0, 40, 16, 30, 27, 104, 28, 96]
abbrev dktX5_lay_2 : List UInt8 := dkwX5_lay_2 ++ dktX5_lay_3
def dkwX5_lay_1 : List UInt8 := [182, 1, 16, 154, 0, 6, 16, 253, 172, 3, 62, 29, 42, 182, 0, 107, 162, 0, 48, 28, 155, 0, 15, 29]
abbrev dktX5_lay_1 : List UInt8 := dkwX5_lay_1 ++ dktX5_lay_2
def dkwX5_lay_0 : List UInt8 := [27, 184, 1, 53, 154, 0, 5, 2, 172, 42, 180, 0, 37, 27, 46, 156, 0, 6, 16, 245, 172, 42]
abbrev dktX5_lay_0 : List UInt8 := dkwX5_lay_0 ++ dktX5_lay_1
theorem dksX5_lay_0 : cX5_lay.data.toList.drop 0 = dktX5_lay_0 := by decide +kernel
theorem dksX5_lay_1 : cX5_lay.data.toList.drop 22 = dktX5_lay_1 := dk_seg dksX5_lay_0 22 rfl rfl
theorem dksX5_lay_2 : cX5_lay.data.toList.drop 46 = dktX5_lay_2 := dk_seg dksX5_lay_1 24 rfl rfl
theorem dksX5_lay_3 : cX5_lay.data.toList.drop 70 = dktX5_lay_3 := dk_seg dksX5_lay_2 24 rfl rfl
theorem dX5_lay_0 : decode cX5_lay 0 = .ok (.iload_n 1, 1) := dk_27 (dk_at dksX5_lay_0 0 rfl rfl)
theorem dX5_lay_1 : decode cX5_lay 1 = .ok (.invokestatic 309, 3) := dk_184 1 53 (dk_at dksX5_lay_0 1 rfl rfl)
theorem dX5_lay_4 : decode cX5_lay 4 = .ok (.ifCond .ne 5, 3) := dk_154 0 5 (dk_at dksX5_lay_0 4 rfl rfl)
theorem dX5_lay_7 : decode cX5_lay 7 = .ok (.iconst (-1), 1) := dk_2 (dk_at dksX5_lay_0 7 rfl rfl)
theorem dX5_lay_8 : decode cX5_lay 8 = .ok (.ireturn, 1) := dk_172 (dk_at dksX5_lay_0 8 rfl rfl)
theorem dX5_lay_9 : decode cX5_lay 9 = .ok (.aload_n 0, 1) := dk_42 (dk_at dksX5_lay_0 9 rfl rfl)
theorem dX5_lay_10 : decode cX5_lay 10 = .ok (.getfield 37, 3) := dk_180 0 37 (dk_at dksX5_lay_0 10 rfl rfl)
theorem dX5_lay_13 : decode cX5_lay 13 = .ok (.iload_n 1, 1) := dk_27 (dk_at dksX5_lay_0 13 rfl rfl)
theorem dX5_lay_14 : decode cX5_lay 14 = .ok (.iaload, 1) := dk_46 (dk_at dksX5_lay_0 14 rfl rfl)
theorem dX5_lay_15 : decode cX5_lay 15 = .ok (.ifCond .ge 6, 3) := dk_156 0 6 (dk_at dksX5_lay_0 15 rfl rfl)
theorem dX5_lay_18 : decode cX5_lay 18 = .ok (.bipush (-11), 2) := dk_16 245 (dk_at dksX5_lay_0 18 rfl rfl)
theorem dX5_lay_20 : decode cX5_lay 20 = .ok (.ireturn, 1) := dk_172 (dk_at dksX5_lay_0 20 rfl rfl)
theorem dX5_lay_21 : decode cX5_lay 21 = .ok (.aload_n 0, 1) := dk_42 (dk_at dksX5_lay_0 21 rfl rfl)
theorem dX5_lay_22 : decode cX5_lay 22 = .ok (.invokevirtual 272, 3) := dk_182 1 16 (dk_at dksX5_lay_1 0 rfl rfl)
theorem dX5_lay_25 : decode cX5_lay 25 = .ok (.ifCond .ne 6, 3) := dk_154 0 6 (dk_at dksX5_lay_1 3 rfl rfl)
theorem dX5_lay_28 : decode cX5_lay 28 = .ok (.bipush (-3), 2) := dk_16 253 (dk_at dksX5_lay_1 6 rfl rfl)
theorem dX5_lay_30 : decode cX5_lay 30 = .ok (.ireturn, 1) := dk_172 (dk_at dksX5_lay_1 8 rfl rfl)
theorem dX5_lay_31 : decode cX5_lay 31 = .ok (.iconst 0, 1) := dk_3 (dk_at dksX5_lay_1 9 rfl rfl)
theorem dX5_lay_32 : decode cX5_lay 32 = .ok (.istore_n 3, 1) := dk_62 (dk_at dksX5_lay_1 10 rfl rfl)
theorem dX5_lay_33 : decode cX5_lay 33 = .ok (.iload_n 3, 1) := dk_29 (dk_at dksX5_lay_1 11 rfl rfl)
theorem dX5_lay_34 : decode cX5_lay 34 = .ok (.aload_n 0, 1) := dk_42 (dk_at dksX5_lay_1 12 rfl rfl)
theorem dX5_lay_35 : decode cX5_lay 35 = .ok (.invokevirtual 107, 3) := dk_182 0 107 (dk_at dksX5_lay_1 13 rfl rfl)
theorem dX5_lay_38 : decode cX5_lay 38 = .ok (.if_icmp .ge 48, 3) := dk_162 0 48 (dk_at dksX5_lay_1 16 rfl rfl)
theorem dX5_lay_41 : decode cX5_lay 41 = .ok (.iload_n 2, 1) := dk_28 (dk_at dksX5_lay_1 19 rfl rfl)
theorem dX5_lay_42 : decode cX5_lay 42 = .ok (.ifCond .lt 15, 3) := dk_155 0 15 (dk_at dksX5_lay_1 20 rfl rfl)
theorem dX5_lay_45 : decode cX5_lay 45 = .ok (.iload_n 3, 1) := dk_29 (dk_at dksX5_lay_1 23 rfl rfl)
theorem dX5_lay_46 : decode cX5_lay 46 = .ok (.aload_n 0, 1) := dk_42 (dk_at dksX5_lay_2 0 rfl rfl)
theorem dX5_lay_47 : decode cX5_lay 47 = .ok (.getfield 37, 3) := dk_180 0 37 (dk_at dksX5_lay_2 1 rfl rfl)
theorem dX5_lay_50 : decode cX5_lay 50 = .ok (.iload_n 1, 1) := dk_27 (dk_at dksX5_lay_2 4 rfl rfl)
theorem dX5_lay_51 : decode cX5_lay 51 = .ok (.iaload, 1) := dk_46 (dk_at dksX5_lay_2 5 rfl rfl)
theorem dX5_lay_52 : decode cX5_lay 52 = .ok (.iload_n 2, 1) := dk_28 (dk_at dksX5_lay_2 6 rfl rfl)
theorem dX5_lay_53 : decode cX5_lay 53 = .ok (.isub, 1) := dk_100 (dk_at dksX5_lay_2 7 rfl rfl)
theorem dX5_lay_54 : decode cX5_lay 54 = .ok (.if_icmp .lt 6, 3) := dk_161 0 6 (dk_at dksX5_lay_2 8 rfl rfl)
theorem dX5_lay_57 : decode cX5_lay 57 = .ok (.bipush (-13), 2) := dk_16 243 (dk_at dksX5_lay_2 11 rfl rfl)
theorem dX5_lay_59 : decode cX5_lay 59 = .ok (.ireturn, 1) := dk_172 (dk_at dksX5_lay_2 13 rfl rfl)
theorem dX5_lay_60 : decode cX5_lay 60 = .ok (.aload_n 0, 1) := dk_42 (dk_at dksX5_lay_2 14 rfl rfl)
theorem dX5_lay_61 : decode cX5_lay 61 = .ok (.getfield 40, 3) := dk_180 0 40 (dk_at dksX5_lay_2 15 rfl rfl)
theorem dX5_lay_64 : decode cX5_lay 64 = .ok (.bipush 30, 2) := dk_16 30 (dk_at dksX5_lay_2 18 rfl rfl)
theorem dX5_lay_66 : decode cX5_lay 66 = .ok (.iload_n 1, 1) := dk_27 (dk_at dksX5_lay_2 20 rfl rfl)
theorem dX5_lay_67 : decode cX5_lay 67 = .ok (.imul, 1) := dk_104 (dk_at dksX5_lay_2 21 rfl rfl)
theorem dX5_lay_68 : decode cX5_lay 68 = .ok (.iload_n 2, 1) := dk_28 (dk_at dksX5_lay_2 22 rfl rfl)
theorem dX5_lay_69 : decode cX5_lay 69 = .ok (.iadd, 1) := dk_96 (dk_at dksX5_lay_2 23 rfl rfl)
theorem dX5_lay_70 : decode cX5_lay 70 = .ok (.iload_n 3, 1) := dk_29 (dk_at dksX5_lay_3 0 rfl rfl)
theorem dX5_lay_71 : decode cX5_lay 71 = .ok (.iadd, 1) := dk_96 (dk_at dksX5_lay_3 1 rfl rfl)
theorem dX5_lay_72 : decode cX5_lay 72 = .ok (.aload_n 0, 1) := dk_42 (dk_at dksX5_lay_3 2 rfl rfl)
theorem dX5_lay_73 : decode cX5_lay 73 = .ok (.getfield 43, 3) := dk_180 0 43 (dk_at dksX5_lay_3 3 rfl rfl)
theorem dX5_lay_76 : decode cX5_lay 76 = .ok (.iload_n 3, 1) := dk_29 (dk_at dksX5_lay_3 6 rfl rfl)
theorem dX5_lay_77 : decode cX5_lay 77 = .ok (.iaload, 1) := dk_46 (dk_at dksX5_lay_3 7 rfl rfl)
theorem dX5_lay_78 : decode cX5_lay 78 = .ok (.i2l, 1) := dk_133 (dk_at dksX5_lay_3 8 rfl rfl)
theorem dX5_lay_79 : decode cX5_lay 79 = .ok (.lastore, 1) := dk_80 (dk_at dksX5_lay_3 9 rfl rfl)
theorem dX5_lay_80 : decode cX5_lay 80 = .ok (.iinc 3 1, 3) := dk_132 3 1 (dk_at dksX5_lay_3 10 rfl rfl)
theorem dX5_lay_83 : decode cX5_lay 83 = .ok (.goto (-50), 3) := dk_167 255 206 (dk_at dksX5_lay_3 13 rfl rfl)
theorem dX5_lay_86 : decode cX5_lay 86 = .ok (.aload_n 0, 1) := dk_42 (dk_at dksX5_lay_3 16 rfl rfl)
theorem dX5_lay_87 : decode cX5_lay 87 = .ok (.invokevirtual 107, 3) := dk_182 0 107 (dk_at dksX5_lay_3 17 rfl rfl)
theorem dX5_lay_90 : decode cX5_lay 90 = .ok (.ireturn, 1) := dk_172 (dk_at dksX5_lay_3 20 rfl rfl)
abbrev cX5_list : ByteArray := prog_17_method_100_code
def yX5_list : MethodName := ⟨RX5, "list", "(II)I"⟩
def dkwX5_list_2 : List UInt8 := [29, 96, 9, 80, 132, 3, 1, 167, 255, 235, 4, 172]
abbrev dktX5_list_2 : List UInt8 := dkwX5_list_2 ++ []
def dkwX5_list_1 : List UInt8 := [172, 42, 180, 0, 37, 27, 28, 79, 3, 62, 29, 16, 30, 162, 0, 21, 42, 180, 0, 40, 16, 30, 27, 104]
abbrev dktX5_list_1 : List UInt8 := dkwX5_list_1 ++ dktX5_list_2
def dkwX5_list_0 : List UInt8 := [27, 184, 1, 53, 154, 0, 5, 2, 172, 28, 16, 30, 164, 0, 6, 16, 254, 172, 28, 156, 0, 6, 16, 242]
abbrev dktX5_list_0 : List UInt8 := dkwX5_list_0 ++ dktX5_list_1
theorem dksX5_list_0 : cX5_list.data.toList.drop 0 = dktX5_list_0 := by decide +kernel
theorem dksX5_list_1 : cX5_list.data.toList.drop 24 = dktX5_list_1 := dk_seg dksX5_list_0 24 rfl rfl
theorem dksX5_list_2 : cX5_list.data.toList.drop 48 = dktX5_list_2 := dk_seg dksX5_list_1 24 rfl rfl
theorem dX5_list_0 : decode cX5_list 0 = .ok (.iload_n 1, 1) := dk_27 (dk_at dksX5_list_0 0 rfl rfl)
theorem dX5_list_1 : decode cX5_list 1 = .ok (.invokestatic 309, 3) := dk_184 1 53 (dk_at dksX5_list_0 1 rfl rfl)
theorem dX5_list_4 : decode cX5_list 4 = .ok (.ifCond .ne 5, 3) := dk_154 0 5 (dk_at dksX5_list_0 4 rfl rfl)
theorem dX5_list_7 : decode cX5_list 7 = .ok (.iconst (-1), 1) := dk_2 (dk_at dksX5_list_0 7 rfl rfl)
theorem dX5_list_8 : decode cX5_list 8 = .ok (.ireturn, 1) := dk_172 (dk_at dksX5_list_0 8 rfl rfl)
theorem dX5_list_9 : decode cX5_list 9 = .ok (.iload_n 2, 1) := dk_28 (dk_at dksX5_list_0 9 rfl rfl)
theorem dX5_list_10 : decode cX5_list 10 = .ok (.bipush 30, 2) := dk_16 30 (dk_at dksX5_list_0 10 rfl rfl)
theorem dX5_list_12 : decode cX5_list 12 = .ok (.if_icmp .le 6, 3) := dk_164 0 6 (dk_at dksX5_list_0 12 rfl rfl)
theorem dX5_list_15 : decode cX5_list 15 = .ok (.bipush (-2), 2) := dk_16 254 (dk_at dksX5_list_0 15 rfl rfl)
theorem dX5_list_17 : decode cX5_list 17 = .ok (.ireturn, 1) := dk_172 (dk_at dksX5_list_0 17 rfl rfl)
theorem dX5_list_18 : decode cX5_list 18 = .ok (.iload_n 2, 1) := dk_28 (dk_at dksX5_list_0 18 rfl rfl)
theorem dX5_list_19 : decode cX5_list 19 = .ok (.ifCond .ge 6, 3) := dk_156 0 6 (dk_at dksX5_list_0 19 rfl rfl)
theorem dX5_list_22 : decode cX5_list 22 = .ok (.bipush (-14), 2) := dk_16 242 (dk_at dksX5_list_0 22 rfl rfl)
theorem dX5_list_24 : decode cX5_list 24 = .ok (.ireturn, 1) := dk_172 (dk_at dksX5_list_1 0 rfl rfl)
theorem dX5_list_25 : decode cX5_list 25 = .ok (.aload_n 0, 1) := dk_42 (dk_at dksX5_list_1 1 rfl rfl)
theorem dX5_list_26 : decode cX5_list 26 = .ok (.getfield 37, 3) := dk_180 0 37 (dk_at dksX5_list_1 2 rfl rfl)
theorem dX5_list_29 : decode cX5_list 29 = .ok (.iload_n 1, 1) := dk_27 (dk_at dksX5_list_1 5 rfl rfl)
theorem dX5_list_30 : decode cX5_list 30 = .ok (.iload_n 2, 1) := dk_28 (dk_at dksX5_list_1 6 rfl rfl)
theorem dX5_list_31 : decode cX5_list 31 = .ok (.iastore, 1) := dk_79 (dk_at dksX5_list_1 7 rfl rfl)
theorem dX5_list_32 : decode cX5_list 32 = .ok (.iconst 0, 1) := dk_3 (dk_at dksX5_list_1 8 rfl rfl)
theorem dX5_list_33 : decode cX5_list 33 = .ok (.istore_n 3, 1) := dk_62 (dk_at dksX5_list_1 9 rfl rfl)
theorem dX5_list_34 : decode cX5_list 34 = .ok (.iload_n 3, 1) := dk_29 (dk_at dksX5_list_1 10 rfl rfl)
theorem dX5_list_35 : decode cX5_list 35 = .ok (.bipush 30, 2) := dk_16 30 (dk_at dksX5_list_1 11 rfl rfl)
theorem dX5_list_37 : decode cX5_list 37 = .ok (.if_icmp .ge 21, 3) := dk_162 0 21 (dk_at dksX5_list_1 13 rfl rfl)
theorem dX5_list_40 : decode cX5_list 40 = .ok (.aload_n 0, 1) := dk_42 (dk_at dksX5_list_1 16 rfl rfl)
theorem dX5_list_41 : decode cX5_list 41 = .ok (.getfield 40, 3) := dk_180 0 40 (dk_at dksX5_list_1 17 rfl rfl)
theorem dX5_list_44 : decode cX5_list 44 = .ok (.bipush 30, 2) := dk_16 30 (dk_at dksX5_list_1 20 rfl rfl)
theorem dX5_list_46 : decode cX5_list 46 = .ok (.iload_n 1, 1) := dk_27 (dk_at dksX5_list_1 22 rfl rfl)
theorem dX5_list_47 : decode cX5_list 47 = .ok (.imul, 1) := dk_104 (dk_at dksX5_list_1 23 rfl rfl)
theorem dX5_list_48 : decode cX5_list 48 = .ok (.iload_n 3, 1) := dk_29 (dk_at dksX5_list_2 0 rfl rfl)
theorem dX5_list_49 : decode cX5_list 49 = .ok (.iadd, 1) := dk_96 (dk_at dksX5_list_2 1 rfl rfl)
theorem dX5_list_50 : decode cX5_list 50 = .ok (.lconst 0, 1) := dk_9 (dk_at dksX5_list_2 2 rfl rfl)
theorem dX5_list_51 : decode cX5_list 51 = .ok (.lastore, 1) := dk_80 (dk_at dksX5_list_2 3 rfl rfl)
theorem dX5_list_52 : decode cX5_list 52 = .ok (.iinc 3 1, 3) := dk_132 3 1 (dk_at dksX5_list_2 4 rfl rfl)
theorem dX5_list_55 : decode cX5_list 55 = .ok (.goto (-21), 3) := dk_167 255 235 (dk_at dksX5_list_2 7 rfl rfl)
theorem dX5_list_58 : decode cX5_list 58 = .ok (.iconst 1, 1) := dk_4 (dk_at dksX5_list_2 10 rfl rfl)
theorem dX5_list_59 : decode cX5_list 59 = .ok (.ireturn, 1) := dk_172 (dk_at dksX5_list_2 11 rfl rfl)
abbrev cX5_set : ByteArray := prog_17_method_101_code
def yX5_set : MethodName := ⟨RX5, "set", "(IIJ)I"⟩
def dkwX5_set_2 : List UInt8 := [27, 104, 28, 96, 33, 80, 4, 172]
abbrev dktX5_set_2 : List UInt8 := dkwX5_set_2 ++ []
def dkwX5_set_1 : List UInt8 := [42, 180, 0, 37, 27, 46, 4, 100, 133, 184, 0, 99, 154, 0, 6, 16, 243, 172, 42, 180, 0, 40, 16, 30]
abbrev dktX5_set_1 : List UInt8 := dkwX5_set_1 ++ dktX5_set_2
def dkwX5_set_0 : List UInt8 := [27, 184, 1, 53, 154, 0, 5, 2, 172, 42, 180, 0, 37, 27, 46, 156, 0, 6, 16, 245, 172, 28, 133, 9]
abbrev dktX5_set_0 : List UInt8 := dkwX5_set_0 ++ dktX5_set_1
theorem dksX5_set_0 : cX5_set.data.toList.drop 0 = dktX5_set_0 := by decide +kernel
theorem dksX5_set_1 : cX5_set.data.toList.drop 24 = dktX5_set_1 := dk_seg dksX5_set_0 24 rfl rfl
theorem dksX5_set_2 : cX5_set.data.toList.drop 48 = dktX5_set_2 := dk_seg dksX5_set_1 24 rfl rfl
theorem dX5_set_0 : decode cX5_set 0 = .ok (.iload_n 1, 1) := dk_27 (dk_at dksX5_set_0 0 rfl rfl)
theorem dX5_set_1 : decode cX5_set 1 = .ok (.invokestatic 309, 3) := dk_184 1 53 (dk_at dksX5_set_0 1 rfl rfl)
theorem dX5_set_4 : decode cX5_set 4 = .ok (.ifCond .ne 5, 3) := dk_154 0 5 (dk_at dksX5_set_0 4 rfl rfl)
theorem dX5_set_7 : decode cX5_set 7 = .ok (.iconst (-1), 1) := dk_2 (dk_at dksX5_set_0 7 rfl rfl)
theorem dX5_set_8 : decode cX5_set 8 = .ok (.ireturn, 1) := dk_172 (dk_at dksX5_set_0 8 rfl rfl)
theorem dX5_set_9 : decode cX5_set 9 = .ok (.aload_n 0, 1) := dk_42 (dk_at dksX5_set_0 9 rfl rfl)
theorem dX5_set_10 : decode cX5_set 10 = .ok (.getfield 37, 3) := dk_180 0 37 (dk_at dksX5_set_0 10 rfl rfl)
theorem dX5_set_13 : decode cX5_set 13 = .ok (.iload_n 1, 1) := dk_27 (dk_at dksX5_set_0 13 rfl rfl)
theorem dX5_set_14 : decode cX5_set 14 = .ok (.iaload, 1) := dk_46 (dk_at dksX5_set_0 14 rfl rfl)
theorem dX5_set_15 : decode cX5_set 15 = .ok (.ifCond .ge 6, 3) := dk_156 0 6 (dk_at dksX5_set_0 15 rfl rfl)
theorem dX5_set_18 : decode cX5_set 18 = .ok (.bipush (-11), 2) := dk_16 245 (dk_at dksX5_set_0 18 rfl rfl)
theorem dX5_set_20 : decode cX5_set 20 = .ok (.ireturn, 1) := dk_172 (dk_at dksX5_set_0 20 rfl rfl)
theorem dX5_set_21 : decode cX5_set 21 = .ok (.iload_n 2, 1) := dk_28 (dk_at dksX5_set_0 21 rfl rfl)
theorem dX5_set_22 : decode cX5_set 22 = .ok (.i2l, 1) := dk_133 (dk_at dksX5_set_0 22 rfl rfl)
theorem dX5_set_23 : decode cX5_set 23 = .ok (.lconst 0, 1) := dk_9 (dk_at dksX5_set_0 23 rfl rfl)
theorem dX5_set_24 : decode cX5_set 24 = .ok (.aload_n 0, 1) := dk_42 (dk_at dksX5_set_1 0 rfl rfl)
theorem dX5_set_25 : decode cX5_set 25 = .ok (.getfield 37, 3) := dk_180 0 37 (dk_at dksX5_set_1 1 rfl rfl)
theorem dX5_set_28 : decode cX5_set 28 = .ok (.iload_n 1, 1) := dk_27 (dk_at dksX5_set_1 4 rfl rfl)
theorem dX5_set_29 : decode cX5_set 29 = .ok (.iaload, 1) := dk_46 (dk_at dksX5_set_1 5 rfl rfl)
theorem dX5_set_30 : decode cX5_set 30 = .ok (.iconst 1, 1) := dk_4 (dk_at dksX5_set_1 6 rfl rfl)
theorem dX5_set_31 : decode cX5_set 31 = .ok (.isub, 1) := dk_100 (dk_at dksX5_set_1 7 rfl rfl)
theorem dX5_set_32 : decode cX5_set 32 = .ok (.i2l, 1) := dk_133 (dk_at dksX5_set_1 8 rfl rfl)
theorem dX5_set_33 : decode cX5_set 33 = .ok (.invokestatic 99, 3) := dk_184 0 99 (dk_at dksX5_set_1 9 rfl rfl)
theorem dX5_set_36 : decode cX5_set 36 = .ok (.ifCond .ne 6, 3) := dk_154 0 6 (dk_at dksX5_set_1 12 rfl rfl)
theorem dX5_set_39 : decode cX5_set 39 = .ok (.bipush (-13), 2) := dk_16 243 (dk_at dksX5_set_1 15 rfl rfl)
theorem dX5_set_41 : decode cX5_set 41 = .ok (.ireturn, 1) := dk_172 (dk_at dksX5_set_1 17 rfl rfl)
theorem dX5_set_42 : decode cX5_set 42 = .ok (.aload_n 0, 1) := dk_42 (dk_at dksX5_set_1 18 rfl rfl)
theorem dX5_set_43 : decode cX5_set 43 = .ok (.getfield 40, 3) := dk_180 0 40 (dk_at dksX5_set_1 19 rfl rfl)
theorem dX5_set_46 : decode cX5_set 46 = .ok (.bipush 30, 2) := dk_16 30 (dk_at dksX5_set_1 22 rfl rfl)
theorem dX5_set_48 : decode cX5_set 48 = .ok (.iload_n 1, 1) := dk_27 (dk_at dksX5_set_2 0 rfl rfl)
theorem dX5_set_49 : decode cX5_set 49 = .ok (.imul, 1) := dk_104 (dk_at dksX5_set_2 1 rfl rfl)
theorem dX5_set_50 : decode cX5_set 50 = .ok (.iload_n 2, 1) := dk_28 (dk_at dksX5_set_2 2 rfl rfl)
theorem dX5_set_51 : decode cX5_set 51 = .ok (.iadd, 1) := dk_96 (dk_at dksX5_set_2 3 rfl rfl)
theorem dX5_set_52 : decode cX5_set 52 = .ok (.lload_n 3, 1) := dk_33 (dk_at dksX5_set_2 4 rfl rfl)
theorem dX5_set_53 : decode cX5_set 53 = .ok (.lastore, 1) := dk_80 (dk_at dksX5_set_2 5 rfl rfl)
theorem dX5_set_54 : decode cX5_set 54 = .ok (.iconst 1, 1) := dk_4 (dk_at dksX5_set_2 6 rfl rfl)
theorem dX5_set_55 : decode cX5_set 55 = .ok (.ireturn, 1) := dk_172 (dk_at dksX5_set_2 7 rfl rfl)
abbrev cX5_get : ByteArray := prog_17_method_102_code
def yX5_get : MethodName := ⟨RX5, "get", "(II)J"⟩
def dkwX5_get_1 : List UInt8 := [153, 0, 17, 42, 180, 0, 40, 16, 30, 27, 104, 28, 96, 47, 167, 0, 6, 20, 0, 169, 173]
abbrev dktX5_get_1 : List UInt8 := dkwX5_get_1 ++ []
def dkwX5_get_0 : List UInt8 := [27, 184, 1, 53, 153, 0, 35, 28, 133, 9, 42, 180, 0, 37, 27, 46, 4, 100, 133, 184, 0, 99]
abbrev dktX5_get_0 : List UInt8 := dkwX5_get_0 ++ dktX5_get_1
theorem dksX5_get_0 : cX5_get.data.toList.drop 0 = dktX5_get_0 := by decide +kernel
theorem dksX5_get_1 : cX5_get.data.toList.drop 22 = dktX5_get_1 := dk_seg dksX5_get_0 22 rfl rfl
theorem dX5_get_0 : decode cX5_get 0 = .ok (.iload_n 1, 1) := dk_27 (dk_at dksX5_get_0 0 rfl rfl)
theorem dX5_get_1 : decode cX5_get 1 = .ok (.invokestatic 309, 3) := dk_184 1 53 (dk_at dksX5_get_0 1 rfl rfl)
theorem dX5_get_4 : decode cX5_get 4 = .ok (.ifCond .eq 35, 3) := dk_153 0 35 (dk_at dksX5_get_0 4 rfl rfl)
theorem dX5_get_7 : decode cX5_get 7 = .ok (.iload_n 2, 1) := dk_28 (dk_at dksX5_get_0 7 rfl rfl)
theorem dX5_get_8 : decode cX5_get 8 = .ok (.i2l, 1) := dk_133 (dk_at dksX5_get_0 8 rfl rfl)
theorem dX5_get_9 : decode cX5_get 9 = .ok (.lconst 0, 1) := dk_9 (dk_at dksX5_get_0 9 rfl rfl)
theorem dX5_get_10 : decode cX5_get 10 = .ok (.aload_n 0, 1) := dk_42 (dk_at dksX5_get_0 10 rfl rfl)
theorem dX5_get_11 : decode cX5_get 11 = .ok (.getfield 37, 3) := dk_180 0 37 (dk_at dksX5_get_0 11 rfl rfl)
theorem dX5_get_14 : decode cX5_get 14 = .ok (.iload_n 1, 1) := dk_27 (dk_at dksX5_get_0 14 rfl rfl)
theorem dX5_get_15 : decode cX5_get 15 = .ok (.iaload, 1) := dk_46 (dk_at dksX5_get_0 15 rfl rfl)
theorem dX5_get_16 : decode cX5_get 16 = .ok (.iconst 1, 1) := dk_4 (dk_at dksX5_get_0 16 rfl rfl)
theorem dX5_get_17 : decode cX5_get 17 = .ok (.isub, 1) := dk_100 (dk_at dksX5_get_0 17 rfl rfl)
theorem dX5_get_18 : decode cX5_get 18 = .ok (.i2l, 1) := dk_133 (dk_at dksX5_get_0 18 rfl rfl)
theorem dX5_get_19 : decode cX5_get 19 = .ok (.invokestatic 99, 3) := dk_184 0 99 (dk_at dksX5_get_0 19 rfl rfl)
theorem dX5_get_22 : decode cX5_get 22 = .ok (.ifCond .eq 17, 3) := dk_153 0 17 (dk_at dksX5_get_1 0 rfl rfl)
theorem dX5_get_25 : decode cX5_get 25 = .ok (.aload_n 0, 1) := dk_42 (dk_at dksX5_get_1 3 rfl rfl)
theorem dX5_get_26 : decode cX5_get 26 = .ok (.getfield 40, 3) := dk_180 0 40 (dk_at dksX5_get_1 4 rfl rfl)
theorem dX5_get_29 : decode cX5_get 29 = .ok (.bipush 30, 2) := dk_16 30 (dk_at dksX5_get_1 7 rfl rfl)
theorem dX5_get_31 : decode cX5_get 31 = .ok (.iload_n 1, 1) := dk_27 (dk_at dksX5_get_1 9 rfl rfl)
theorem dX5_get_32 : decode cX5_get 32 = .ok (.imul, 1) := dk_104 (dk_at dksX5_get_1 10 rfl rfl)
theorem dX5_get_33 : decode cX5_get 33 = .ok (.iload_n 2, 1) := dk_28 (dk_at dksX5_get_1 11 rfl rfl)
theorem dX5_get_34 : decode cX5_get 34 = .ok (.iadd, 1) := dk_96 (dk_at dksX5_get_1 12 rfl rfl)
theorem dX5_get_35 : decode cX5_get 35 = .ok (.laload, 1) := dk_47 (dk_at dksX5_get_1 13 rfl rfl)
theorem dX5_get_36 : decode cX5_get 36 = .ok (.goto 6, 3) := dk_167 0 6 (dk_at dksX5_get_1 14 rfl rfl)
theorem dX5_get_39 : decode cX5_get 39 = .ok (.ldc2_w 169, 3) := dk_20 0 169 (dk_at dksX5_get_1 17 rfl rfl)
theorem dX5_get_42 : decode cX5_get 42 = .ok (.lreturn, 1) := dk_173 (dk_at dksX5_get_1 20 rfl rfl)
abbrev cX5_image : ByteArray := prog_17_method_103_code
def yX5_image : MethodName := ⟨RX5, "image", "()I"⟩
def dkwX5_image_1 : List UInt8 := [184, 0, 118, 42, 4, 181, 1, 105, 42, 182, 0, 107, 172]
abbrev dktX5_image_1 : List UInt8 := dkwX5_image_1 ++ []
def dkwX5_image_0 : List UInt8 := [42, 180, 0, 9, 3, 42, 180, 0, 19, 3, 184, 0, 114, 42, 180, 0, 15, 3, 42, 180, 0, 22, 3]
abbrev dktX5_image_0 : List UInt8 := dkwX5_image_0 ++ dktX5_image_1
theorem dksX5_image_0 : cX5_image.data.toList.drop 0 = dktX5_image_0 := by decide +kernel
theorem dksX5_image_1 : cX5_image.data.toList.drop 23 = dktX5_image_1 := dk_seg dksX5_image_0 23 rfl rfl
theorem dX5_image_0 : decode cX5_image 0 = .ok (.aload_n 0, 1) := dk_42 (dk_at dksX5_image_0 0 rfl rfl)
theorem dX5_image_1 : decode cX5_image 1 = .ok (.getfield 9, 3) := dk_180 0 9 (dk_at dksX5_image_0 1 rfl rfl)
theorem dX5_image_4 : decode cX5_image 4 = .ok (.iconst 0, 1) := dk_3 (dk_at dksX5_image_0 4 rfl rfl)
theorem dX5_image_5 : decode cX5_image 5 = .ok (.aload_n 0, 1) := dk_42 (dk_at dksX5_image_0 5 rfl rfl)
theorem dX5_image_6 : decode cX5_image 6 = .ok (.getfield 19, 3) := dk_180 0 19 (dk_at dksX5_image_0 6 rfl rfl)
theorem dX5_image_9 : decode cX5_image 9 = .ok (.iconst 0, 1) := dk_3 (dk_at dksX5_image_0 9 rfl rfl)
theorem dX5_image_10 : decode cX5_image 10 = .ok (.invokestatic 114, 3) := dk_184 0 114 (dk_at dksX5_image_0 10 rfl rfl)
theorem dX5_image_13 : decode cX5_image 13 = .ok (.aload_n 0, 1) := dk_42 (dk_at dksX5_image_0 13 rfl rfl)
theorem dX5_image_14 : decode cX5_image 14 = .ok (.getfield 15, 3) := dk_180 0 15 (dk_at dksX5_image_0 14 rfl rfl)
theorem dX5_image_17 : decode cX5_image 17 = .ok (.iconst 0, 1) := dk_3 (dk_at dksX5_image_0 17 rfl rfl)
theorem dX5_image_18 : decode cX5_image 18 = .ok (.aload_n 0, 1) := dk_42 (dk_at dksX5_image_0 18 rfl rfl)
theorem dX5_image_19 : decode cX5_image 19 = .ok (.getfield 22, 3) := dk_180 0 22 (dk_at dksX5_image_0 19 rfl rfl)
theorem dX5_image_22 : decode cX5_image 22 = .ok (.iconst 0, 1) := dk_3 (dk_at dksX5_image_0 22 rfl rfl)
theorem dX5_image_23 : decode cX5_image 23 = .ok (.invokestatic 118, 3) := dk_184 0 118 (dk_at dksX5_image_1 0 rfl rfl)
theorem dX5_image_26 : decode cX5_image 26 = .ok (.aload_n 0, 1) := dk_42 (dk_at dksX5_image_1 3 rfl rfl)
theorem dX5_image_27 : decode cX5_image 27 = .ok (.iconst 1, 1) := dk_4 (dk_at dksX5_image_1 4 rfl rfl)
theorem dX5_image_28 : decode cX5_image 28 = .ok (.putfield 361, 3) := dk_181 1 105 (dk_at dksX5_image_1 5 rfl rfl)
theorem dX5_image_31 : decode cX5_image 31 = .ok (.aload_n 0, 1) := dk_42 (dk_at dksX5_image_1 8 rfl rfl)
theorem dX5_image_32 : decode cX5_image 32 = .ok (.invokevirtual 107, 3) := dk_182 0 107 (dk_at dksX5_image_1 9 rfl rfl)
theorem dX5_image_35 : decode cX5_image 35 = .ok (.ireturn, 1) := dk_172 (dk_at dksX5_image_1 12 rfl rfl)
abbrev cX5_undo : ByteArray := prog_17_method_104_code
def yX5_undo : MethodName := ⟨RX5, "undo", "()I"⟩
def dkwX5_undo_1 : List UInt8 := [180, 0, 22, 3, 42, 180, 0, 15, 3, 184, 0, 118, 42, 3, 181, 0, 110, 42, 182, 0, 107, 172]
abbrev dktX5_undo_1 : List UInt8 := dkwX5_undo_1 ++ []
def dkwX5_undo_0 : List UInt8 := [42, 180, 1, 105, 154, 0, 6, 16, 253, 172, 42, 180, 0, 19, 3, 42, 180, 0, 9, 3, 184, 0, 114, 42]
abbrev dktX5_undo_0 : List UInt8 := dkwX5_undo_0 ++ dktX5_undo_1
theorem dksX5_undo_0 : cX5_undo.data.toList.drop 0 = dktX5_undo_0 := by decide +kernel
theorem dksX5_undo_1 : cX5_undo.data.toList.drop 24 = dktX5_undo_1 := dk_seg dksX5_undo_0 24 rfl rfl
theorem dX5_undo_0 : decode cX5_undo 0 = .ok (.aload_n 0, 1) := dk_42 (dk_at dksX5_undo_0 0 rfl rfl)
theorem dX5_undo_1 : decode cX5_undo 1 = .ok (.getfield 361, 3) := dk_180 1 105 (dk_at dksX5_undo_0 1 rfl rfl)
theorem dX5_undo_4 : decode cX5_undo 4 = .ok (.ifCond .ne 6, 3) := dk_154 0 6 (dk_at dksX5_undo_0 4 rfl rfl)
theorem dX5_undo_7 : decode cX5_undo 7 = .ok (.bipush (-3), 2) := dk_16 253 (dk_at dksX5_undo_0 7 rfl rfl)
theorem dX5_undo_9 : decode cX5_undo 9 = .ok (.ireturn, 1) := dk_172 (dk_at dksX5_undo_0 9 rfl rfl)
theorem dX5_undo_10 : decode cX5_undo 10 = .ok (.aload_n 0, 1) := dk_42 (dk_at dksX5_undo_0 10 rfl rfl)
theorem dX5_undo_11 : decode cX5_undo 11 = .ok (.getfield 19, 3) := dk_180 0 19 (dk_at dksX5_undo_0 11 rfl rfl)
theorem dX5_undo_14 : decode cX5_undo 14 = .ok (.iconst 0, 1) := dk_3 (dk_at dksX5_undo_0 14 rfl rfl)
theorem dX5_undo_15 : decode cX5_undo 15 = .ok (.aload_n 0, 1) := dk_42 (dk_at dksX5_undo_0 15 rfl rfl)
theorem dX5_undo_16 : decode cX5_undo 16 = .ok (.getfield 9, 3) := dk_180 0 9 (dk_at dksX5_undo_0 16 rfl rfl)
theorem dX5_undo_19 : decode cX5_undo 19 = .ok (.iconst 0, 1) := dk_3 (dk_at dksX5_undo_0 19 rfl rfl)
theorem dX5_undo_20 : decode cX5_undo 20 = .ok (.invokestatic 114, 3) := dk_184 0 114 (dk_at dksX5_undo_0 20 rfl rfl)
theorem dX5_undo_23 : decode cX5_undo 23 = .ok (.aload_n 0, 1) := dk_42 (dk_at dksX5_undo_0 23 rfl rfl)
theorem dX5_undo_24 : decode cX5_undo 24 = .ok (.getfield 22, 3) := dk_180 0 22 (dk_at dksX5_undo_1 0 rfl rfl)
theorem dX5_undo_27 : decode cX5_undo 27 = .ok (.iconst 0, 1) := dk_3 (dk_at dksX5_undo_1 3 rfl rfl)
theorem dX5_undo_28 : decode cX5_undo 28 = .ok (.aload_n 0, 1) := dk_42 (dk_at dksX5_undo_1 4 rfl rfl)
theorem dX5_undo_29 : decode cX5_undo 29 = .ok (.getfield 15, 3) := dk_180 0 15 (dk_at dksX5_undo_1 5 rfl rfl)
theorem dX5_undo_32 : decode cX5_undo 32 = .ok (.iconst 0, 1) := dk_3 (dk_at dksX5_undo_1 8 rfl rfl)
theorem dX5_undo_33 : decode cX5_undo 33 = .ok (.invokestatic 118, 3) := dk_184 0 118 (dk_at dksX5_undo_1 9 rfl rfl)
theorem dX5_undo_36 : decode cX5_undo 36 = .ok (.aload_n 0, 1) := dk_42 (dk_at dksX5_undo_1 12 rfl rfl)
theorem dX5_undo_37 : decode cX5_undo 37 = .ok (.iconst 0, 1) := dk_3 (dk_at dksX5_undo_1 13 rfl rfl)
theorem dX5_undo_38 : decode cX5_undo 38 = .ok (.putfield 110, 3) := dk_181 0 110 (dk_at dksX5_undo_1 14 rfl rfl)
theorem dX5_undo_41 : decode cX5_undo 41 = .ok (.aload_n 0, 1) := dk_42 (dk_at dksX5_undo_1 17 rfl rfl)
theorem dX5_undo_42 : decode cX5_undo 42 = .ok (.invokevirtual 107, 3) := dk_182 0 107 (dk_at dksX5_undo_1 18 rfl rfl)
theorem dX5_undo_45 : decode cX5_undo 45 = .ok (.ireturn, 1) := dk_172 (dk_at dksX5_undo_1 21 rfl rfl)
theorem q170 : (Jvm.Cond.initialized "FreightRoadsModel") ∈ lw_all := lw_g (lw_at lw_m1 44 rfl) rfl
theorem q992 : (Jvm.Cond.selects "FreightRoadsModel" ({ cls := "java/lang/Object", name := "getClass", desc := "()Ljava/lang/Class;" } : Jvm.MethodName) ({ cls := "java/lang/Object", name := "getClass", desc := "()Ljava/lang/Class;" } : Jvm.MethodName)) ∈ lw_all := lw_g (lw_at lw_m4 146 rfl) rfl
theorem q2134 : (Jvm.Cond.selects "FreightRoadsModel" ({ cls := "java/lang/Object", name := "equals", desc := "(Ljava/lang/Object;)Z" } : Jvm.MethodName) ({ cls := "java/lang/Object", name := "equals", desc := "(Ljava/lang/Object;)Z" } : Jvm.MethodName)) ∈ lw_all := lw_g (lw_at lw_m9 88 rfl) rfl
theorem q3029 : (Jvm.Cond.instantiable "FreightRoadsModel" (40 : Nat)) ∈ lw_all := lw_g (lw_at lw_m13 23 rfl) rfl
theorem q3031 : (Jvm.Cond.instanceMethod ({ cls := "FreightRoadsModel", name := "<init>", desc := "()V" } : Jvm.MethodName)) ∈ lw_all := lw_g (lw_at lw_m13 25 rfl) rfl
theorem q3032 : (Jvm.Cond.code ({ cls := "FreightRoadsModel", name := "<init>", desc := "()V" } : Jvm.MethodName) prog_17_method_1_code (1 : Nat) (Option.none : Option Jvm.ClassFile.FieldType)) ∈ lw_all := lw_g (lw_at lw_m13 26 rfl) rfl
theorem q3033 : (Jvm.Cond.methodLink "FreightRoadsModel" (3 : Nat) ({ cls := "java/lang/Object", name := "<init>", desc := "()V" } : Jvm.MethodName)) ∈ lw_all := lw_g (lw_at lw_m13 27 rfl) rfl
theorem q3034 : (Jvm.Cond.fieldLink "FreightRoadsModel" (9 : Nat) "FreightRoadsModel" "now" "[I") ∈ lw_all := lw_g (lw_at lw_m13 28 rfl) rfl
theorem q3035 : (Jvm.Cond.fieldLink "FreightRoadsModel" (15 : Nat) "FreightRoadsModel" "cost" "[J") ∈ lw_all := lw_g (lw_at lw_m13 29 rfl) rfl
theorem q3036 : (Jvm.Cond.fieldLink "FreightRoadsModel" (19 : Nat) "FreightRoadsModel" "imaged" "[I") ∈ lw_all := lw_g (lw_at lw_m13 30 rfl) rfl
theorem q3037 : (Jvm.Cond.fieldLink "FreightRoadsModel" (22 : Nat) "FreightRoadsModel" "imagedCost" "[J") ∈ lw_all := lw_g (lw_at lw_m13 31 rfl) rfl
theorem q3038 : (Jvm.Cond.fieldLink "FreightRoadsModel" (361 : Nat) "FreightRoadsModel" "hasImage" "Z") ∈ lw_all := lw_g (lw_at lw_m13 32 rfl) rfl
theorem q3039 : (Jvm.Cond.fieldLink "FreightRoadsModel" (110 : Nat) "FreightRoadsModel" "steps" "I") ∈ lw_all := lw_g (lw_at lw_m13 33 rfl) rfl
theorem q3040 : (Jvm.Cond.fieldLink "FreightRoadsModel" (25 : Nat) "FreightRoadsModel" "past" "[I") ∈ lw_all := lw_g (lw_at lw_m13 34 rfl) rfl
theorem q3041 : (Jvm.Cond.fieldLink "FreightRoadsModel" (28 : Nat) "FreightRoadsModel" "pastCost" "[J") ∈ lw_all := lw_g (lw_at lw_m13 35 rfl) rfl
theorem q3042 : (Jvm.Cond.fieldLink "FreightRoadsModel" (173 : Nat) "FreightRoadsModel" "taped" "I") ∈ lw_all := lw_g (lw_at lw_m13 36 rfl) rfl
theorem q3043 : (Jvm.Cond.fieldLink "FreightRoadsModel" (31 : Nat) "FreightRoadsModel" "tape" "[I") ∈ lw_all := lw_g (lw_at lw_m13 37 rfl) rfl
theorem q3044 : (Jvm.Cond.fieldLink "FreightRoadsModel" (352 : Nat) "FreightRoadsModel" "written" "I") ∈ lw_all := lw_g (lw_at lw_m13 38 rfl) rfl
theorem q3045 : (Jvm.Cond.fieldLink "FreightRoadsModel" (34 : Nat) "FreightRoadsModel" "paper" "[I") ∈ lw_all := lw_g (lw_at lw_m13 39 rfl) rfl
theorem q3046 : (Jvm.Cond.fieldLink "FreightRoadsModel" (37 : Nat) "FreightRoadsModel" "sizes" "[I") ∈ lw_all := lw_g (lw_at lw_m13 40 rfl) rfl
theorem q3047 : (Jvm.Cond.fieldLink "FreightRoadsModel" (40 : Nat) "FreightRoadsModel" "items" "[J") ∈ lw_all := lw_g (lw_at lw_m13 41 rfl) rfl
theorem q3048 : (Jvm.Cond.fieldLink "FreightRoadsModel" (43 : Nat) "FreightRoadsModel" "amount" "[I") ∈ lw_all := lw_g (lw_at lw_m13 42 rfl) rfl
theorem q3049 : (Jvm.Cond.fieldLink "FreightRoadsModel" (46 : Nat) "FreightRoadsModel" "gives" "[I") ∈ lw_all := lw_g (lw_at lw_m13 43 rfl) rfl
theorem q3050 : (Jvm.Cond.fieldLink "FreightRoadsModel" (49 : Nat) "FreightRoadsModel" "far" "[J") ∈ lw_all := lw_g (lw_at lw_m13 44 rfl) rfl
theorem q3051 : (Jvm.Cond.fieldLink "FreightRoadsModel" (52 : Nat) "FreightRoadsModel" "by" "[I") ∈ lw_all := lw_g (lw_at lw_m13 45 rfl) rfl
theorem q3052 : (Jvm.Cond.fieldLink "FreightRoadsModel" (55 : Nat) "FreightRoadsModel" "met" "[Z") ∈ lw_all := lw_g (lw_at lw_m13 46 rfl) rfl
theorem q3053 : (Jvm.Cond.fieldLink "FreightRoadsModel" (179 : Nat) "FreightRoadsModel" "at" "I") ∈ lw_all := lw_g (lw_at lw_m13 47 rfl) rfl
theorem q3054 : (Jvm.Cond.fieldLink "FreightRoadsModel" (176 : Nat) "FreightRoadsModel" "fault" "I") ∈ lw_all := lw_g (lw_at lw_m13 48 rfl) rfl
theorem q3055 : (Jvm.Cond.fieldLink "FreightRoadsModel" (59 : Nat) "FreightRoadsModel" "read" "[I") ∈ lw_all := lw_g (lw_at lw_m13 49 rfl) rfl
theorem q3056 : (Jvm.Cond.fieldLink "FreightRoadsModel" (62 : Nat) "FreightRoadsModel" "readCost" "[J") ∈ lw_all := lw_g (lw_at lw_m13 50 rfl) rfl
theorem q3057 : (Jvm.Cond.fieldLink "FreightRoadsModel" (65 : Nat) "FreightRoadsModel" "price" "[J") ∈ lw_all := lw_g (lw_at lw_m13 51 rfl) rfl
theorem q3058 : (Jvm.Cond.fieldLink "FreightRoadsModel" (260 : Nat) "FreightRoadsModel" "total" "J") ∈ lw_all := lw_g (lw_at lw_m13 52 rfl) rfl
theorem q3059 : (Jvm.Cond.fieldLink "FreightRoadsModel" (256 : Nat) "FreightRoadsModel" "isOver" "Z") ∈ lw_all := lw_g (lw_at lw_m13 53 rfl) rfl
theorem q3060 : (Jvm.Cond.fieldLink "FreightRoadsModel" (68 : Nat) "FreightRoadsModel" "thought" "[I") ∈ lw_all := lw_g (lw_at lw_m13 54 rfl) rfl
theorem q3061 : (Jvm.Cond.fieldLink "FreightRoadsModel" (71 : Nat) "FreightRoadsModel" "thoughtCost" "[J") ∈ lw_all := lw_g (lw_at lw_m13 55 rfl) rfl
theorem q3062 : (Jvm.Cond.fieldLink "FreightRoadsModel" (285 : Nat) "FreightRoadsModel" "was" "J") ∈ lw_all := lw_g (lw_at lw_m13 56 rfl) rfl
theorem q3063 : (Jvm.Cond.fieldLink "FreightRoadsModel" (301 : Nat) "FreightRoadsModel" "stretches" "I") ∈ lw_all := lw_g (lw_at lw_m13 57 rfl) rfl
theorem q3064 : (Jvm.Cond.fieldLink "FreightRoadsModel" (74 : Nat) "FreightRoadsModel" "grows" "[J") ∈ lw_all := lw_g (lw_at lw_m13 58 rfl) rfl
theorem q3065 : (Jvm.Cond.fieldLink "FreightRoadsModel" (77 : Nat) "FreightRoadsModel" "lasts" "[I") ∈ lw_all := lw_g (lw_at lw_m13 59 rfl) rfl
theorem q3066 : (Jvm.Cond.fieldLink "FreightRoadsModel" (80 : Nat) "FreightRoadsModel" "row" "[I") ∈ lw_all := lw_g (lw_at lw_m13 60 rfl) rfl
theorem q3067 : (Jvm.Cond.fieldLink "FreightRoadsModel" (83 : Nat) "FreightRoadsModel" "pair" "[J") ∈ lw_all := lw_g (lw_at lw_m13 61 rfl) rfl
theorem q3068 : (Jvm.Cond.fieldLink "FreightRoadsModel" (86 : Nat) "FreightRoadsModel" "pairStep" "[I") ∈ lw_all := lw_g (lw_at lw_m13 62 rfl) rfl
theorem q3069 : (Jvm.Cond.fieldLink "FreightRoadsModel" (321 : Nat) "FreightRoadsModel" "rung" "I") ∈ lw_all := lw_g (lw_at lw_m13 63 rfl) rfl
theorem q3070 : (Jvm.Cond.fieldLink "FreightRoadsModel" (312 : Nat) "FreightRoadsModel" "gains" "J") ∈ lw_all := lw_g (lw_at lw_m13 64 rfl) rfl
theorem q3071 : (Jvm.Cond.fieldLink "FreightRoadsModel" (89 : Nat) "FreightRoadsModel" "toldAmount" "[I") ∈ lw_all := lw_g (lw_at lw_m13 65 rfl) rfl
theorem q3072 : (Jvm.Cond.fieldLink "FreightRoadsModel" (336 : Nat) "FreightRoadsModel" "parts" "I") ∈ lw_all := lw_g (lw_at lw_m13 66 rfl) rfl
theorem q3073 : (Jvm.Cond.fieldLink "FreightRoadsModel" (92 : Nat) "FreightRoadsModel" "part" "[I") ∈ lw_all := lw_g (lw_at lw_m13 67 rfl) rfl
theorem q3074 : (Jvm.Cond.laysFinal "FreightRoadsModel" "FreightRoadsModel" "now" "[I") ∈ lw_all := lw_g (lw_at lw_m13 68 rfl) rfl
theorem q3075 : (Jvm.Cond.soleField "FreightRoadsModel" "now") ∈ lw_all := lw_g (lw_at lw_m13 69 rfl) rfl
theorem q3076 : (Jvm.Cond.laysFinal "FreightRoadsModel" "FreightRoadsModel" "cost" "[J") ∈ lw_all := lw_g (lw_at lw_m13 70 rfl) rfl
theorem q3077 : (Jvm.Cond.soleField "FreightRoadsModel" "cost") ∈ lw_all := lw_g (lw_at lw_m13 71 rfl) rfl
theorem q3078 : (Jvm.Cond.laysFinal "FreightRoadsModel" "FreightRoadsModel" "imaged" "[I") ∈ lw_all := lw_g (lw_at lw_m13 72 rfl) rfl
theorem q3079 : (Jvm.Cond.soleField "FreightRoadsModel" "imaged") ∈ lw_all := lw_g (lw_at lw_m13 73 rfl) rfl
theorem q3080 : (Jvm.Cond.laysFinal "FreightRoadsModel" "FreightRoadsModel" "imagedCost" "[J") ∈ lw_all := lw_g (lw_at lw_m13 74 rfl) rfl
theorem q3081 : (Jvm.Cond.soleField "FreightRoadsModel" "imagedCost") ∈ lw_all := lw_g (lw_at lw_m13 75 rfl) rfl
theorem q3082 : (Jvm.Cond.lays "FreightRoadsModel" "FreightRoadsModel" "hasImage" "Z") ∈ lw_all := lw_g (lw_at lw_m13 76 rfl) rfl
theorem q3083 : (Jvm.Cond.soleField "FreightRoadsModel" "hasImage") ∈ lw_all := lw_g (lw_at lw_m13 77 rfl) rfl
theorem q3084 : (Jvm.Cond.lays "FreightRoadsModel" "FreightRoadsModel" "steps" "I") ∈ lw_all := lw_g (lw_at lw_m13 78 rfl) rfl
theorem q3085 : (Jvm.Cond.soleField "FreightRoadsModel" "steps") ∈ lw_all := lw_g (lw_at lw_m13 79 rfl) rfl
theorem q3086 : (Jvm.Cond.laysFinal "FreightRoadsModel" "FreightRoadsModel" "past" "[I") ∈ lw_all := lw_g (lw_at lw_m13 80 rfl) rfl
theorem q3087 : (Jvm.Cond.soleField "FreightRoadsModel" "past") ∈ lw_all := lw_g (lw_at lw_m13 81 rfl) rfl
theorem q3088 : (Jvm.Cond.laysFinal "FreightRoadsModel" "FreightRoadsModel" "pastCost" "[J") ∈ lw_all := lw_g (lw_at lw_m13 82 rfl) rfl
theorem q3089 : (Jvm.Cond.soleField "FreightRoadsModel" "pastCost") ∈ lw_all := lw_g (lw_at lw_m13 83 rfl) rfl
theorem q3090 : (Jvm.Cond.lays "FreightRoadsModel" "FreightRoadsModel" "taped" "I") ∈ lw_all := lw_g (lw_at lw_m13 84 rfl) rfl
theorem q3091 : (Jvm.Cond.soleField "FreightRoadsModel" "taped") ∈ lw_all := lw_g (lw_at lw_m13 85 rfl) rfl
theorem q3092 : (Jvm.Cond.laysFinal "FreightRoadsModel" "FreightRoadsModel" "tape" "[I") ∈ lw_all := lw_g (lw_at lw_m13 86 rfl) rfl
theorem q3093 : (Jvm.Cond.soleField "FreightRoadsModel" "tape") ∈ lw_all := lw_g (lw_at lw_m13 87 rfl) rfl
theorem q3094 : (Jvm.Cond.lays "FreightRoadsModel" "FreightRoadsModel" "written" "I") ∈ lw_all := lw_g (lw_at lw_m13 88 rfl) rfl
theorem q3095 : (Jvm.Cond.soleField "FreightRoadsModel" "written") ∈ lw_all := lw_g (lw_at lw_m13 89 rfl) rfl
theorem q3096 : (Jvm.Cond.laysFinal "FreightRoadsModel" "FreightRoadsModel" "paper" "[I") ∈ lw_all := lw_g (lw_at lw_m13 90 rfl) rfl
theorem q3097 : (Jvm.Cond.soleField "FreightRoadsModel" "paper") ∈ lw_all := lw_g (lw_at lw_m13 91 rfl) rfl
theorem q3098 : (Jvm.Cond.laysFinal "FreightRoadsModel" "FreightRoadsModel" "sizes" "[I") ∈ lw_all := lw_g (lw_at lw_m13 92 rfl) rfl
theorem q3099 : (Jvm.Cond.soleField "FreightRoadsModel" "sizes") ∈ lw_all := lw_g (lw_at lw_m13 93 rfl) rfl
theorem q3100 : (Jvm.Cond.laysFinal "FreightRoadsModel" "FreightRoadsModel" "items" "[J") ∈ lw_all := lw_g (lw_at lw_m13 94 rfl) rfl
theorem q3101 : (Jvm.Cond.soleField "FreightRoadsModel" "items") ∈ lw_all := lw_g (lw_at lw_m13 95 rfl) rfl
theorem q3102 : (Jvm.Cond.laysFinal "FreightRoadsModel" "FreightRoadsModel" "amount" "[I") ∈ lw_all := lw_g (lw_at lw_m13 96 rfl) rfl
theorem q3103 : (Jvm.Cond.soleField "FreightRoadsModel" "amount") ∈ lw_all := lw_g (lw_at lw_m13 97 rfl) rfl
theorem q3104 : (Jvm.Cond.laysFinal "FreightRoadsModel" "FreightRoadsModel" "gives" "[I") ∈ lw_all := lw_g (lw_at lw_m13 98 rfl) rfl
theorem q3105 : (Jvm.Cond.soleField "FreightRoadsModel" "gives") ∈ lw_all := lw_g (lw_at lw_m13 99 rfl) rfl
theorem q3106 : (Jvm.Cond.laysFinal "FreightRoadsModel" "FreightRoadsModel" "far" "[J") ∈ lw_all := lw_g (lw_at lw_m13 100 rfl) rfl
theorem q3107 : (Jvm.Cond.soleField "FreightRoadsModel" "far") ∈ lw_all := lw_g (lw_at lw_m13 101 rfl) rfl
theorem q3108 : (Jvm.Cond.laysFinal "FreightRoadsModel" "FreightRoadsModel" "by" "[I") ∈ lw_all := lw_g (lw_at lw_m13 102 rfl) rfl
theorem q3109 : (Jvm.Cond.soleField "FreightRoadsModel" "by") ∈ lw_all := lw_g (lw_at lw_m13 103 rfl) rfl
theorem q3110 : (Jvm.Cond.laysFinal "FreightRoadsModel" "FreightRoadsModel" "met" "[Z") ∈ lw_all := lw_g (lw_at lw_m13 104 rfl) rfl
theorem q3111 : (Jvm.Cond.soleField "FreightRoadsModel" "met") ∈ lw_all := lw_g (lw_at lw_m13 105 rfl) rfl
theorem q3112 : (Jvm.Cond.lays "FreightRoadsModel" "FreightRoadsModel" "at" "I") ∈ lw_all := lw_g (lw_at lw_m13 106 rfl) rfl
theorem q3113 : (Jvm.Cond.soleField "FreightRoadsModel" "at") ∈ lw_all := lw_g (lw_at lw_m13 107 rfl) rfl
theorem q3114 : (Jvm.Cond.lays "FreightRoadsModel" "FreightRoadsModel" "fault" "I") ∈ lw_all := lw_g (lw_at lw_m13 108 rfl) rfl
theorem q3115 : (Jvm.Cond.soleField "FreightRoadsModel" "fault") ∈ lw_all := lw_g (lw_at lw_m13 109 rfl) rfl
theorem q3116 : (Jvm.Cond.laysFinal "FreightRoadsModel" "FreightRoadsModel" "read" "[I") ∈ lw_all := lw_g (lw_at lw_m13 110 rfl) rfl
theorem q3117 : (Jvm.Cond.soleField "FreightRoadsModel" "read") ∈ lw_all := lw_g (lw_at lw_m13 111 rfl) rfl
theorem q3118 : (Jvm.Cond.laysFinal "FreightRoadsModel" "FreightRoadsModel" "readCost" "[J") ∈ lw_all := lw_g (lw_at lw_m13 112 rfl) rfl
theorem q3119 : (Jvm.Cond.soleField "FreightRoadsModel" "readCost") ∈ lw_all := lw_g (lw_at lw_m13 113 rfl) rfl
theorem q3120 : (Jvm.Cond.laysFinal "FreightRoadsModel" "FreightRoadsModel" "price" "[J") ∈ lw_all := lw_g (lw_at lw_m13 114 rfl) rfl
theorem q3121 : (Jvm.Cond.soleField "FreightRoadsModel" "price") ∈ lw_all := lw_g (lw_at lw_m13 115 rfl) rfl
theorem q3122 : (Jvm.Cond.lays "FreightRoadsModel" "FreightRoadsModel" "total" "J") ∈ lw_all := lw_g (lw_at lw_m13 116 rfl) rfl
theorem q3123 : (Jvm.Cond.soleField "FreightRoadsModel" "total") ∈ lw_all := lw_g (lw_at lw_m13 117 rfl) rfl
theorem q3124 : (Jvm.Cond.lays "FreightRoadsModel" "FreightRoadsModel" "isOver" "Z") ∈ lw_all := lw_g (lw_at lw_m13 118 rfl) rfl
theorem q3125 : (Jvm.Cond.soleField "FreightRoadsModel" "isOver") ∈ lw_all := lw_g (lw_at lw_m13 119 rfl) rfl
theorem q3126 : (Jvm.Cond.laysFinal "FreightRoadsModel" "FreightRoadsModel" "thought" "[I") ∈ lw_all := lw_g (lw_at lw_m13 120 rfl) rfl
theorem q3127 : (Jvm.Cond.soleField "FreightRoadsModel" "thought") ∈ lw_all := lw_g (lw_at lw_m13 121 rfl) rfl
theorem q3128 : (Jvm.Cond.laysFinal "FreightRoadsModel" "FreightRoadsModel" "thoughtCost" "[J") ∈ lw_all := lw_g (lw_at lw_m13 122 rfl) rfl
theorem q3129 : (Jvm.Cond.soleField "FreightRoadsModel" "thoughtCost") ∈ lw_all := lw_g (lw_at lw_m13 123 rfl) rfl
theorem q3130 : (Jvm.Cond.lays "FreightRoadsModel" "FreightRoadsModel" "was" "J") ∈ lw_all := lw_g (lw_at lw_m13 124 rfl) rfl
theorem q3131 : (Jvm.Cond.soleField "FreightRoadsModel" "was") ∈ lw_all := lw_g (lw_at lw_m13 125 rfl) rfl
theorem q3132 : (Jvm.Cond.lays "FreightRoadsModel" "FreightRoadsModel" "stretches" "I") ∈ lw_all := lw_g (lw_at lw_m13 126 rfl) rfl
theorem q3133 : (Jvm.Cond.soleField "FreightRoadsModel" "stretches") ∈ lw_all := lw_g (lw_at lw_m13 127 rfl) rfl
theorem q3134 : (Jvm.Cond.laysFinal "FreightRoadsModel" "FreightRoadsModel" "grows" "[J") ∈ lw_all := lw_g (lw_at lw_m13 128 rfl) rfl
theorem q3135 : (Jvm.Cond.soleField "FreightRoadsModel" "grows") ∈ lw_all := lw_g (lw_at lw_m13 129 rfl) rfl
theorem q3136 : (Jvm.Cond.laysFinal "FreightRoadsModel" "FreightRoadsModel" "lasts" "[I") ∈ lw_all := lw_g (lw_at lw_m13 130 rfl) rfl
theorem q3137 : (Jvm.Cond.soleField "FreightRoadsModel" "lasts") ∈ lw_all := lw_g (lw_at lw_m13 131 rfl) rfl
theorem q3138 : (Jvm.Cond.laysFinal "FreightRoadsModel" "FreightRoadsModel" "row" "[I") ∈ lw_all := lw_g (lw_at lw_m13 132 rfl) rfl
theorem q3139 : (Jvm.Cond.soleField "FreightRoadsModel" "row") ∈ lw_all := lw_g (lw_at lw_m13 133 rfl) rfl
theorem q3140 : (Jvm.Cond.laysFinal "FreightRoadsModel" "FreightRoadsModel" "pair" "[J") ∈ lw_all := lw_g (lw_at lw_m13 134 rfl) rfl
theorem q3141 : (Jvm.Cond.soleField "FreightRoadsModel" "pair") ∈ lw_all := lw_g (lw_at lw_m13 135 rfl) rfl
theorem q3142 : (Jvm.Cond.laysFinal "FreightRoadsModel" "FreightRoadsModel" "pairStep" "[I") ∈ lw_all := lw_g (lw_at lw_m13 136 rfl) rfl
theorem q3143 : (Jvm.Cond.soleField "FreightRoadsModel" "pairStep") ∈ lw_all := lw_g (lw_at lw_m13 137 rfl) rfl
theorem q3144 : (Jvm.Cond.lays "FreightRoadsModel" "FreightRoadsModel" "rung" "I") ∈ lw_all := lw_g (lw_at lw_m13 138 rfl) rfl
theorem q3145 : (Jvm.Cond.soleField "FreightRoadsModel" "rung") ∈ lw_all := lw_g (lw_at lw_m13 139 rfl) rfl
theorem q3146 : (Jvm.Cond.lays "FreightRoadsModel" "FreightRoadsModel" "gains" "J") ∈ lw_all := lw_g (lw_at lw_m13 140 rfl) rfl
theorem q3147 : (Jvm.Cond.soleField "FreightRoadsModel" "gains") ∈ lw_all := lw_g (lw_at lw_m13 141 rfl) rfl
theorem q3148 : (Jvm.Cond.laysFinal "FreightRoadsModel" "FreightRoadsModel" "toldAmount" "[I") ∈ lw_all := lw_g (lw_at lw_m13 142 rfl) rfl
theorem q3149 : (Jvm.Cond.soleField "FreightRoadsModel" "toldAmount") ∈ lw_all := lw_g (lw_at lw_m13 143 rfl) rfl
theorem q3150 : (Jvm.Cond.lays "FreightRoadsModel" "FreightRoadsModel" "parts" "I") ∈ lw_all := lw_g (lw_at lw_m13 144 rfl) rfl
theorem q3151 : (Jvm.Cond.soleField "FreightRoadsModel" "parts") ∈ lw_all := lw_g (lw_at lw_m13 145 rfl) rfl
theorem q3152 : (Jvm.Cond.laysFinal "FreightRoadsModel" "FreightRoadsModel" "part" "[I") ∈ lw_all := lw_g (lw_at lw_m13 146 rfl) rfl
theorem q3153 : (Jvm.Cond.soleField "FreightRoadsModel" "part") ∈ lw_all := lw_g (lw_at lw_m13 147 rfl) rfl
theorem q3154 : (Jvm.Cond.superclass "FreightRoadsModel" "java/lang/Object") ∈ lw_all := lw_g (lw_at lw_m13 148 rfl) rfl
theorem q3157 : (Jvm.Cond.instanceMethod ({ cls := "FreightRoadsModel", name := "back", desc := "()I" } : Jvm.MethodName)) ∈ lw_all := lw_g (lw_at lw_m13 151 rfl) rfl
theorem q3158 : (Jvm.Cond.selects "FreightRoadsModel" ({ cls := "FreightRoadsModel", name := "back", desc := "()I" } : Jvm.MethodName) ({ cls := "FreightRoadsModel", name := "back", desc := "()I" } : Jvm.MethodName)) ∈ lw_all := lw_g (lw_at lw_m13 152 rfl) rfl
theorem q3159 : (Jvm.Cond.code ({ cls := "FreightRoadsModel", name := "back", desc := "()I" } : Jvm.MethodName) prog_17_method_15_code (1 : Nat) (Option.some Jvm.ClassFile.FieldType.int)) ∈ lw_all := lw_g (lw_at lw_m13 153 rfl) rfl
theorem q3160 : (Jvm.Cond.methodLink "FreightRoadsModel" (114 : Nat) ({ cls := "FreightRoadsModel", name := "pours", desc := "([II[II)V" } : Jvm.MethodName)) ∈ lw_all := lw_g (lw_at lw_m13 154 rfl) rfl
theorem q3161 : (Jvm.Cond.static ({ cls := "FreightRoadsModel", name := "pours", desc := "([II[II)V" } : Jvm.MethodName)) ∈ lw_all := lw_g (lw_at lw_m13 155 rfl) rfl
theorem q3162 : (Jvm.Cond.code ({ cls := "FreightRoadsModel", name := "pours", desc := "([II[II)V" } : Jvm.MethodName) prog_17_method_12_code (5 : Nat) (Option.none : Option Jvm.ClassFile.FieldType)) ∈ lw_all := lw_g (lw_at lw_m13 156 rfl) rfl
theorem q3163 : (Jvm.Cond.methodLink "FreightRoadsModel" (118 : Nat) ({ cls := "FreightRoadsModel", name := "poursCosts", desc := "([JI[JI)V" } : Jvm.MethodName)) ∈ lw_all := lw_g (lw_at lw_m13 157 rfl) rfl
theorem q3164 : (Jvm.Cond.static ({ cls := "FreightRoadsModel", name := "poursCosts", desc := "([JI[JI)V" } : Jvm.MethodName)) ∈ lw_all := lw_g (lw_at lw_m13 158 rfl) rfl
theorem q3165 : (Jvm.Cond.code ({ cls := "FreightRoadsModel", name := "poursCosts", desc := "([JI[JI)V" } : Jvm.MethodName) prog_17_method_13_code (5 : Nat) (Option.none : Option Jvm.ClassFile.FieldType)) ∈ lw_all := lw_g (lw_at lw_m13 159 rfl) rfl
theorem q3167 : (Jvm.Cond.instanceMethod ({ cls := "FreightRoadsModel", name := "towns", desc := "(I)I" } : Jvm.MethodName)) ∈ lw_all := lw_g (lw_at lw_m13 161 rfl) rfl
theorem q3168 : (Jvm.Cond.selects "FreightRoadsModel" ({ cls := "FreightRoadsModel", name := "towns", desc := "(I)I" } : Jvm.MethodName) ({ cls := "FreightRoadsModel", name := "towns", desc := "(I)I" } : Jvm.MethodName)) ∈ lw_all := lw_g (lw_at lw_m13 162 rfl) rfl
theorem q3169 : (Jvm.Cond.code ({ cls := "FreightRoadsModel", name := "towns", desc := "(I)I" } : Jvm.MethodName) prog_17_method_16_code (4 : Nat) (Option.some Jvm.ClassFile.FieldType.int)) ∈ lw_all := lw_g (lw_at lw_m13 163 rfl) rfl
theorem q3170 : (Jvm.Cond.constantLong "FreightRoadsModel" (122 : Nat) (2 : Int64)) ∈ lw_all := lw_g (lw_at lw_m13 164 rfl) rfl
theorem q3171 : (Jvm.Cond.constantLong "FreightRoadsModel" (124 : Nat) (8 : Int64)) ∈ lw_all := lw_g (lw_at lw_m13 165 rfl) rfl
theorem q3172 : (Jvm.Cond.methodLink "FreightRoadsModel" (99 : Nat) ({ cls := "FreightRoadsModel", name := "in", desc := "(JJJ)Z" } : Jvm.MethodName)) ∈ lw_all := lw_g (lw_at lw_m13 166 rfl) rfl
theorem q3173 : (Jvm.Cond.static ({ cls := "FreightRoadsModel", name := "in", desc := "(JJJ)Z" } : Jvm.MethodName)) ∈ lw_all := lw_g (lw_at lw_m13 167 rfl) rfl
theorem q3174 : (Jvm.Cond.code ({ cls := "FreightRoadsModel", name := "in", desc := "(JJJ)Z" } : Jvm.MethodName) prog_17_method_2_code (6 : Nat) (Option.some Jvm.ClassFile.FieldType.boolean)) ∈ lw_all := lw_g (lw_at lw_m13 168 rfl) rfl
theorem q3175 : (Jvm.Cond.methodLink "FreightRoadsModel" (126 : Nat) ({ cls := "FreightRoadsModel", name := "keeps", desc := "()V" } : Jvm.MethodName)) ∈ lw_all := lw_g (lw_at lw_m13 169 rfl) rfl
theorem q3176 : (Jvm.Cond.privateMethod ({ cls := "FreightRoadsModel", name := "keeps", desc := "()V" } : Jvm.MethodName)) ∈ lw_tbl := lw_at lw_m13 170 rfl
theorem q3177 : (Jvm.Cond.instanceMethod ({ cls := "FreightRoadsModel", name := "keeps", desc := "()V" } : Jvm.MethodName)) ∈ lw_all := lw_g (lw_at lw_m13 171 rfl) rfl
theorem q3178 : (Jvm.Cond.code ({ cls := "FreightRoadsModel", name := "keeps", desc := "()V" } : Jvm.MethodName) prog_17_method_14_code (2 : Nat) (Option.none : Option Jvm.ClassFile.FieldType)) ∈ lw_all := lw_g (lw_at lw_m13 172 rfl) rfl
theorem q3180 : (Jvm.Cond.instanceMethod ({ cls := "FreightRoadsModel", name := "supply", desc := "(II)I" } : Jvm.MethodName)) ∈ lw_all := lw_g (lw_at lw_m13 174 rfl) rfl
theorem q3181 : (Jvm.Cond.selects "FreightRoadsModel" ({ cls := "FreightRoadsModel", name := "supply", desc := "(II)I" } : Jvm.MethodName) ({ cls := "FreightRoadsModel", name := "supply", desc := "(II)I" } : Jvm.MethodName)) ∈ lw_all := lw_g (lw_at lw_m13 175 rfl) rfl
theorem q3182 : (Jvm.Cond.code ({ cls := "FreightRoadsModel", name := "supply", desc := "(II)I" } : Jvm.MethodName) prog_17_method_17_code (3 : Nat) (Option.some Jvm.ClassFile.FieldType.int)) ∈ lw_all := lw_g (lw_at lw_m13 176 rfl) rfl
theorem q3183 : (Jvm.Cond.methodLink "FreightRoadsModel" (103 : Nat) ({ cls := "FreightRoadsModel", name := "isTown", desc := "(I)Z" } : Jvm.MethodName)) ∈ lw_all := lw_g (lw_at lw_m13 177 rfl) rfl
theorem q3184 : (Jvm.Cond.privateMethod ({ cls := "FreightRoadsModel", name := "isTown", desc := "(I)Z" } : Jvm.MethodName)) ∈ lw_tbl := lw_at lw_m13 178 rfl
theorem q3185 : (Jvm.Cond.instanceMethod ({ cls := "FreightRoadsModel", name := "isTown", desc := "(I)Z" } : Jvm.MethodName)) ∈ lw_all := lw_g (lw_at lw_m13 179 rfl) rfl
theorem q3186 : (Jvm.Cond.code ({ cls := "FreightRoadsModel", name := "isTown", desc := "(I)Z" } : Jvm.MethodName) prog_17_method_5_code (2 : Nat) (Option.some Jvm.ClassFile.FieldType.boolean)) ∈ lw_all := lw_g (lw_at lw_m13 180 rfl) rfl
theorem q3187 : (Jvm.Cond.methodLink "FreightRoadsModel" (95 : Nat) ({ cls := "FreightRoadsModel", name := "towns", desc := "()I" } : Jvm.MethodName)) ∈ lw_all := lw_g (lw_at lw_m13 181 rfl) rfl
theorem q3188 : (Jvm.Cond.privateMethod ({ cls := "FreightRoadsModel", name := "towns", desc := "()I" } : Jvm.MethodName)) ∈ lw_tbl := lw_at lw_m13 182 rfl
theorem q3189 : (Jvm.Cond.instanceMethod ({ cls := "FreightRoadsModel", name := "towns", desc := "()I" } : Jvm.MethodName)) ∈ lw_all := lw_g (lw_at lw_m13 183 rfl) rfl
theorem q3190 : (Jvm.Cond.code ({ cls := "FreightRoadsModel", name := "towns", desc := "()I" } : Jvm.MethodName) prog_17_method_3_code (1 : Nat) (Option.some Jvm.ClassFile.FieldType.int)) ∈ lw_all := lw_g (lw_at lw_m13 184 rfl) rfl
theorem q3191 : (Jvm.Cond.constantLong "FreightRoadsModel" (129 : Nat) (-99 : Int64)) ∈ lw_all := lw_g (lw_at lw_m13 185 rfl) rfl
theorem q3192 : (Jvm.Cond.constantLong "FreightRoadsModel" (131 : Nat) (99 : Int64)) ∈ lw_all := lw_g (lw_at lw_m13 186 rfl) rfl
theorem q3194 : (Jvm.Cond.instanceMethod ({ cls := "FreightRoadsModel", name := "road", desc := "(IIIIJ)I" } : Jvm.MethodName)) ∈ lw_all := lw_g (lw_at lw_m13 188 rfl) rfl
theorem q3195 : (Jvm.Cond.selects "FreightRoadsModel" ({ cls := "FreightRoadsModel", name := "road", desc := "(IIIIJ)I" } : Jvm.MethodName) ({ cls := "FreightRoadsModel", name := "road", desc := "(IIIIJ)I" } : Jvm.MethodName)) ∈ lw_all := lw_g (lw_at lw_m13 189 rfl) rfl
theorem q3196 : (Jvm.Cond.code ({ cls := "FreightRoadsModel", name := "road", desc := "(IIIIJ)I" } : Jvm.MethodName) prog_17_method_20_code (7 : Nat) (Option.some Jvm.ClassFile.FieldType.int)) ∈ lw_all := lw_g (lw_at lw_m13 190 rfl) rfl
theorem q3197 : (Jvm.Cond.methodLink "FreightRoadsModel" (137 : Nat) ({ cls := "FreightRoadsModel", name := "areTwo", desc := "(II)Z" } : Jvm.MethodName)) ∈ lw_all := lw_g (lw_at lw_m13 191 rfl) rfl
theorem q3198 : (Jvm.Cond.privateMethod ({ cls := "FreightRoadsModel", name := "areTwo", desc := "(II)Z" } : Jvm.MethodName)) ∈ lw_tbl := lw_at lw_m13 192 rfl
theorem q3199 : (Jvm.Cond.instanceMethod ({ cls := "FreightRoadsModel", name := "areTwo", desc := "(II)Z" } : Jvm.MethodName)) ∈ lw_all := lw_g (lw_at lw_m13 193 rfl) rfl
theorem q3200 : (Jvm.Cond.code ({ cls := "FreightRoadsModel", name := "areTwo", desc := "(II)Z" } : Jvm.MethodName) prog_17_method_6_code (3 : Nat) (Option.some Jvm.ClassFile.FieldType.boolean)) ∈ lw_all := lw_g (lw_at lw_m13 194 rfl) rfl
theorem q3201 : (Jvm.Cond.methodLink "FreightRoadsModel" (141 : Nat) ({ cls := "FreightRoadsModel", name := "areBounds", desc := "(IIJ)Z" } : Jvm.MethodName)) ∈ lw_all := lw_g (lw_at lw_m13 195 rfl) rfl
theorem q3202 : (Jvm.Cond.static ({ cls := "FreightRoadsModel", name := "areBounds", desc := "(IIJ)Z" } : Jvm.MethodName)) ∈ lw_all := lw_g (lw_at lw_m13 196 rfl) rfl
theorem q3203 : (Jvm.Cond.code ({ cls := "FreightRoadsModel", name := "areBounds", desc := "(IIJ)Z" } : Jvm.MethodName) prog_17_method_18_code (4 : Nat) (Option.some Jvm.ClassFile.FieldType.boolean)) ∈ lw_all := lw_g (lw_at lw_m13 197 rfl) rfl
theorem q3204 : (Jvm.Cond.constantLong "FreightRoadsModel" (133 : Nat) (-100000000000000000 : Int64)) ∈ lw_all := lw_g (lw_at lw_m13 198 rfl) rfl
theorem q3205 : (Jvm.Cond.constantLong "FreightRoadsModel" (135 : Nat) (100000000000000000 : Int64)) ∈ lw_all := lw_g (lw_at lw_m13 199 rfl) rfl
theorem q3206 : (Jvm.Cond.methodLink "FreightRoadsModel" (107 : Nat) ({ cls := "FreightRoadsModel", name := "many", desc := "()I" } : Jvm.MethodName)) ∈ lw_all := lw_g (lw_at lw_m13 200 rfl) rfl
theorem q3207 : (Jvm.Cond.privateMethod ({ cls := "FreightRoadsModel", name := "many", desc := "()I" } : Jvm.MethodName)) ∈ lw_tbl := lw_at lw_m13 201 rfl
theorem q3208 : (Jvm.Cond.instanceMethod ({ cls := "FreightRoadsModel", name := "many", desc := "()I" } : Jvm.MethodName)) ∈ lw_all := lw_g (lw_at lw_m13 202 rfl) rfl
theorem q3209 : (Jvm.Cond.code ({ cls := "FreightRoadsModel", name := "many", desc := "()I" } : Jvm.MethodName) prog_17_method_4_code (1 : Nat) (Option.some Jvm.ClassFile.FieldType.int)) ∈ lw_all := lw_g (lw_at lw_m13 203 rfl) rfl
theorem q3210 : (Jvm.Cond.methodLink "FreightRoadsModel" (145 : Nat) ({ cls := "FreightRoadsModel", name := "lies", desc := "(IIIIIJ)V" } : Jvm.MethodName)) ∈ lw_all := lw_g (lw_at lw_m13 204 rfl) rfl
theorem q3211 : (Jvm.Cond.privateMethod ({ cls := "FreightRoadsModel", name := "lies", desc := "(IIIIIJ)V" } : Jvm.MethodName)) ∈ lw_tbl := lw_at lw_m13 205 rfl
theorem q3212 : (Jvm.Cond.instanceMethod ({ cls := "FreightRoadsModel", name := "lies", desc := "(IIIIIJ)V" } : Jvm.MethodName)) ∈ lw_all := lw_g (lw_at lw_m13 206 rfl) rfl
theorem q3213 : (Jvm.Cond.code ({ cls := "FreightRoadsModel", name := "lies", desc := "(IIIIIJ)V" } : Jvm.MethodName) prog_17_method_19_code (9 : Nat) (Option.none : Option Jvm.ClassFile.FieldType)) ∈ lw_all := lw_g (lw_at lw_m13 207 rfl) rfl
theorem q3215 : (Jvm.Cond.instanceMethod ({ cls := "FreightRoadsModel", name := "alter", desc := "(IIIJ)I" } : Jvm.MethodName)) ∈ lw_all := lw_g (lw_at lw_m13 209 rfl) rfl
theorem q3216 : (Jvm.Cond.selects "FreightRoadsModel" ({ cls := "FreightRoadsModel", name := "alter", desc := "(IIIJ)I" } : Jvm.MethodName) ({ cls := "FreightRoadsModel", name := "alter", desc := "(IIIJ)I" } : Jvm.MethodName)) ∈ lw_all := lw_g (lw_at lw_m13 210 rfl) rfl
theorem q3217 : (Jvm.Cond.code ({ cls := "FreightRoadsModel", name := "alter", desc := "(IIIJ)I" } : Jvm.MethodName) prog_17_method_21_code (6 : Nat) (Option.some Jvm.ClassFile.FieldType.int)) ∈ lw_all := lw_g (lw_at lw_m13 211 rfl) rfl
theorem q3218 : (Jvm.Cond.methodLink "FreightRoadsModel" (149 : Nat) ({ cls := "FreightRoadsModel", name := "isRoad", desc := "(I)Z" } : Jvm.MethodName)) ∈ lw_all := lw_g (lw_at lw_m13 212 rfl) rfl
theorem q3219 : (Jvm.Cond.privateMethod ({ cls := "FreightRoadsModel", name := "isRoad", desc := "(I)Z" } : Jvm.MethodName)) ∈ lw_tbl := lw_at lw_m13 213 rfl
theorem q3220 : (Jvm.Cond.instanceMethod ({ cls := "FreightRoadsModel", name := "isRoad", desc := "(I)Z" } : Jvm.MethodName)) ∈ lw_all := lw_g (lw_at lw_m13 214 rfl) rfl
theorem q3221 : (Jvm.Cond.code ({ cls := "FreightRoadsModel", name := "isRoad", desc := "(I)Z" } : Jvm.MethodName) prog_17_method_7_code (2 : Nat) (Option.some Jvm.ClassFile.FieldType.boolean)) ∈ lw_all := lw_g (lw_at lw_m13 215 rfl) rfl
theorem q3222 : (Jvm.Cond.methodLink "FreightRoadsModel" (152 : Nat) ({ cls := "FreightRoadsModel", name := "from", desc := "(I)I" } : Jvm.MethodName)) ∈ lw_all := lw_g (lw_at lw_m13 216 rfl) rfl
theorem q3223 : (Jvm.Cond.privateMethod ({ cls := "FreightRoadsModel", name := "from", desc := "(I)I" } : Jvm.MethodName)) ∈ lw_tbl := lw_at lw_m13 217 rfl
theorem q3224 : (Jvm.Cond.instanceMethod ({ cls := "FreightRoadsModel", name := "from", desc := "(I)I" } : Jvm.MethodName)) ∈ lw_all := lw_g (lw_at lw_m13 218 rfl) rfl
theorem q3225 : (Jvm.Cond.code ({ cls := "FreightRoadsModel", name := "from", desc := "(I)I" } : Jvm.MethodName) prog_17_method_8_code (2 : Nat) (Option.some Jvm.ClassFile.FieldType.int)) ∈ lw_all := lw_g (lw_at lw_m13 219 rfl) rfl
theorem q3226 : (Jvm.Cond.methodLink "FreightRoadsModel" (156 : Nat) ({ cls := "FreightRoadsModel", name := "to", desc := "(I)I" } : Jvm.MethodName)) ∈ lw_all := lw_g (lw_at lw_m13 220 rfl) rfl
theorem q3227 : (Jvm.Cond.privateMethod ({ cls := "FreightRoadsModel", name := "to", desc := "(I)I" } : Jvm.MethodName)) ∈ lw_tbl := lw_at lw_m13 221 rfl
theorem q3228 : (Jvm.Cond.instanceMethod ({ cls := "FreightRoadsModel", name := "to", desc := "(I)I" } : Jvm.MethodName)) ∈ lw_all := lw_g (lw_at lw_m13 222 rfl) rfl
theorem q3229 : (Jvm.Cond.code ({ cls := "FreightRoadsModel", name := "to", desc := "(I)I" } : Jvm.MethodName) prog_17_method_9_code (2 : Nat) (Option.some Jvm.ClassFile.FieldType.int)) ∈ lw_all := lw_g (lw_at lw_m13 223 rfl) rfl
theorem q3231 : (Jvm.Cond.instanceMethod ({ cls := "FreightRoadsModel", name := "close", desc := "(I)I" } : Jvm.MethodName)) ∈ lw_all := lw_g (lw_at lw_m13 225 rfl) rfl
theorem q3232 : (Jvm.Cond.selects "FreightRoadsModel" ({ cls := "FreightRoadsModel", name := "close", desc := "(I)I" } : Jvm.MethodName) ({ cls := "FreightRoadsModel", name := "close", desc := "(I)I" } : Jvm.MethodName)) ∈ lw_all := lw_g (lw_at lw_m13 226 rfl) rfl
theorem q3233 : (Jvm.Cond.code ({ cls := "FreightRoadsModel", name := "close", desc := "(I)I" } : Jvm.MethodName) prog_17_method_23_code (2 : Nat) (Option.some Jvm.ClassFile.FieldType.int)) ∈ lw_all := lw_g (lw_at lw_m13 227 rfl) rfl
theorem q3234 : (Jvm.Cond.methodLink "FreightRoadsModel" (165 : Nat) ({ cls := "FreightRoadsModel", name := "closes", desc := "(I)V" } : Jvm.MethodName)) ∈ lw_all := lw_g (lw_at lw_m13 228 rfl) rfl
theorem q3235 : (Jvm.Cond.privateMethod ({ cls := "FreightRoadsModel", name := "closes", desc := "(I)V" } : Jvm.MethodName)) ∈ lw_tbl := lw_at lw_m13 229 rfl
theorem q3236 : (Jvm.Cond.instanceMethod ({ cls := "FreightRoadsModel", name := "closes", desc := "(I)V" } : Jvm.MethodName)) ∈ lw_all := lw_g (lw_at lw_m13 230 rfl) rfl
theorem q3237 : (Jvm.Cond.code ({ cls := "FreightRoadsModel", name := "closes", desc := "(I)V" } : Jvm.MethodName) prog_17_method_22_code (3 : Nat) (Option.none : Option Jvm.ClassFile.FieldType)) ∈ lw_all := lw_g (lw_at lw_m13 231 rfl) rfl
theorem q3238 : (Jvm.Cond.methodLink "FreightRoadsModel" (159 : Nat) ({ cls := "FreightRoadsModel", name := "low", desc := "(I)I" } : Jvm.MethodName)) ∈ lw_all := lw_g (lw_at lw_m13 232 rfl) rfl
theorem q3239 : (Jvm.Cond.privateMethod ({ cls := "FreightRoadsModel", name := "low", desc := "(I)I" } : Jvm.MethodName)) ∈ lw_tbl := lw_at lw_m13 233 rfl
theorem q3240 : (Jvm.Cond.instanceMethod ({ cls := "FreightRoadsModel", name := "low", desc := "(I)I" } : Jvm.MethodName)) ∈ lw_all := lw_g (lw_at lw_m13 234 rfl) rfl
theorem q3241 : (Jvm.Cond.code ({ cls := "FreightRoadsModel", name := "low", desc := "(I)I" } : Jvm.MethodName) prog_17_method_10_code (2 : Nat) (Option.some Jvm.ClassFile.FieldType.int)) ∈ lw_all := lw_g (lw_at lw_m13 235 rfl) rfl
theorem q3242 : (Jvm.Cond.methodLink "FreightRoadsModel" (162 : Nat) ({ cls := "FreightRoadsModel", name := "most", desc := "(I)I" } : Jvm.MethodName)) ∈ lw_all := lw_g (lw_at lw_m13 236 rfl) rfl
theorem q3243 : (Jvm.Cond.privateMethod ({ cls := "FreightRoadsModel", name := "most", desc := "(I)I" } : Jvm.MethodName)) ∈ lw_tbl := lw_at lw_m13 237 rfl
theorem q3244 : (Jvm.Cond.instanceMethod ({ cls := "FreightRoadsModel", name := "most", desc := "(I)I" } : Jvm.MethodName)) ∈ lw_all := lw_g (lw_at lw_m13 238 rfl) rfl
theorem q3245 : (Jvm.Cond.code ({ cls := "FreightRoadsModel", name := "most", desc := "(I)I" } : Jvm.MethodName) prog_17_method_11_code (2 : Nat) (Option.some Jvm.ClassFile.FieldType.int)) ∈ lw_all := lw_g (lw_at lw_m13 239 rfl) rfl
theorem q3247 : (Jvm.Cond.instanceMethod ({ cls := "FreightRoadsModel", name := "of", desc := "(II)J" } : Jvm.MethodName)) ∈ lw_all := lw_g (lw_at lw_m14 1 rfl) rfl
theorem q3248 : (Jvm.Cond.selects "FreightRoadsModel" ({ cls := "FreightRoadsModel", name := "of", desc := "(II)J" } : Jvm.MethodName) ({ cls := "FreightRoadsModel", name := "of", desc := "(II)J" } : Jvm.MethodName)) ∈ lw_all := lw_g (lw_at lw_m14 2 rfl) rfl
theorem q3249 : (Jvm.Cond.code ({ cls := "FreightRoadsModel", name := "of", desc := "(II)J" } : Jvm.MethodName) prog_17_method_24_code (3 : Nat) (Option.some Jvm.ClassFile.FieldType.long)) ∈ lw_all := lw_g (lw_at lw_m14 3 rfl) rfl
theorem q3250 : (Jvm.Cond.constantLong "FreightRoadsModel" (169 : Nat) (-9223372036854775808 : Int64)) ∈ lw_all := lw_g (lw_at lw_m14 4 rfl) rfl
theorem q3252 : (Jvm.Cond.instanceMethod ({ cls := "FreightRoadsModel", name := "feed", desc := "(I)I" } : Jvm.MethodName)) ∈ lw_all := lw_g (lw_at lw_m14 6 rfl) rfl
theorem q3253 : (Jvm.Cond.selects "FreightRoadsModel" ({ cls := "FreightRoadsModel", name := "feed", desc := "(I)I" } : Jvm.MethodName) ({ cls := "FreightRoadsModel", name := "feed", desc := "(I)I" } : Jvm.MethodName)) ∈ lw_all := lw_g (lw_at lw_m14 7 rfl) rfl
theorem q3254 : (Jvm.Cond.code ({ cls := "FreightRoadsModel", name := "feed", desc := "(I)I" } : Jvm.MethodName) prog_17_method_25_code (2 : Nat) (Option.some Jvm.ClassFile.FieldType.int)) ∈ lw_all := lw_g (lw_at lw_m14 8 rfl) rfl
theorem q3255 : (Jvm.Cond.constantLong "FreightRoadsModel" (171 : Nat) (127 : Int64)) ∈ lw_all := lw_g (lw_at lw_m14 9 rfl) rfl
theorem q3257 : (Jvm.Cond.instanceMethod ({ cls := "FreightRoadsModel", name := "clear", desc := "()I" } : Jvm.MethodName)) ∈ lw_all := lw_g (lw_at lw_m14 11 rfl) rfl
theorem q3258 : (Jvm.Cond.selects "FreightRoadsModel" ({ cls := "FreightRoadsModel", name := "clear", desc := "()I" } : Jvm.MethodName) ({ cls := "FreightRoadsModel", name := "clear", desc := "()I" } : Jvm.MethodName)) ∈ lw_all := lw_g (lw_at lw_m14 12 rfl) rfl
theorem q3259 : (Jvm.Cond.code ({ cls := "FreightRoadsModel", name := "clear", desc := "()I" } : Jvm.MethodName) prog_17_method_26_code (2 : Nat) (Option.some Jvm.ClassFile.FieldType.int)) ∈ lw_all := lw_g (lw_at lw_m14 13 rfl) rfl
theorem q3261 : (Jvm.Cond.instanceMethod ({ cls := "FreightRoadsModel", name := "roads", desc := "()I" } : Jvm.MethodName)) ∈ lw_all := lw_g (lw_at lw_m14 15 rfl) rfl
theorem q3262 : (Jvm.Cond.selects "FreightRoadsModel" ({ cls := "FreightRoadsModel", name := "roads", desc := "()I" } : Jvm.MethodName) ({ cls := "FreightRoadsModel", name := "roads", desc := "()I" } : Jvm.MethodName)) ∈ lw_all := lw_g (lw_at lw_m14 16 rfl) rfl
theorem q3263 : (Jvm.Cond.code ({ cls := "FreightRoadsModel", name := "roads", desc := "()I" } : Jvm.MethodName) prog_17_method_36_code (3 : Nat) (Option.some Jvm.ClassFile.FieldType.int)) ∈ lw_all := lw_g (lw_at lw_m14 17 rfl) rfl
theorem q3264 : (Jvm.Cond.methodLink "FreightRoadsModel" (211 : Nat) ({ cls := "FreightRoadsModel", name := "reads", desc := "(Z)I" } : Jvm.MethodName)) ∈ lw_all := lw_g (lw_at lw_m14 18 rfl) rfl
theorem q3265 : (Jvm.Cond.privateMethod ({ cls := "FreightRoadsModel", name := "reads", desc := "(Z)I" } : Jvm.MethodName)) ∈ lw_tbl := lw_at lw_m14 19 rfl
theorem q3266 : (Jvm.Cond.instanceMethod ({ cls := "FreightRoadsModel", name := "reads", desc := "(Z)I" } : Jvm.MethodName)) ∈ lw_all := lw_g (lw_at lw_m14 20 rfl) rfl
theorem q3267 : (Jvm.Cond.code ({ cls := "FreightRoadsModel", name := "reads", desc := "(Z)I" } : Jvm.MethodName) prog_17_method_35_code (4 : Nat) (Option.some Jvm.ClassFile.FieldType.int)) ∈ lw_all := lw_g (lw_at lw_m14 21 rfl) rfl
theorem q3268 : (Jvm.Cond.methodLink "FreightRoadsModel" (205 : Nat) ({ cls := "FreightRoadsModel", name := "readRoad", desc := "(I)V" } : Jvm.MethodName)) ∈ lw_all := lw_g (lw_at lw_m14 22 rfl) rfl
theorem q3269 : (Jvm.Cond.privateMethod ({ cls := "FreightRoadsModel", name := "readRoad", desc := "(I)V" } : Jvm.MethodName)) ∈ lw_tbl := lw_at lw_m14 23 rfl
theorem q3270 : (Jvm.Cond.instanceMethod ({ cls := "FreightRoadsModel", name := "readRoad", desc := "(I)V" } : Jvm.MethodName)) ∈ lw_all := lw_g (lw_at lw_m14 24 rfl) rfl
theorem q3271 : (Jvm.Cond.code ({ cls := "FreightRoadsModel", name := "readRoad", desc := "(I)V" } : Jvm.MethodName) prog_17_method_33_code (10 : Nat) (Option.none : Option Jvm.ClassFile.FieldType)) ∈ lw_all := lw_g (lw_at lw_m14 25 rfl) rfl
theorem q3272 : (Jvm.Cond.methodLink "FreightRoadsModel" (185 : Nat) ({ cls := "FreightRoadsModel", name := "wrong", desc := "(I)V" } : Jvm.MethodName)) ∈ lw_all := lw_g (lw_at lw_m14 26 rfl) rfl
theorem q3273 : (Jvm.Cond.privateMethod ({ cls := "FreightRoadsModel", name := "wrong", desc := "(I)V" } : Jvm.MethodName)) ∈ lw_tbl := lw_at lw_m14 27 rfl
theorem q3274 : (Jvm.Cond.instanceMethod ({ cls := "FreightRoadsModel", name := "wrong", desc := "(I)V" } : Jvm.MethodName)) ∈ lw_all := lw_g (lw_at lw_m14 28 rfl) rfl
theorem q3275 : (Jvm.Cond.code ({ cls := "FreightRoadsModel", name := "wrong", desc := "(I)V" } : Jvm.MethodName) prog_17_method_27_code (2 : Nat) (Option.none : Option Jvm.ClassFile.FieldType)) ∈ lw_all := lw_g (lw_at lw_m14 29 rfl) rfl
theorem q3276 : (Jvm.Cond.methodLink "FreightRoadsModel" (199 : Nat) ({ cls := "FreightRoadsModel", name := "town", desc := "(I)I" } : Jvm.MethodName)) ∈ lw_all := lw_g (lw_at lw_m14 30 rfl) rfl
theorem q3277 : (Jvm.Cond.privateMethod ({ cls := "FreightRoadsModel", name := "town", desc := "(I)I" } : Jvm.MethodName)) ∈ lw_tbl := lw_at lw_m14 31 rfl
theorem q3278 : (Jvm.Cond.instanceMethod ({ cls := "FreightRoadsModel", name := "town", desc := "(I)I" } : Jvm.MethodName)) ∈ lw_all := lw_g (lw_at lw_m14 32 rfl) rfl
theorem q3279 : (Jvm.Cond.code ({ cls := "FreightRoadsModel", name := "town", desc := "(I)I" } : Jvm.MethodName) prog_17_method_32_code (4 : Nat) (Option.some Jvm.ClassFile.FieldType.int)) ∈ lw_all := lw_g (lw_at lw_m14 33 rfl) rfl
theorem q3280 : (Jvm.Cond.methodLink "FreightRoadsModel" (196 : Nat) ({ cls := "FreightRoadsModel", name := "number", desc := "(I)I" } : Jvm.MethodName)) ∈ lw_all := lw_g (lw_at lw_m14 34 rfl) rfl
theorem q3281 : (Jvm.Cond.privateMethod ({ cls := "FreightRoadsModel", name := "number", desc := "(I)I" } : Jvm.MethodName)) ∈ lw_tbl := lw_at lw_m14 35 rfl
theorem q3282 : (Jvm.Cond.instanceMethod ({ cls := "FreightRoadsModel", name := "number", desc := "(I)I" } : Jvm.MethodName)) ∈ lw_all := lw_g (lw_at lw_m14 36 rfl) rfl
theorem q3283 : (Jvm.Cond.code ({ cls := "FreightRoadsModel", name := "number", desc := "(I)I" } : Jvm.MethodName) prog_17_method_31_code (4 : Nat) (Option.some Jvm.ClassFile.FieldType.int)) ∈ lw_all := lw_g (lw_at lw_m14 37 rfl) rfl
theorem q3284 : (Jvm.Cond.methodLink "FreightRoadsModel" (192 : Nat) ({ cls := "FreightRoadsModel", name := "isFigure", desc := "()Z" } : Jvm.MethodName)) ∈ lw_all := lw_g (lw_at lw_m14 38 rfl) rfl
theorem q3285 : (Jvm.Cond.privateMethod ({ cls := "FreightRoadsModel", name := "isFigure", desc := "()Z" } : Jvm.MethodName)) ∈ lw_tbl := lw_at lw_m14 39 rfl
theorem q3286 : (Jvm.Cond.instanceMethod ({ cls := "FreightRoadsModel", name := "isFigure", desc := "()Z" } : Jvm.MethodName)) ∈ lw_all := lw_g (lw_at lw_m14 40 rfl) rfl
theorem q3287 : (Jvm.Cond.code ({ cls := "FreightRoadsModel", name := "isFigure", desc := "()Z" } : Jvm.MethodName) prog_17_method_30_code (1 : Nat) (Option.some Jvm.ClassFile.FieldType.boolean)) ∈ lw_all := lw_g (lw_at lw_m14 41 rfl) rfl
theorem q3288 : (Jvm.Cond.constantLong "FreightRoadsModel" (188 : Nat) (48 : Int64)) ∈ lw_all := lw_g (lw_at lw_m14 42 rfl) rfl
theorem q3289 : (Jvm.Cond.constantLong "FreightRoadsModel" (190 : Nat) (57 : Int64)) ∈ lw_all := lw_g (lw_at lw_m14 43 rfl) rfl
theorem q3290 : (Jvm.Cond.methodLink "FreightRoadsModel" (202 : Nat) ({ cls := "FreightRoadsModel", name := "needs", desc := "(I)V" } : Jvm.MethodName)) ∈ lw_all := lw_g (lw_at lw_m14 44 rfl) rfl
theorem q3291 : (Jvm.Cond.privateMethod ({ cls := "FreightRoadsModel", name := "needs", desc := "(I)V" } : Jvm.MethodName)) ∈ lw_tbl := lw_at lw_m14 45 rfl
theorem q3292 : (Jvm.Cond.instanceMethod ({ cls := "FreightRoadsModel", name := "needs", desc := "(I)V" } : Jvm.MethodName)) ∈ lw_all := lw_g (lw_at lw_m14 46 rfl) rfl
theorem q3293 : (Jvm.Cond.code ({ cls := "FreightRoadsModel", name := "needs", desc := "(I)V" } : Jvm.MethodName) prog_17_method_29_code (2 : Nat) (Option.none : Option Jvm.ClassFile.FieldType)) ∈ lw_all := lw_g (lw_at lw_m14 47 rfl) rfl
theorem q3294 : (Jvm.Cond.methodLink "FreightRoadsModel" (182 : Nat) ({ cls := "FreightRoadsModel", name := "is", desc := "(I)Z" } : Jvm.MethodName)) ∈ lw_all := lw_g (lw_at lw_m14 48 rfl) rfl
theorem q3295 : (Jvm.Cond.privateMethod ({ cls := "FreightRoadsModel", name := "is", desc := "(I)Z" } : Jvm.MethodName)) ∈ lw_tbl := lw_at lw_m14 49 rfl
theorem q3296 : (Jvm.Cond.instanceMethod ({ cls := "FreightRoadsModel", name := "is", desc := "(I)Z" } : Jvm.MethodName)) ∈ lw_all := lw_g (lw_at lw_m14 50 rfl) rfl
theorem q3297 : (Jvm.Cond.code ({ cls := "FreightRoadsModel", name := "is", desc := "(I)Z" } : Jvm.MethodName) prog_17_method_28_code (2 : Nat) (Option.some Jvm.ClassFile.FieldType.boolean)) ∈ lw_all := lw_g (lw_at lw_m14 51 rfl) rfl
theorem q3298 : (Jvm.Cond.methodLink "FreightRoadsModel" (208 : Nat) ({ cls := "FreightRoadsModel", name := "readSupply", desc := "()V" } : Jvm.MethodName)) ∈ lw_all := lw_g (lw_at lw_m14 52 rfl) rfl
theorem q3299 : (Jvm.Cond.privateMethod ({ cls := "FreightRoadsModel", name := "readSupply", desc := "()V" } : Jvm.MethodName)) ∈ lw_tbl := lw_at lw_m14 53 rfl
theorem q3300 : (Jvm.Cond.instanceMethod ({ cls := "FreightRoadsModel", name := "readSupply", desc := "()V" } : Jvm.MethodName)) ∈ lw_all := lw_g (lw_at lw_m14 54 rfl) rfl
theorem q3301 : (Jvm.Cond.code ({ cls := "FreightRoadsModel", name := "readSupply", desc := "()V" } : Jvm.MethodName) prog_17_method_34_code (4 : Nat) (Option.none : Option Jvm.ClassFile.FieldType)) ∈ lw_all := lw_g (lw_at lw_m14 55 rfl) rfl
theorem q3303 : (Jvm.Cond.instanceMethod ({ cls := "FreightRoadsModel", name := "supplies", desc := "()I" } : Jvm.MethodName)) ∈ lw_all := lw_g (lw_at lw_m14 57 rfl) rfl
theorem q3304 : (Jvm.Cond.selects "FreightRoadsModel" ({ cls := "FreightRoadsModel", name := "supplies", desc := "()I" } : Jvm.MethodName) ({ cls := "FreightRoadsModel", name := "supplies", desc := "()I" } : Jvm.MethodName)) ∈ lw_all := lw_g (lw_at lw_m14 58 rfl) rfl
theorem q3305 : (Jvm.Cond.code ({ cls := "FreightRoadsModel", name := "supplies", desc := "()I" } : Jvm.MethodName) prog_17_method_37_code (3 : Nat) (Option.some Jvm.ClassFile.FieldType.int)) ∈ lw_all := lw_g (lw_at lw_m14 59 rfl) rfl
theorem q3307 : (Jvm.Cond.instanceMethod ({ cls := "FreightRoadsModel", name := "is", desc := "()I" } : Jvm.MethodName)) ∈ lw_all := lw_g (lw_at lw_m14 61 rfl) rfl
theorem q3308 : (Jvm.Cond.selects "FreightRoadsModel" ({ cls := "FreightRoadsModel", name := "is", desc := "()I" } : Jvm.MethodName) ({ cls := "FreightRoadsModel", name := "is", desc := "()I" } : Jvm.MethodName)) ∈ lw_all := lw_g (lw_at lw_m14 62 rfl) rfl
theorem q3309 : (Jvm.Cond.code ({ cls := "FreightRoadsModel", name := "is", desc := "()I" } : Jvm.MethodName) prog_17_method_55_code (1 : Nat) (Option.some Jvm.ClassFile.FieldType.int)) ∈ lw_all := lw_g (lw_at lw_m14 63 rfl) rfl
theorem q3310 : (Jvm.Cond.methodLink "FreightRoadsModel" (272 : Nat) ({ cls := "FreightRoadsModel", name := "flows", desc := "()Z" } : Jvm.MethodName)) ∈ lw_all := lw_g (lw_at lw_m14 64 rfl) rfl
theorem q3311 : (Jvm.Cond.privateMethod ({ cls := "FreightRoadsModel", name := "flows", desc := "()Z" } : Jvm.MethodName)) ∈ lw_tbl := lw_at lw_m14 65 rfl
theorem q3312 : (Jvm.Cond.instanceMethod ({ cls := "FreightRoadsModel", name := "flows", desc := "()Z" } : Jvm.MethodName)) ∈ lw_all := lw_g (lw_at lw_m14 66 rfl) rfl
theorem q3313 : (Jvm.Cond.code ({ cls := "FreightRoadsModel", name := "flows", desc := "()Z" } : Jvm.MethodName) prog_17_method_50_code (3 : Nat) (Option.some Jvm.ClassFile.FieldType.boolean)) ∈ lw_all := lw_g (lw_at lw_m14 67 rfl) rfl
theorem q3314 : (Jvm.Cond.methodLink "FreightRoadsModel" (247 : Nat) ({ cls := "FreightRoadsModel", name := "isCheap", desc := "()Z" } : Jvm.MethodName)) ∈ lw_all := lw_g (lw_at lw_m14 68 rfl) rfl
theorem q3315 : (Jvm.Cond.privateMethod ({ cls := "FreightRoadsModel", name := "isCheap", desc := "()Z" } : Jvm.MethodName)) ∈ lw_tbl := lw_at lw_m14 69 rfl
theorem q3316 : (Jvm.Cond.instanceMethod ({ cls := "FreightRoadsModel", name := "isCheap", desc := "()Z" } : Jvm.MethodName)) ∈ lw_all := lw_g (lw_at lw_m14 70 rfl) rfl
theorem q3317 : (Jvm.Cond.code ({ cls := "FreightRoadsModel", name := "isCheap", desc := "()Z" } : Jvm.MethodName) prog_17_method_46_code (2 : Nat) (Option.some Jvm.ClassFile.FieldType.boolean)) ∈ lw_all := lw_g (lw_at lw_m14 71 rfl) rfl
theorem q3318 : (Jvm.Cond.methodLink "FreightRoadsModel" (235 : Nat) ({ cls := "FreightRoadsModel", name := "balance", desc := "()V" } : Jvm.MethodName)) ∈ lw_all := lw_g (lw_at lw_m14 72 rfl) rfl
theorem q3319 : (Jvm.Cond.privateMethod ({ cls := "FreightRoadsModel", name := "balance", desc := "()V" } : Jvm.MethodName)) ∈ lw_tbl := lw_at lw_m14 73 rfl
theorem q3320 : (Jvm.Cond.instanceMethod ({ cls := "FreightRoadsModel", name := "balance", desc := "()V" } : Jvm.MethodName)) ∈ lw_all := lw_g (lw_at lw_m14 74 rfl) rfl
theorem q3321 : (Jvm.Cond.code ({ cls := "FreightRoadsModel", name := "balance", desc := "()V" } : Jvm.MethodName) prog_17_method_43_code (2 : Nat) (Option.none : Option Jvm.ClassFile.FieldType)) ∈ lw_all := lw_g (lw_at lw_m14 75 rfl) rfl
theorem q3322 : (Jvm.Cond.methodLink "FreightRoadsModel" (238 : Nat) ({ cls := "FreightRoadsModel", name := "sends", desc := "(I)Z" } : Jvm.MethodName)) ∈ lw_all := lw_g (lw_at lw_m14 76 rfl) rfl
theorem q3323 : (Jvm.Cond.privateMethod ({ cls := "FreightRoadsModel", name := "sends", desc := "(I)Z" } : Jvm.MethodName)) ∈ lw_tbl := lw_at lw_m14 77 rfl
theorem q3324 : (Jvm.Cond.instanceMethod ({ cls := "FreightRoadsModel", name := "sends", desc := "(I)Z" } : Jvm.MethodName)) ∈ lw_all := lw_g (lw_at lw_m14 78 rfl) rfl
theorem q3325 : (Jvm.Cond.code ({ cls := "FreightRoadsModel", name := "sends", desc := "(I)Z" } : Jvm.MethodName) prog_17_method_44_code (5 : Nat) (Option.some Jvm.ClassFile.FieldType.boolean)) ∈ lw_all := lw_g (lw_at lw_m14 79 rfl) rfl
theorem q3326 : (Jvm.Cond.methodLink "FreightRoadsModel" (228 : Nat) ({ cls := "FreightRoadsModel", name := "reaches", desc := "(I)V" } : Jvm.MethodName)) ∈ lw_all := lw_g (lw_at lw_m14 80 rfl) rfl
theorem q3327 : (Jvm.Cond.privateMethod ({ cls := "FreightRoadsModel", name := "reaches", desc := "(I)V" } : Jvm.MethodName)) ∈ lw_tbl := lw_at lw_m14 81 rfl
theorem q3328 : (Jvm.Cond.instanceMethod ({ cls := "FreightRoadsModel", name := "reaches", desc := "(I)V" } : Jvm.MethodName)) ∈ lw_all := lw_g (lw_at lw_m14 82 rfl) rfl
theorem q3329 : (Jvm.Cond.code ({ cls := "FreightRoadsModel", name := "reaches", desc := "(I)V" } : Jvm.MethodName) prog_17_method_42_code (6 : Nat) (Option.none : Option Jvm.ClassFile.FieldType)) ∈ lw_all := lw_g (lw_at lw_m14 83 rfl) rfl
theorem q3330 : (Jvm.Cond.constantLong "FreightRoadsModel" (215 : Nat) (9223372036854775807 : Int64)) ∈ lw_all := lw_g (lw_at lw_m14 84 rfl) rfl
theorem q3331 : (Jvm.Cond.methodLink "FreightRoadsModel" (217 : Nat) ({ cls := "FreightRoadsModel", name := "leads", desc := "(IZ)I" } : Jvm.MethodName)) ∈ lw_all := lw_g (lw_at lw_m14 85 rfl) rfl
theorem q3332 : (Jvm.Cond.privateMethod ({ cls := "FreightRoadsModel", name := "leads", desc := "(IZ)I" } : Jvm.MethodName)) ∈ lw_tbl := lw_at lw_m14 86 rfl
theorem q3333 : (Jvm.Cond.instanceMethod ({ cls := "FreightRoadsModel", name := "leads", desc := "(IZ)I" } : Jvm.MethodName)) ∈ lw_all := lw_g (lw_at lw_m14 87 rfl) rfl
theorem q3334 : (Jvm.Cond.code ({ cls := "FreightRoadsModel", name := "leads", desc := "(IZ)I" } : Jvm.MethodName) prog_17_method_38_code (3 : Nat) (Option.some Jvm.ClassFile.FieldType.int)) ∈ lw_all := lw_g (lw_at lw_m14 88 rfl) rfl
theorem q3335 : (Jvm.Cond.methodLink "FreightRoadsModel" (221 : Nat) ({ cls := "FreightRoadsModel", name := "room", desc := "(I)I" } : Jvm.MethodName)) ∈ lw_all := lw_g (lw_at lw_m14 89 rfl) rfl
theorem q3336 : (Jvm.Cond.privateMethod ({ cls := "FreightRoadsModel", name := "room", desc := "(I)I" } : Jvm.MethodName)) ∈ lw_tbl := lw_at lw_m14 90 rfl
theorem q3337 : (Jvm.Cond.instanceMethod ({ cls := "FreightRoadsModel", name := "room", desc := "(I)I" } : Jvm.MethodName)) ∈ lw_all := lw_g (lw_at lw_m14 91 rfl) rfl
theorem q3338 : (Jvm.Cond.code ({ cls := "FreightRoadsModel", name := "room", desc := "(I)I" } : Jvm.MethodName) prog_17_method_39_code (3 : Nat) (Option.some Jvm.ClassFile.FieldType.int)) ∈ lw_all := lw_g (lw_at lw_m14 92 rfl) rfl
theorem q3339 : (Jvm.Cond.methodLink "FreightRoadsModel" (224 : Nat) ({ cls := "FreightRoadsModel", name := "costOf", desc := "(I)J" } : Jvm.MethodName)) ∈ lw_all := lw_g (lw_at lw_m14 93 rfl) rfl
theorem q3340 : (Jvm.Cond.privateMethod ({ cls := "FreightRoadsModel", name := "costOf", desc := "(I)J" } : Jvm.MethodName)) ∈ lw_tbl := lw_at lw_m14 94 rfl
theorem q3341 : (Jvm.Cond.instanceMethod ({ cls := "FreightRoadsModel", name := "costOf", desc := "(I)J" } : Jvm.MethodName)) ∈ lw_all := lw_g (lw_at lw_m14 95 rfl) rfl
theorem q3342 : (Jvm.Cond.code ({ cls := "FreightRoadsModel", name := "costOf", desc := "(I)J" } : Jvm.MethodName) prog_17_method_40_code (2 : Nat) (Option.some Jvm.ClassFile.FieldType.long)) ∈ lw_all := lw_g (lw_at lw_m14 96 rfl) rfl
theorem q3343 : (Jvm.Cond.methodLink "FreightRoadsModel" (231 : Nat) ({ cls := "FreightRoadsModel", name := "goes", desc := "(II)V" } : Jvm.MethodName)) ∈ lw_all := lw_g (lw_at lw_m14 97 rfl) rfl
theorem q3344 : (Jvm.Cond.privateMethod ({ cls := "FreightRoadsModel", name := "goes", desc := "(II)V" } : Jvm.MethodName)) ∈ lw_tbl := lw_at lw_m14 98 rfl
theorem q3345 : (Jvm.Cond.instanceMethod ({ cls := "FreightRoadsModel", name := "goes", desc := "(II)V" } : Jvm.MethodName)) ∈ lw_all := lw_g (lw_at lw_m14 99 rfl) rfl
theorem q3346 : (Jvm.Cond.code ({ cls := "FreightRoadsModel", name := "goes", desc := "(II)V" } : Jvm.MethodName) prog_17_method_41_code (3 : Nat) (Option.none : Option Jvm.ClassFile.FieldType)) ∈ lw_all := lw_g (lw_at lw_m14 100 rfl) rfl
theorem q3347 : (Jvm.Cond.methodLink "FreightRoadsModel" (241 : Nat) ({ cls := "FreightRoadsModel", name := "supplied", desc := "()I" } : Jvm.MethodName)) ∈ lw_all := lw_g (lw_at lw_m14 101 rfl) rfl
theorem q3348 : (Jvm.Cond.privateMethod ({ cls := "FreightRoadsModel", name := "supplied", desc := "()I" } : Jvm.MethodName)) ∈ lw_tbl := lw_at lw_m14 102 rfl
theorem q3349 : (Jvm.Cond.instanceMethod ({ cls := "FreightRoadsModel", name := "supplied", desc := "()I" } : Jvm.MethodName)) ∈ lw_all := lw_g (lw_at lw_m14 103 rfl) rfl
theorem q3350 : (Jvm.Cond.code ({ cls := "FreightRoadsModel", name := "supplied", desc := "()I" } : Jvm.MethodName) prog_17_method_45_code (3 : Nat) (Option.some Jvm.ClassFile.FieldType.int)) ∈ lw_all := lw_g (lw_at lw_m14 104 rfl) rfl
theorem q3351 : (Jvm.Cond.methodLink "FreightRoadsModel" (250 : Nat) ({ cls := "FreightRoadsModel", name := "prices", desc := "()V" } : Jvm.MethodName)) ∈ lw_all := lw_g (lw_at lw_m14 105 rfl) rfl
theorem q3352 : (Jvm.Cond.privateMethod ({ cls := "FreightRoadsModel", name := "prices", desc := "()V" } : Jvm.MethodName)) ∈ lw_tbl := lw_at lw_m14 106 rfl
theorem q3353 : (Jvm.Cond.instanceMethod ({ cls := "FreightRoadsModel", name := "prices", desc := "()V" } : Jvm.MethodName)) ∈ lw_all := lw_g (lw_at lw_m14 107 rfl) rfl
theorem q3354 : (Jvm.Cond.code ({ cls := "FreightRoadsModel", name := "prices", desc := "()V" } : Jvm.MethodName) prog_17_method_47_code (5 : Nat) (Option.none : Option Jvm.ClassFile.FieldType)) ∈ lw_all := lw_g (lw_at lw_m14 108 rfl) rfl
theorem q3355 : (Jvm.Cond.methodLink "FreightRoadsModel" (253 : Nat) ({ cls := "FreightRoadsModel", name := "turns", desc := "(I)Z" } : Jvm.MethodName)) ∈ lw_all := lw_g (lw_at lw_m14 109 rfl) rfl
theorem q3356 : (Jvm.Cond.privateMethod ({ cls := "FreightRoadsModel", name := "turns", desc := "(I)Z" } : Jvm.MethodName)) ∈ lw_tbl := lw_at lw_m14 110 rfl
theorem q3357 : (Jvm.Cond.instanceMethod ({ cls := "FreightRoadsModel", name := "turns", desc := "(I)Z" } : Jvm.MethodName)) ∈ lw_all := lw_g (lw_at lw_m14 111 rfl) rfl
theorem q3358 : (Jvm.Cond.code ({ cls := "FreightRoadsModel", name := "turns", desc := "(I)Z" } : Jvm.MethodName) prog_17_method_49_code (5 : Nat) (Option.some Jvm.ClassFile.FieldType.boolean)) ∈ lw_all := lw_g (lw_at lw_m14 112 rfl) rfl
theorem q3359 : (Jvm.Cond.methodLink "FreightRoadsModel" (244 : Nat) ({ cls := "FreightRoadsModel", name := "isLevel", desc := "(I)Z" } : Jvm.MethodName)) ∈ lw_all := lw_g (lw_at lw_m14 113 rfl) rfl
theorem q3360 : (Jvm.Cond.privateMethod ({ cls := "FreightRoadsModel", name := "isLevel", desc := "(I)Z" } : Jvm.MethodName)) ∈ lw_tbl := lw_at lw_m14 114 rfl
theorem q3361 : (Jvm.Cond.instanceMethod ({ cls := "FreightRoadsModel", name := "isLevel", desc := "(I)Z" } : Jvm.MethodName)) ∈ lw_all := lw_g (lw_at lw_m14 115 rfl) rfl
theorem q3362 : (Jvm.Cond.code ({ cls := "FreightRoadsModel", name := "isLevel", desc := "(I)Z" } : Jvm.MethodName) prog_17_method_48_code (2 : Nat) (Option.some Jvm.ClassFile.FieldType.boolean)) ∈ lw_all := lw_g (lw_at lw_m14 116 rfl) rfl
theorem q3363 : (Jvm.Cond.methodLink "FreightRoadsModel" (275 : Nat) ({ cls := "FreightRoadsModel", name := "totals", desc := "()V" } : Jvm.MethodName)) ∈ lw_all := lw_g (lw_at lw_m14 117 rfl) rfl
theorem q3364 : (Jvm.Cond.privateMethod ({ cls := "FreightRoadsModel", name := "totals", desc := "()V" } : Jvm.MethodName)) ∈ lw_tbl := lw_at lw_m14 118 rfl
theorem q3365 : (Jvm.Cond.instanceMethod ({ cls := "FreightRoadsModel", name := "totals", desc := "()V" } : Jvm.MethodName)) ∈ lw_all := lw_g (lw_at lw_m14 119 rfl) rfl
theorem q3366 : (Jvm.Cond.code ({ cls := "FreightRoadsModel", name := "totals", desc := "()V" } : Jvm.MethodName) prog_17_method_53_code (5 : Nat) (Option.none : Option Jvm.ClassFile.FieldType)) ∈ lw_all := lw_g (lw_at lw_m14 120 rfl) rfl
theorem q3367 : (Jvm.Cond.methodLink "FreightRoadsModel" (268 : Nat) ({ cls := "FreightRoadsModel", name := "adds", desc := "(JI)V" } : Jvm.MethodName)) ∈ lw_all := lw_g (lw_at lw_m14 121 rfl) rfl
theorem q3368 : (Jvm.Cond.privateMethod ({ cls := "FreightRoadsModel", name := "adds", desc := "(JI)V" } : Jvm.MethodName)) ∈ lw_tbl := lw_at lw_m14 122 rfl
theorem q3369 : (Jvm.Cond.instanceMethod ({ cls := "FreightRoadsModel", name := "adds", desc := "(JI)V" } : Jvm.MethodName)) ∈ lw_all := lw_g (lw_at lw_m14 123 rfl) rfl
theorem q3370 : (Jvm.Cond.code ({ cls := "FreightRoadsModel", name := "adds", desc := "(JI)V" } : Jvm.MethodName) prog_17_method_52_code (5 : Nat) (Option.none : Option Jvm.ClassFile.FieldType)) ∈ lw_all := lw_g (lw_at lw_m14 124 rfl) rfl
theorem q3371 : (Jvm.Cond.methodLink "FreightRoadsModel" (264 : Nat) ({ cls := "FreightRoadsModel", name := "isBeyond", desc := "(JJ)Z" } : Jvm.MethodName)) ∈ lw_all := lw_g (lw_at lw_m14 125 rfl) rfl
theorem q3372 : (Jvm.Cond.static ({ cls := "FreightRoadsModel", name := "isBeyond", desc := "(JJ)Z" } : Jvm.MethodName)) ∈ lw_all := lw_g (lw_at lw_m14 126 rfl) rfl
theorem q3373 : (Jvm.Cond.code ({ cls := "FreightRoadsModel", name := "isBeyond", desc := "(JJ)Z" } : Jvm.MethodName) prog_17_method_51_code (6 : Nat) (Option.some Jvm.ClassFile.FieldType.boolean)) ∈ lw_all := lw_g (lw_at lw_m14 127 rfl) rfl
theorem q3375 : (Jvm.Cond.instanceMethod ({ cls := "FreightRoadsModel", name := "flow", desc := "(I)I" } : Jvm.MethodName)) ∈ lw_all := lw_g (lw_at lw_m14 129 rfl) rfl
theorem q3376 : (Jvm.Cond.selects "FreightRoadsModel" ({ cls := "FreightRoadsModel", name := "flow", desc := "(I)I" } : Jvm.MethodName) ({ cls := "FreightRoadsModel", name := "flow", desc := "(I)I" } : Jvm.MethodName)) ∈ lw_all := lw_g (lw_at lw_m14 130 rfl) rfl
theorem q3377 : (Jvm.Cond.code ({ cls := "FreightRoadsModel", name := "flow", desc := "(I)I" } : Jvm.MethodName) prog_17_method_56_code (2 : Nat) (Option.some Jvm.ClassFile.FieldType.int)) ∈ lw_all := lw_g (lw_at lw_m14 131 rfl) rfl
theorem q3379 : (Jvm.Cond.instanceMethod ({ cls := "FreightRoadsModel", name := "total", desc := "()J" } : Jvm.MethodName)) ∈ lw_all := lw_g (lw_at lw_m14 133 rfl) rfl
theorem q3380 : (Jvm.Cond.selects "FreightRoadsModel" ({ cls := "FreightRoadsModel", name := "total", desc := "()J" } : Jvm.MethodName) ({ cls := "FreightRoadsModel", name := "total", desc := "()J" } : Jvm.MethodName)) ∈ lw_all := lw_g (lw_at lw_m14 134 rfl) rfl
theorem q3381 : (Jvm.Cond.code ({ cls := "FreightRoadsModel", name := "total", desc := "()J" } : Jvm.MethodName) prog_17_method_57_code (1 : Nat) (Option.some Jvm.ClassFile.FieldType.long)) ∈ lw_all := lw_g (lw_at lw_m14 135 rfl) rfl
theorem q3382 : (Jvm.Cond.methodLink "FreightRoadsModel" (278 : Nat) ({ cls := "FreightRoadsModel", name := "isTotal", desc := "()Z" } : Jvm.MethodName)) ∈ lw_all := lw_g (lw_at lw_m14 136 rfl) rfl
theorem q3383 : (Jvm.Cond.privateMethod ({ cls := "FreightRoadsModel", name := "isTotal", desc := "()Z" } : Jvm.MethodName)) ∈ lw_tbl := lw_at lw_m14 137 rfl
theorem q3384 : (Jvm.Cond.instanceMethod ({ cls := "FreightRoadsModel", name := "isTotal", desc := "()Z" } : Jvm.MethodName)) ∈ lw_all := lw_g (lw_at lw_m14 138 rfl) rfl
theorem q3385 : (Jvm.Cond.code ({ cls := "FreightRoadsModel", name := "isTotal", desc := "()Z" } : Jvm.MethodName) prog_17_method_54_code (1 : Nat) (Option.some Jvm.ClassFile.FieldType.boolean)) ∈ lw_all := lw_g (lw_at lw_m14 139 rfl) rfl
theorem q3387 : (Jvm.Cond.instanceMethod ({ cls := "FreightRoadsModel", name := "price", desc := "(I)J" } : Jvm.MethodName)) ∈ lw_all := lw_g (lw_at lw_m14 141 rfl) rfl
theorem q3388 : (Jvm.Cond.selects "FreightRoadsModel" ({ cls := "FreightRoadsModel", name := "price", desc := "(I)J" } : Jvm.MethodName) ({ cls := "FreightRoadsModel", name := "price", desc := "(I)J" } : Jvm.MethodName)) ∈ lw_all := lw_g (lw_at lw_m14 142 rfl) rfl
theorem q3389 : (Jvm.Cond.code ({ cls := "FreightRoadsModel", name := "price", desc := "(I)J" } : Jvm.MethodName) prog_17_method_58_code (2 : Nat) (Option.some Jvm.ClassFile.FieldType.long)) ∈ lw_all := lw_g (lw_at lw_m14 143 rfl) rfl
theorem q3391 : (Jvm.Cond.instanceMethod ({ cls := "FreightRoadsModel", name := "reduced", desc := "(I)J" } : Jvm.MethodName)) ∈ lw_all := lw_g (lw_at lw_m14 145 rfl) rfl
theorem q3392 : (Jvm.Cond.selects "FreightRoadsModel" ({ cls := "FreightRoadsModel", name := "reduced", desc := "(I)J" } : Jvm.MethodName) ({ cls := "FreightRoadsModel", name := "reduced", desc := "(I)J" } : Jvm.MethodName)) ∈ lw_all := lw_g (lw_at lw_m14 146 rfl) rfl
theorem q3393 : (Jvm.Cond.code ({ cls := "FreightRoadsModel", name := "reduced", desc := "(I)J" } : Jvm.MethodName) prog_17_method_59_code (2 : Nat) (Option.some Jvm.ClassFile.FieldType.long)) ∈ lw_all := lw_g (lw_at lw_m14 147 rfl) rfl
theorem q3395 : (Jvm.Cond.instanceMethod ({ cls := "FreightRoadsModel", name := "dear", desc := "(I)I" } : Jvm.MethodName)) ∈ lw_all := lw_g (lw_at lw_m14 149 rfl) rfl
theorem q3396 : (Jvm.Cond.selects "FreightRoadsModel" ({ cls := "FreightRoadsModel", name := "dear", desc := "(I)I" } : Jvm.MethodName) ({ cls := "FreightRoadsModel", name := "dear", desc := "(I)I" } : Jvm.MethodName)) ∈ lw_all := lw_g (lw_at lw_m14 150 rfl) rfl
theorem q3397 : (Jvm.Cond.code ({ cls := "FreightRoadsModel", name := "dear", desc := "(I)I" } : Jvm.MethodName) prog_17_method_60_code (5 : Nat) (Option.some Jvm.ClassFile.FieldType.int)) ∈ lw_all := lw_g (lw_at lw_m14 151 rfl) rfl
theorem q3399 : (Jvm.Cond.instanceMethod ({ cls := "FreightRoadsModel", name := "cut", desc := "()I" } : Jvm.MethodName)) ∈ lw_all := lw_g (lw_at lw_m14 153 rfl) rfl
theorem q3400 : (Jvm.Cond.selects "FreightRoadsModel" ({ cls := "FreightRoadsModel", name := "cut", desc := "()I" } : Jvm.MethodName) ({ cls := "FreightRoadsModel", name := "cut", desc := "()I" } : Jvm.MethodName)) ∈ lw_all := lw_g (lw_at lw_m14 154 rfl) rfl
theorem q3401 : (Jvm.Cond.code ({ cls := "FreightRoadsModel", name := "cut", desc := "()I" } : Jvm.MethodName) prog_17_method_61_code (6 : Nat) (Option.some Jvm.ClassFile.FieldType.int)) ∈ lw_all := lw_g (lw_at lw_m14 155 rfl) rfl
theorem q3403 : (Jvm.Cond.instanceMethod ({ cls := "FreightRoadsModel", name := "step", desc := "(II)I" } : Jvm.MethodName)) ∈ lw_all := lw_g (lw_at lw_m14 157 rfl) rfl
theorem q3404 : (Jvm.Cond.selects "FreightRoadsModel" ({ cls := "FreightRoadsModel", name := "step", desc := "(II)I" } : Jvm.MethodName) ({ cls := "FreightRoadsModel", name := "step", desc := "(II)I" } : Jvm.MethodName)) ∈ lw_all := lw_g (lw_at lw_m14 158 rfl) rfl
theorem q3405 : (Jvm.Cond.code ({ cls := "FreightRoadsModel", name := "step", desc := "(II)I" } : Jvm.MethodName) prog_17_method_63_code (3 : Nat) (Option.some Jvm.ClassFile.FieldType.int)) ∈ lw_all := lw_g (lw_at lw_m14 159 rfl) rfl
theorem q3406 : (Jvm.Cond.methodLink "FreightRoadsModel" (281 : Nat) ({ cls := "FreightRoadsModel", name := "cheapest", desc := "(II)I" } : Jvm.MethodName)) ∈ lw_all := lw_g (lw_at lw_m14 160 rfl) rfl
theorem q3407 : (Jvm.Cond.privateMethod ({ cls := "FreightRoadsModel", name := "cheapest", desc := "(II)I" } : Jvm.MethodName)) ∈ lw_tbl := lw_at lw_m14 161 rfl
theorem q3408 : (Jvm.Cond.instanceMethod ({ cls := "FreightRoadsModel", name := "cheapest", desc := "(II)I" } : Jvm.MethodName)) ∈ lw_all := lw_g (lw_at lw_m14 162 rfl) rfl
theorem q3409 : (Jvm.Cond.code ({ cls := "FreightRoadsModel", name := "cheapest", desc := "(II)I" } : Jvm.MethodName) prog_17_method_62_code (5 : Nat) (Option.some Jvm.ClassFile.FieldType.int)) ∈ lw_all := lw_g (lw_at lw_m14 163 rfl) rfl
theorem q3411 : (Jvm.Cond.instanceMethod ({ cls := "FreightRoadsModel", name := "wider", desc := "(II)J" } : Jvm.MethodName)) ∈ lw_all := lw_g (lw_at lw_m14 165 rfl) rfl
theorem q3412 : (Jvm.Cond.selects "FreightRoadsModel" ({ cls := "FreightRoadsModel", name := "wider", desc := "(II)J" } : Jvm.MethodName) ({ cls := "FreightRoadsModel", name := "wider", desc := "(II)J" } : Jvm.MethodName)) ∈ lw_all := lw_g (lw_at lw_m14 166 rfl) rfl
theorem q3413 : (Jvm.Cond.code ({ cls := "FreightRoadsModel", name := "wider", desc := "(II)J" } : Jvm.MethodName) prog_17_method_67_code (5 : Nat) (Option.some Jvm.ClassFile.FieldType.long)) ∈ lw_all := lw_g (lw_at lw_m14 167 rfl) rfl
theorem q3414 : (Jvm.Cond.methodLink "FreightRoadsModel" (288 : Nat) ({ cls := "FreightRoadsModel", name := "thinks", desc := "()Z" } : Jvm.MethodName)) ∈ lw_all := lw_g (lw_at lw_m14 168 rfl) rfl
theorem q3415 : (Jvm.Cond.privateMethod ({ cls := "FreightRoadsModel", name := "thinks", desc := "()Z" } : Jvm.MethodName)) ∈ lw_tbl := lw_at lw_m14 169 rfl
theorem q3416 : (Jvm.Cond.instanceMethod ({ cls := "FreightRoadsModel", name := "thinks", desc := "()Z" } : Jvm.MethodName)) ∈ lw_all := lw_g (lw_at lw_m14 170 rfl) rfl
theorem q3417 : (Jvm.Cond.code ({ cls := "FreightRoadsModel", name := "thinks", desc := "()Z" } : Jvm.MethodName) prog_17_method_64_code (2 : Nat) (Option.some Jvm.ClassFile.FieldType.boolean)) ∈ lw_all := lw_g (lw_at lw_m14 171 rfl) rfl
theorem q3418 : (Jvm.Cond.methodLink "FreightRoadsModel" (291 : Nat) ({ cls := "FreightRoadsModel", name := "more", desc := "(JJ)J" } : Jvm.MethodName)) ∈ lw_all := lw_g (lw_at lw_m14 172 rfl) rfl
theorem q3419 : (Jvm.Cond.static ({ cls := "FreightRoadsModel", name := "more", desc := "(JJ)J" } : Jvm.MethodName)) ∈ lw_all := lw_g (lw_at lw_m14 173 rfl) rfl
theorem q3420 : (Jvm.Cond.code ({ cls := "FreightRoadsModel", name := "more", desc := "(JJ)J" } : Jvm.MethodName) prog_17_method_66_code (6 : Nat) (Option.some Jvm.ClassFile.FieldType.long)) ∈ lw_all := lw_g (lw_at lw_m14 174 rfl) rfl
theorem q3421 : (Jvm.Cond.methodLink "FreightRoadsModel" (295 : Nat) ({ cls := "FreightRoadsModel", name := "thinksNoMore", desc := "()V" } : Jvm.MethodName)) ∈ lw_all := lw_g (lw_at lw_m14 175 rfl) rfl
theorem q3422 : (Jvm.Cond.privateMethod ({ cls := "FreightRoadsModel", name := "thinksNoMore", desc := "()V" } : Jvm.MethodName)) ∈ lw_tbl := lw_at lw_m14 176 rfl
theorem q3423 : (Jvm.Cond.instanceMethod ({ cls := "FreightRoadsModel", name := "thinksNoMore", desc := "()V" } : Jvm.MethodName)) ∈ lw_all := lw_g (lw_at lw_m14 177 rfl) rfl
theorem q3424 : (Jvm.Cond.code ({ cls := "FreightRoadsModel", name := "thinksNoMore", desc := "()V" } : Jvm.MethodName) prog_17_method_65_code (1 : Nat) (Option.none : Option Jvm.ClassFile.FieldType)) ∈ lw_all := lw_g (lw_at lw_m14 178 rfl) rfl
theorem q3426 : (Jvm.Cond.instanceMethod ({ cls := "FreightRoadsModel", name := "without", desc := "(I)J" } : Jvm.MethodName)) ∈ lw_all := lw_g (lw_at lw_m14 180 rfl) rfl
theorem q3427 : (Jvm.Cond.selects "FreightRoadsModel" ({ cls := "FreightRoadsModel", name := "without", desc := "(I)J" } : Jvm.MethodName) ({ cls := "FreightRoadsModel", name := "without", desc := "(I)J" } : Jvm.MethodName)) ∈ lw_all := lw_g (lw_at lw_m14 181 rfl) rfl
theorem q3428 : (Jvm.Cond.code ({ cls := "FreightRoadsModel", name := "without", desc := "(I)J" } : Jvm.MethodName) prog_17_method_68_code (4 : Nat) (Option.some Jvm.ClassFile.FieldType.long)) ∈ lw_all := lw_g (lw_at lw_m14 182 rfl) rfl
theorem q3430 : (Jvm.Cond.instanceMethod ({ cls := "FreightRoadsModel", name := "adding", desc := "(IIIJ)J" } : Jvm.MethodName)) ∈ lw_all := lw_g (lw_at lw_m14 184 rfl) rfl
theorem q3431 : (Jvm.Cond.selects "FreightRoadsModel" ({ cls := "FreightRoadsModel", name := "adding", desc := "(IIIJ)J" } : Jvm.MethodName) ({ cls := "FreightRoadsModel", name := "adding", desc := "(IIIJ)J" } : Jvm.MethodName)) ∈ lw_all := lw_g (lw_at lw_m14 185 rfl) rfl
theorem q3432 : (Jvm.Cond.code ({ cls := "FreightRoadsModel", name := "adding", desc := "(IIIJ)J" } : Jvm.MethodName) prog_17_method_69_code (8 : Nat) (Option.some Jvm.ClassFile.FieldType.long)) ∈ lw_all := lw_g (lw_at lw_m14 186 rfl) rfl
theorem q3434 : (Jvm.Cond.instanceMethod ({ cls := "FreightRoadsModel", name := "sent", desc := "(III)J" } : Jvm.MethodName)) ∈ lw_all := lw_g (lw_at lw_m14 188 rfl) rfl
theorem q3435 : (Jvm.Cond.selects "FreightRoadsModel" ({ cls := "FreightRoadsModel", name := "sent", desc := "(III)J" } : Jvm.MethodName) ({ cls := "FreightRoadsModel", name := "sent", desc := "(III)J" } : Jvm.MethodName)) ∈ lw_all := lw_g (lw_at lw_m14 189 rfl) rfl
theorem q3436 : (Jvm.Cond.code ({ cls := "FreightRoadsModel", name := "sent", desc := "(III)J" } : Jvm.MethodName) prog_17_method_71_code (6 : Nat) (Option.some Jvm.ClassFile.FieldType.long)) ∈ lw_all := lw_g (lw_at lw_m14 190 rfl) rfl
theorem q3437 : (Jvm.Cond.methodLink "FreightRoadsModel" (298 : Nat) ({ cls := "FreightRoadsModel", name := "sends", desc := "(III)V" } : Jvm.MethodName)) ∈ lw_all := lw_g (lw_at lw_m14 191 rfl) rfl
theorem q3438 : (Jvm.Cond.privateMethod ({ cls := "FreightRoadsModel", name := "sends", desc := "(III)V" } : Jvm.MethodName)) ∈ lw_tbl := lw_at lw_m14 192 rfl
theorem q3439 : (Jvm.Cond.instanceMethod ({ cls := "FreightRoadsModel", name := "sends", desc := "(III)V" } : Jvm.MethodName)) ∈ lw_all := lw_g (lw_at lw_m14 193 rfl) rfl
theorem q3440 : (Jvm.Cond.code ({ cls := "FreightRoadsModel", name := "sends", desc := "(III)V" } : Jvm.MethodName) prog_17_method_70_code (4 : Nat) (Option.none : Option Jvm.ClassFile.FieldType)) ∈ lw_all := lw_g (lw_at lw_m14 194 rfl) rfl
theorem q3442 : (Jvm.Cond.instanceMethod ({ cls := "FreightRoadsModel", name := "greatest", desc := "(II)I" } : Jvm.MethodName)) ∈ lw_all := lw_g (lw_at lw_m14 196 rfl) rfl
theorem q3443 : (Jvm.Cond.selects "FreightRoadsModel" ({ cls := "FreightRoadsModel", name := "greatest", desc := "(II)I" } : Jvm.MethodName) ({ cls := "FreightRoadsModel", name := "greatest", desc := "(II)I" } : Jvm.MethodName)) ∈ lw_all := lw_g (lw_at lw_m14 197 rfl) rfl
theorem q3444 : (Jvm.Cond.code ({ cls := "FreightRoadsModel", name := "greatest", desc := "(II)I" } : Jvm.MethodName) prog_17_method_72_code (5 : Nat) (Option.some Jvm.ClassFile.FieldType.int)) ∈ lw_all := lw_g (lw_at lw_m14 198 rfl) rfl
theorem q3446 : (Jvm.Cond.instanceMethod ({ cls := "FreightRoadsModel", name := "stretch", desc := "(IIII)J" } : Jvm.MethodName)) ∈ lw_all := lw_g (lw_at lw_m14 200 rfl) rfl
theorem q3447 : (Jvm.Cond.selects "FreightRoadsModel" ({ cls := "FreightRoadsModel", name := "stretch", desc := "(IIII)J" } : Jvm.MethodName) ({ cls := "FreightRoadsModel", name := "stretch", desc := "(IIII)J" } : Jvm.MethodName)) ∈ lw_all := lw_g (lw_at lw_m14 201 rfl) rfl
theorem q3448 : (Jvm.Cond.code ({ cls := "FreightRoadsModel", name := "stretch", desc := "(IIII)J" } : Jvm.MethodName) prog_17_method_74_code (5 : Nat) (Option.some Jvm.ClassFile.FieldType.long)) ∈ lw_all := lw_g (lw_at lw_m14 202 rfl) rfl
theorem q3449 : (Jvm.Cond.methodLink "FreightRoadsModel" (304 : Nat) ({ cls := "FreightRoadsModel", name := "stretched", desc := "(II)Z" } : Jvm.MethodName)) ∈ lw_all := lw_g (lw_at lw_m14 203 rfl) rfl
theorem q3450 : (Jvm.Cond.privateMethod ({ cls := "FreightRoadsModel", name := "stretched", desc := "(II)Z" } : Jvm.MethodName)) ∈ lw_tbl := lw_at lw_m14 204 rfl
theorem q3451 : (Jvm.Cond.instanceMethod ({ cls := "FreightRoadsModel", name := "stretched", desc := "(II)Z" } : Jvm.MethodName)) ∈ lw_all := lw_g (lw_at lw_m14 205 rfl) rfl
theorem q3452 : (Jvm.Cond.code ({ cls := "FreightRoadsModel", name := "stretched", desc := "(II)Z" } : Jvm.MethodName) prog_17_method_73_code (5 : Nat) (Option.some Jvm.ClassFile.FieldType.boolean)) ∈ lw_all := lw_g (lw_at lw_m14 206 rfl) rfl
theorem q3454 : (Jvm.Cond.instanceMethod ({ cls := "FreightRoadsModel", name := "stretches", desc := "(II)I" } : Jvm.MethodName)) ∈ lw_all := lw_g (lw_at lw_m14 208 rfl) rfl
theorem q3455 : (Jvm.Cond.selects "FreightRoadsModel" ({ cls := "FreightRoadsModel", name := "stretches", desc := "(II)I" } : Jvm.MethodName) ({ cls := "FreightRoadsModel", name := "stretches", desc := "(II)I" } : Jvm.MethodName)) ∈ lw_all := lw_g (lw_at lw_m14 209 rfl) rfl
theorem q3456 : (Jvm.Cond.code ({ cls := "FreightRoadsModel", name := "stretches", desc := "(II)I" } : Jvm.MethodName) prog_17_method_75_code (3 : Nat) (Option.some Jvm.ClassFile.FieldType.int)) ∈ lw_all := lw_g (lw_at lw_m14 210 rfl) rfl
theorem q3458 : (Jvm.Cond.instanceMethod ({ cls := "FreightRoadsModel", name := "dearest", desc := "()I" } : Jvm.MethodName)) ∈ lw_all := lw_g (lw_at lw_m14 212 rfl) rfl
theorem q3459 : (Jvm.Cond.selects "FreightRoadsModel" ({ cls := "FreightRoadsModel", name := "dearest", desc := "()I" } : Jvm.MethodName) ({ cls := "FreightRoadsModel", name := "dearest", desc := "()I" } : Jvm.MethodName)) ∈ lw_all := lw_g (lw_at lw_m14 213 rfl) rfl
theorem q3460 : (Jvm.Cond.code ({ cls := "FreightRoadsModel", name := "dearest", desc := "()I" } : Jvm.MethodName) prog_17_method_76_code (6 : Nat) (Option.some Jvm.ClassFile.FieldType.int)) ∈ lw_all := lw_g (lw_at lw_m14 214 rfl) rfl
theorem q3462 : (Jvm.Cond.instanceMethod ({ cls := "FreightRoadsModel", name := "judge", desc := "(II)I" } : Jvm.MethodName)) ∈ lw_all := lw_g (lw_at lw_m14 216 rfl) rfl
theorem q3463 : (Jvm.Cond.selects "FreightRoadsModel" ({ cls := "FreightRoadsModel", name := "judge", desc := "(II)I" } : Jvm.MethodName) ({ cls := "FreightRoadsModel", name := "judge", desc := "(II)I" } : Jvm.MethodName)) ∈ lw_all := lw_g (lw_at lw_m14 217 rfl) rfl
theorem q3464 : (Jvm.Cond.code ({ cls := "FreightRoadsModel", name := "judge", desc := "(II)I" } : Jvm.MethodName) prog_17_method_84_code (5 : Nat) (Option.some Jvm.ClassFile.FieldType.int)) ∈ lw_all := lw_g (lw_at lw_m14 218 rfl) rfl
theorem q3465 : (Jvm.Cond.methodLink "FreightRoadsModel" (324 : Nat) ({ cls := "FreightRoadsModel", name := "whyNot", desc := "(II)I" } : Jvm.MethodName)) ∈ lw_all := lw_g (lw_at lw_m14 219 rfl) rfl
theorem q3466 : (Jvm.Cond.privateMethod ({ cls := "FreightRoadsModel", name := "whyNot", desc := "(II)I" } : Jvm.MethodName)) ∈ lw_tbl := lw_at lw_m14 220 rfl
theorem q3467 : (Jvm.Cond.instanceMethod ({ cls := "FreightRoadsModel", name := "whyNot", desc := "(II)I" } : Jvm.MethodName)) ∈ lw_all := lw_g (lw_at lw_m14 221 rfl) rfl
theorem q3468 : (Jvm.Cond.code ({ cls := "FreightRoadsModel", name := "whyNot", desc := "(II)I" } : Jvm.MethodName) prog_17_method_78_code (3 : Nat) (Option.some Jvm.ClassFile.FieldType.int)) ∈ lw_all := lw_g (lw_at lw_m14 222 rfl) rfl
theorem q3469 : (Jvm.Cond.methodLink "FreightRoadsModel" (309 : Nat) ({ cls := "FreightRoadsModel", name := "isList", desc := "(I)Z" } : Jvm.MethodName)) ∈ lw_all := lw_g (lw_at lw_m14 223 rfl) rfl
theorem q3470 : (Jvm.Cond.static ({ cls := "FreightRoadsModel", name := "isList", desc := "(I)Z" } : Jvm.MethodName)) ∈ lw_all := lw_g (lw_at lw_m14 224 rfl) rfl
theorem q3471 : (Jvm.Cond.code ({ cls := "FreightRoadsModel", name := "isList", desc := "(I)Z" } : Jvm.MethodName) prog_17_method_77_code (1 : Nat) (Option.some Jvm.ClassFile.FieldType.boolean)) ∈ lw_all := lw_g (lw_at lw_m14 225 rfl) rfl
theorem q3472 : (Jvm.Cond.constantLong "FreightRoadsModel" (307 : Nat) (3 : Int64)) ∈ lw_all := lw_g (lw_at lw_m14 226 rfl) rfl
theorem q3473 : (Jvm.Cond.methodLink "FreightRoadsModel" (327 : Nat) ({ cls := "FreightRoadsModel", name := "tells", desc := "(II)Z" } : Jvm.MethodName)) ∈ lw_all := lw_g (lw_at lw_m14 227 rfl) rfl
theorem q3474 : (Jvm.Cond.privateMethod ({ cls := "FreightRoadsModel", name := "tells", desc := "(II)Z" } : Jvm.MethodName)) ∈ lw_tbl := lw_at lw_m14 228 rfl
theorem q3475 : (Jvm.Cond.instanceMethod ({ cls := "FreightRoadsModel", name := "tells", desc := "(II)Z" } : Jvm.MethodName)) ∈ lw_all := lw_g (lw_at lw_m14 229 rfl) rfl
theorem q3476 : (Jvm.Cond.code ({ cls := "FreightRoadsModel", name := "tells", desc := "(II)Z" } : Jvm.MethodName) prog_17_method_79_code (6 : Nat) (Option.some Jvm.ClassFile.FieldType.boolean)) ∈ lw_all := lw_g (lw_at lw_m14 230 rfl) rfl
theorem q3477 : (Jvm.Cond.methodLink "FreightRoadsModel" (330 : Nat) ({ cls := "FreightRoadsModel", name := "isRung", desc := "()Z" } : Jvm.MethodName)) ∈ lw_all := lw_g (lw_at lw_m14 231 rfl) rfl
theorem q3478 : (Jvm.Cond.privateMethod ({ cls := "FreightRoadsModel", name := "isRung", desc := "()Z" } : Jvm.MethodName)) ∈ lw_tbl := lw_at lw_m14 232 rfl
theorem q3479 : (Jvm.Cond.instanceMethod ({ cls := "FreightRoadsModel", name := "isRung", desc := "()Z" } : Jvm.MethodName)) ∈ lw_all := lw_g (lw_at lw_m14 233 rfl) rfl
theorem q3480 : (Jvm.Cond.code ({ cls := "FreightRoadsModel", name := "isRung", desc := "()Z" } : Jvm.MethodName) prog_17_method_82_code (3 : Nat) (Option.some Jvm.ClassFile.FieldType.boolean)) ∈ lw_all := lw_g (lw_at lw_m14 234 rfl) rfl
theorem q3481 : (Jvm.Cond.methodLink "FreightRoadsModel" (318 : Nat) ({ cls := "FreightRoadsModel", name := "rings", desc := "(IIJ)Z" } : Jvm.MethodName)) ∈ lw_all := lw_g (lw_at lw_m14 235 rfl) rfl
theorem q3482 : (Jvm.Cond.privateMethod ({ cls := "FreightRoadsModel", name := "rings", desc := "(IIJ)Z" } : Jvm.MethodName)) ∈ lw_tbl := lw_at lw_m14 236 rfl
theorem q3483 : (Jvm.Cond.instanceMethod ({ cls := "FreightRoadsModel", name := "rings", desc := "(IIJ)Z" } : Jvm.MethodName)) ∈ lw_all := lw_g (lw_at lw_m14 237 rfl) rfl
theorem q3484 : (Jvm.Cond.code ({ cls := "FreightRoadsModel", name := "rings", desc := "(IIJ)Z" } : Jvm.MethodName) prog_17_method_81_code (7 : Nat) (Option.some Jvm.ClassFile.FieldType.boolean)) ∈ lw_all := lw_g (lw_at lw_m14 238 rfl) rfl
theorem q3485 : (Jvm.Cond.methodLink "FreightRoadsModel" (315 : Nat) ({ cls := "FreightRoadsModel", name := "isIn", desc := "(II)Z" } : Jvm.MethodName)) ∈ lw_all := lw_g (lw_at lw_m14 239 rfl) rfl
theorem q3486 : (Jvm.Cond.privateMethod ({ cls := "FreightRoadsModel", name := "isIn", desc := "(II)Z" } : Jvm.MethodName)) ∈ lw_tbl := lw_at lw_m15 0 rfl
theorem q3487 : (Jvm.Cond.instanceMethod ({ cls := "FreightRoadsModel", name := "isIn", desc := "(II)Z" } : Jvm.MethodName)) ∈ lw_all := lw_g (lw_at lw_m15 1 rfl) rfl
theorem q3488 : (Jvm.Cond.code ({ cls := "FreightRoadsModel", name := "isIn", desc := "(II)Z" } : Jvm.MethodName) prog_17_method_80_code (4 : Nat) (Option.some Jvm.ClassFile.FieldType.boolean)) ∈ lw_all := lw_g (lw_at lw_m15 2 rfl) rfl
theorem q3490 : (Jvm.Cond.instanceMethod ({ cls := "FreightRoadsModel", name := "ring", desc := "(III)I" } : Jvm.MethodName)) ∈ lw_all := lw_g (lw_at lw_m15 4 rfl) rfl
theorem q3491 : (Jvm.Cond.selects "FreightRoadsModel" ({ cls := "FreightRoadsModel", name := "ring", desc := "(III)I" } : Jvm.MethodName) ({ cls := "FreightRoadsModel", name := "ring", desc := "(III)I" } : Jvm.MethodName)) ∈ lw_all := lw_g (lw_at lw_m15 5 rfl) rfl
theorem q3492 : (Jvm.Cond.code ({ cls := "FreightRoadsModel", name := "ring", desc := "(III)I" } : Jvm.MethodName) prog_17_method_85_code (5 : Nat) (Option.some Jvm.ClassFile.FieldType.int)) ∈ lw_all := lw_g (lw_at lw_m15 6 rfl) rfl
theorem q3494 : (Jvm.Cond.instanceMethod ({ cls := "FreightRoadsModel", name := "gain", desc := "(II)J" } : Jvm.MethodName)) ∈ lw_all := lw_g (lw_at lw_m15 8 rfl) rfl
theorem q3495 : (Jvm.Cond.selects "FreightRoadsModel" ({ cls := "FreightRoadsModel", name := "gain", desc := "(II)J" } : Jvm.MethodName) ({ cls := "FreightRoadsModel", name := "gain", desc := "(II)J" } : Jvm.MethodName)) ∈ lw_all := lw_g (lw_at lw_m15 9 rfl) rfl
theorem q3496 : (Jvm.Cond.code ({ cls := "FreightRoadsModel", name := "gain", desc := "(II)J" } : Jvm.MethodName) prog_17_method_86_code (3 : Nat) (Option.some Jvm.ClassFile.FieldType.long)) ∈ lw_all := lw_g (lw_at lw_m15 10 rfl) rfl
theorem q3498 : (Jvm.Cond.instanceMethod ({ cls := "FreightRoadsModel", name := "mend", desc := "(II)I" } : Jvm.MethodName)) ∈ lw_all := lw_g (lw_at lw_m15 12 rfl) rfl
theorem q3499 : (Jvm.Cond.selects "FreightRoadsModel" ({ cls := "FreightRoadsModel", name := "mend", desc := "(II)I" } : Jvm.MethodName) ({ cls := "FreightRoadsModel", name := "mend", desc := "(II)I" } : Jvm.MethodName)) ∈ lw_all := lw_g (lw_at lw_m15 13 rfl) rfl
theorem q3500 : (Jvm.Cond.code ({ cls := "FreightRoadsModel", name := "mend", desc := "(II)I" } : Jvm.MethodName) prog_17_method_87_code (6 : Nat) (Option.some Jvm.ClassFile.FieldType.int)) ∈ lw_all := lw_g (lw_at lw_m15 14 rfl) rfl
theorem q3501 : (Jvm.Cond.methodLink "FreightRoadsModel" (333 : Nat) ({ cls := "FreightRoadsModel", name := "turnsRing", desc := "()V" } : Jvm.MethodName)) ∈ lw_all := lw_g (lw_at lw_m15 15 rfl) rfl
theorem q3502 : (Jvm.Cond.privateMethod ({ cls := "FreightRoadsModel", name := "turnsRing", desc := "()V" } : Jvm.MethodName)) ∈ lw_tbl := lw_at lw_m15 16 rfl
theorem q3503 : (Jvm.Cond.instanceMethod ({ cls := "FreightRoadsModel", name := "turnsRing", desc := "()V" } : Jvm.MethodName)) ∈ lw_all := lw_g (lw_at lw_m15 17 rfl) rfl
theorem q3504 : (Jvm.Cond.code ({ cls := "FreightRoadsModel", name := "turnsRing", desc := "()V" } : Jvm.MethodName) prog_17_method_83_code (4 : Nat) (Option.none : Option Jvm.ClassFile.FieldType)) ∈ lw_all := lw_g (lw_at lw_m15 18 rfl) rfl
theorem q3506 : (Jvm.Cond.instanceMethod ({ cls := "FreightRoadsModel", name := "parts", desc := "()I" } : Jvm.MethodName)) ∈ lw_all := lw_g (lw_at lw_m15 20 rfl) rfl
theorem q3507 : (Jvm.Cond.selects "FreightRoadsModel" ({ cls := "FreightRoadsModel", name := "parts", desc := "()I" } : Jvm.MethodName) ({ cls := "FreightRoadsModel", name := "parts", desc := "()I" } : Jvm.MethodName)) ∈ lw_all := lw_g (lw_at lw_m15 21 rfl) rfl
theorem q3508 : (Jvm.Cond.code ({ cls := "FreightRoadsModel", name := "parts", desc := "()I" } : Jvm.MethodName) prog_17_method_91_code (1 : Nat) (Option.some Jvm.ClassFile.FieldType.int)) ∈ lw_all := lw_g (lw_at lw_m15 22 rfl) rfl
theorem q3509 : (Jvm.Cond.methodLink "FreightRoadsModel" (345 : Nat) ({ cls := "FreightRoadsModel", name := "isParted", desc := "()Z" } : Jvm.MethodName)) ∈ lw_all := lw_g (lw_at lw_m15 23 rfl) rfl
theorem q3510 : (Jvm.Cond.privateMethod ({ cls := "FreightRoadsModel", name := "isParted", desc := "()Z" } : Jvm.MethodName)) ∈ lw_tbl := lw_at lw_m15 24 rfl
theorem q3511 : (Jvm.Cond.instanceMethod ({ cls := "FreightRoadsModel", name := "isParted", desc := "()Z" } : Jvm.MethodName)) ∈ lw_all := lw_g (lw_at lw_m15 25 rfl) rfl
theorem q3512 : (Jvm.Cond.code ({ cls := "FreightRoadsModel", name := "isParted", desc := "()Z" } : Jvm.MethodName) prog_17_method_90_code (5 : Nat) (Option.some Jvm.ClassFile.FieldType.boolean)) ∈ lw_all := lw_g (lw_at lw_m15 26 rfl) rfl
theorem q3513 : (Jvm.Cond.methodLink "FreightRoadsModel" (339 : Nat) ({ cls := "FreightRoadsModel", name := "leastRoad", desc := "(I)I" } : Jvm.MethodName)) ∈ lw_all := lw_g (lw_at lw_m15 27 rfl) rfl
theorem q3514 : (Jvm.Cond.privateMethod ({ cls := "FreightRoadsModel", name := "leastRoad", desc := "(I)I" } : Jvm.MethodName)) ∈ lw_tbl := lw_at lw_m15 28 rfl
theorem q3515 : (Jvm.Cond.instanceMethod ({ cls := "FreightRoadsModel", name := "leastRoad", desc := "(I)I" } : Jvm.MethodName)) ∈ lw_all := lw_g (lw_at lw_m15 29 rfl) rfl
theorem q3516 : (Jvm.Cond.code ({ cls := "FreightRoadsModel", name := "leastRoad", desc := "(I)I" } : Jvm.MethodName) prog_17_method_88_code (3 : Nat) (Option.some Jvm.ClassFile.FieldType.int)) ∈ lw_all := lw_g (lw_at lw_m15 30 rfl) rfl
theorem q3517 : (Jvm.Cond.methodLink "FreightRoadsModel" (342 : Nat) ({ cls := "FreightRoadsModel", name := "parts", desc := "(IZ)V" } : Jvm.MethodName)) ∈ lw_all := lw_g (lw_at lw_m15 31 rfl) rfl
theorem q3518 : (Jvm.Cond.privateMethod ({ cls := "FreightRoadsModel", name := "parts", desc := "(IZ)V" } : Jvm.MethodName)) ∈ lw_tbl := lw_at lw_m15 32 rfl
theorem q3519 : (Jvm.Cond.instanceMethod ({ cls := "FreightRoadsModel", name := "parts", desc := "(IZ)V" } : Jvm.MethodName)) ∈ lw_all := lw_g (lw_at lw_m15 33 rfl) rfl
theorem q3520 : (Jvm.Cond.code ({ cls := "FreightRoadsModel", name := "parts", desc := "(IZ)V" } : Jvm.MethodName) prog_17_method_89_code (11 : Nat) (Option.none : Option Jvm.ClassFile.FieldType)) ∈ lw_all := lw_g (lw_at lw_m15 34 rfl) rfl
theorem q3522 : (Jvm.Cond.instanceMethod ({ cls := "FreightRoadsModel", name := "part", desc := "(II)I" } : Jvm.MethodName)) ∈ lw_all := lw_g (lw_at lw_m15 36 rfl) rfl
theorem q3523 : (Jvm.Cond.selects "FreightRoadsModel" ({ cls := "FreightRoadsModel", name := "part", desc := "(II)I" } : Jvm.MethodName) ({ cls := "FreightRoadsModel", name := "part", desc := "(II)I" } : Jvm.MethodName)) ∈ lw_all := lw_g (lw_at lw_m15 37 rfl) rfl
theorem q3524 : (Jvm.Cond.code ({ cls := "FreightRoadsModel", name := "part", desc := "(II)I" } : Jvm.MethodName) prog_17_method_92_code (3 : Nat) (Option.some Jvm.ClassFile.FieldType.int)) ∈ lw_all := lw_g (lw_at lw_m15 38 rfl) rfl
theorem q3525 : (Jvm.Cond.constantLong "FreightRoadsModel" (348 : Nat) (10 : Int64)) ∈ lw_all := lw_g (lw_at lw_m15 39 rfl) rfl
theorem q3526 : (Jvm.Cond.constantLong "FreightRoadsModel" (350 : Nat) (17 : Int64)) ∈ lw_all := lw_g (lw_at lw_m15 40 rfl) rfl
theorem q3528 : (Jvm.Cond.instanceMethod ({ cls := "FreightRoadsModel", name := "partCost", desc := "(I)J" } : Jvm.MethodName)) ∈ lw_all := lw_g (lw_at lw_m15 42 rfl) rfl
theorem q3529 : (Jvm.Cond.selects "FreightRoadsModel" ({ cls := "FreightRoadsModel", name := "partCost", desc := "(I)J" } : Jvm.MethodName) ({ cls := "FreightRoadsModel", name := "partCost", desc := "(I)J" } : Jvm.MethodName)) ∈ lw_all := lw_g (lw_at lw_m15 43 rfl) rfl
theorem q3530 : (Jvm.Cond.code ({ cls := "FreightRoadsModel", name := "partCost", desc := "(I)J" } : Jvm.MethodName) prog_17_method_93_code (5 : Nat) (Option.some Jvm.ClassFile.FieldType.long)) ∈ lw_all := lw_g (lw_at lw_m15 44 rfl) rfl
theorem q3532 : (Jvm.Cond.instanceMethod ({ cls := "FreightRoadsModel", name := "spell", desc := "()I" } : Jvm.MethodName)) ∈ lw_all := lw_g (lw_at lw_m15 46 rfl) rfl
theorem q3533 : (Jvm.Cond.selects "FreightRoadsModel" ({ cls := "FreightRoadsModel", name := "spell", desc := "()I" } : Jvm.MethodName) ({ cls := "FreightRoadsModel", name := "spell", desc := "()I" } : Jvm.MethodName)) ∈ lw_all := lw_g (lw_at lw_m15 47 rfl) rfl
theorem q3534 : (Jvm.Cond.code ({ cls := "FreightRoadsModel", name := "spell", desc := "()I" } : Jvm.MethodName) prog_17_method_95_code (2 : Nat) (Option.some Jvm.ClassFile.FieldType.int)) ∈ lw_all := lw_g (lw_at lw_m15 48 rfl) rfl
theorem q3535 : (Jvm.Cond.methodLink "FreightRoadsModel" (355 : Nat) ({ cls := "FreightRoadsModel", name := "writes", desc := "(I)V" } : Jvm.MethodName)) ∈ lw_all := lw_g (lw_at lw_m15 49 rfl) rfl
theorem q3536 : (Jvm.Cond.privateMethod ({ cls := "FreightRoadsModel", name := "writes", desc := "(I)V" } : Jvm.MethodName)) ∈ lw_tbl := lw_at lw_m15 50 rfl
theorem q3537 : (Jvm.Cond.instanceMethod ({ cls := "FreightRoadsModel", name := "writes", desc := "(I)V" } : Jvm.MethodName)) ∈ lw_all := lw_g (lw_at lw_m15 51 rfl) rfl
theorem q3538 : (Jvm.Cond.code ({ cls := "FreightRoadsModel", name := "writes", desc := "(I)V" } : Jvm.MethodName) prog_17_method_94_code (2 : Nat) (Option.none : Option Jvm.ClassFile.FieldType)) ∈ lw_all := lw_g (lw_at lw_m15 52 rfl) rfl
theorem q3540 : (Jvm.Cond.instanceMethod ({ cls := "FreightRoadsModel", name := "paper", desc := "(I)I" } : Jvm.MethodName)) ∈ lw_all := lw_g (lw_at lw_m15 54 rfl) rfl
theorem q3541 : (Jvm.Cond.selects "FreightRoadsModel" ({ cls := "FreightRoadsModel", name := "paper", desc := "(I)I" } : Jvm.MethodName) ({ cls := "FreightRoadsModel", name := "paper", desc := "(I)I" } : Jvm.MethodName)) ∈ lw_all := lw_g (lw_at lw_m15 55 rfl) rfl
theorem q3542 : (Jvm.Cond.code ({ cls := "FreightRoadsModel", name := "paper", desc := "(I)I" } : Jvm.MethodName) prog_17_method_96_code (2 : Nat) (Option.some Jvm.ClassFile.FieldType.int)) ∈ lw_all := lw_g (lw_at lw_m15 56 rfl) rfl
theorem q3544 : (Jvm.Cond.instanceMethod ({ cls := "FreightRoadsModel", name := "told", desc := "(I)J" } : Jvm.MethodName)) ∈ lw_all := lw_g (lw_at lw_m15 58 rfl) rfl
theorem q3545 : (Jvm.Cond.selects "FreightRoadsModel" ({ cls := "FreightRoadsModel", name := "told", desc := "(I)J" } : Jvm.MethodName) ({ cls := "FreightRoadsModel", name := "told", desc := "(I)J" } : Jvm.MethodName)) ∈ lw_all := lw_g (lw_at lw_m15 59 rfl) rfl
theorem q3546 : (Jvm.Cond.code ({ cls := "FreightRoadsModel", name := "told", desc := "(I)J" } : Jvm.MethodName) prog_17_method_98_code (2 : Nat) (Option.some Jvm.ClassFile.FieldType.long)) ∈ lw_all := lw_g (lw_at lw_m15 60 rfl) rfl
theorem q3547 : (Jvm.Cond.methodLink "FreightRoadsModel" (358 : Nat) ({ cls := "FreightRoadsModel", name := "fixed", desc := "()I" } : Jvm.MethodName)) ∈ lw_all := lw_g (lw_at lw_m15 61 rfl) rfl
theorem q3548 : (Jvm.Cond.privateMethod ({ cls := "FreightRoadsModel", name := "fixed", desc := "()I" } : Jvm.MethodName)) ∈ lw_tbl := lw_at lw_m15 62 rfl
theorem q3549 : (Jvm.Cond.instanceMethod ({ cls := "FreightRoadsModel", name := "fixed", desc := "()I" } : Jvm.MethodName)) ∈ lw_all := lw_g (lw_at lw_m15 63 rfl) rfl
theorem q3550 : (Jvm.Cond.code ({ cls := "FreightRoadsModel", name := "fixed", desc := "()I" } : Jvm.MethodName) prog_17_method_97_code (3 : Nat) (Option.some Jvm.ClassFile.FieldType.int)) ∈ lw_all := lw_g (lw_at lw_m15 64 rfl) rfl
theorem q3552 : (Jvm.Cond.instanceMethod ({ cls := "FreightRoadsModel", name := "lay", desc := "(II)I" } : Jvm.MethodName)) ∈ lw_all := lw_g (lw_at lw_m15 66 rfl) rfl
theorem q3553 : (Jvm.Cond.selects "FreightRoadsModel" ({ cls := "FreightRoadsModel", name := "lay", desc := "(II)I" } : Jvm.MethodName) ({ cls := "FreightRoadsModel", name := "lay", desc := "(II)I" } : Jvm.MethodName)) ∈ lw_all := lw_g (lw_at lw_m15 67 rfl) rfl
theorem q3554 : (Jvm.Cond.code ({ cls := "FreightRoadsModel", name := "lay", desc := "(II)I" } : Jvm.MethodName) prog_17_method_99_code (4 : Nat) (Option.some Jvm.ClassFile.FieldType.int)) ∈ lw_all := lw_g (lw_at lw_m15 68 rfl) rfl
theorem q3556 : (Jvm.Cond.instanceMethod ({ cls := "FreightRoadsModel", name := "list", desc := "(II)I" } : Jvm.MethodName)) ∈ lw_all := lw_g (lw_at lw_m15 70 rfl) rfl
theorem q3557 : (Jvm.Cond.selects "FreightRoadsModel" ({ cls := "FreightRoadsModel", name := "list", desc := "(II)I" } : Jvm.MethodName) ({ cls := "FreightRoadsModel", name := "list", desc := "(II)I" } : Jvm.MethodName)) ∈ lw_all := lw_g (lw_at lw_m15 71 rfl) rfl
theorem q3558 : (Jvm.Cond.code ({ cls := "FreightRoadsModel", name := "list", desc := "(II)I" } : Jvm.MethodName) prog_17_method_100_code (4 : Nat) (Option.some Jvm.ClassFile.FieldType.int)) ∈ lw_all := lw_g (lw_at lw_m15 72 rfl) rfl
theorem q3560 : (Jvm.Cond.instanceMethod ({ cls := "FreightRoadsModel", name := "set", desc := "(IIJ)I" } : Jvm.MethodName)) ∈ lw_all := lw_g (lw_at lw_m15 74 rfl) rfl
theorem q3561 : (Jvm.Cond.selects "FreightRoadsModel" ({ cls := "FreightRoadsModel", name := "set", desc := "(IIJ)I" } : Jvm.MethodName) ({ cls := "FreightRoadsModel", name := "set", desc := "(IIJ)I" } : Jvm.MethodName)) ∈ lw_all := lw_g (lw_at lw_m15 75 rfl) rfl
theorem q3562 : (Jvm.Cond.code ({ cls := "FreightRoadsModel", name := "set", desc := "(IIJ)I" } : Jvm.MethodName) prog_17_method_101_code (5 : Nat) (Option.some Jvm.ClassFile.FieldType.int)) ∈ lw_all := lw_g (lw_at lw_m15 76 rfl) rfl
theorem q3564 : (Jvm.Cond.instanceMethod ({ cls := "FreightRoadsModel", name := "get", desc := "(II)J" } : Jvm.MethodName)) ∈ lw_all := lw_g (lw_at lw_m15 78 rfl) rfl
theorem q3565 : (Jvm.Cond.selects "FreightRoadsModel" ({ cls := "FreightRoadsModel", name := "get", desc := "(II)J" } : Jvm.MethodName) ({ cls := "FreightRoadsModel", name := "get", desc := "(II)J" } : Jvm.MethodName)) ∈ lw_all := lw_g (lw_at lw_m15 79 rfl) rfl
theorem q3566 : (Jvm.Cond.code ({ cls := "FreightRoadsModel", name := "get", desc := "(II)J" } : Jvm.MethodName) prog_17_method_102_code (3 : Nat) (Option.some Jvm.ClassFile.FieldType.long)) ∈ lw_all := lw_g (lw_at lw_m15 80 rfl) rfl
theorem q3568 : (Jvm.Cond.instanceMethod ({ cls := "FreightRoadsModel", name := "image", desc := "()I" } : Jvm.MethodName)) ∈ lw_all := lw_g (lw_at lw_m15 82 rfl) rfl
theorem q3569 : (Jvm.Cond.selects "FreightRoadsModel" ({ cls := "FreightRoadsModel", name := "image", desc := "()I" } : Jvm.MethodName) ({ cls := "FreightRoadsModel", name := "image", desc := "()I" } : Jvm.MethodName)) ∈ lw_all := lw_g (lw_at lw_m15 83 rfl) rfl
theorem q3570 : (Jvm.Cond.code ({ cls := "FreightRoadsModel", name := "image", desc := "()I" } : Jvm.MethodName) prog_17_method_103_code (1 : Nat) (Option.some Jvm.ClassFile.FieldType.int)) ∈ lw_all := lw_g (lw_at lw_m15 84 rfl) rfl
theorem q3572 : (Jvm.Cond.instanceMethod ({ cls := "FreightRoadsModel", name := "undo", desc := "()I" } : Jvm.MethodName)) ∈ lw_all := lw_g (lw_at lw_m15 86 rfl) rfl
theorem q3573 : (Jvm.Cond.selects "FreightRoadsModel" ({ cls := "FreightRoadsModel", name := "undo", desc := "()I" } : Jvm.MethodName) ({ cls := "FreightRoadsModel", name := "undo", desc := "()I" } : Jvm.MethodName)) ∈ lw_all := lw_g (lw_at lw_m15 87 rfl) rfl
theorem q3574 : (Jvm.Cond.code ({ cls := "FreightRoadsModel", name := "undo", desc := "()I" } : Jvm.MethodName) prog_17_method_104_code (1 : Nat) (Option.some Jvm.ClassFile.FieldType.int)) ∈ lw_all := lw_g (lw_at lw_m15 88 rfl) rfl
theorem q3621 : (Jvm.Cond.castable "FreightRoadsModel" "java/lang/Object") ∈ lw_tbl := lw_at lw_m15 135 rfl
