set_option maxRecDepth 100000
abbrev cX1_init : ByteArray := prog_6_method_1_code
def yX1_init : MethodName := ⟨RX1, "<init>", "()V"⟩
def dkwX1_init_6 : List UInt8 := [187, 0, 43, 89, 27, 183, 0, 68, 83, 132, 1, 1, 167, 255, 233, 177]
abbrev dktX1_init_6 : List UInt8 := dkwX1_init_6 ++ []
def dkwX1_init_5 : List UInt8 := [89, 16, 8, 183, 0, 63, 181, 0, 64, 3, 60, 27, 16, 8, 162, 0, 23, 42, 180, 0, 45, 27]
abbrev dktX1_init_5 : List UInt8 := dkwX1_init_5 ++ dktX1_init_6
def dkwX1_init_4 : List UInt8 := [187, 0, 49, 89, 16, 9, 183, 0, 51, 181, 0, 54, 42, 16, 8, 188, 11, 181, 0, 58, 42, 187, 0, 61]
abbrev dktX1_init_4 : List UInt8 := dkwX1_init_4 ++ dktX1_init_5
def dkwX1_init_3 : List UInt8 := [188, 11, 181, 0, 37, 42, 16, 8, 188, 11, 181, 0, 40, 42, 16, 8, 189, 0, 43, 181, 0, 45, 42]
abbrev dktX1_init_3 : List UInt8 := dkwX1_init_3 ++ dktX1_init_4
def dkwX1_init_2 : List UInt8 := [188, 10, 181, 0, 28, 42, 16, 8, 188, 10, 181, 0, 31, 42, 16, 8, 188, 10, 181, 0, 34, 42, 16, 8]
abbrev dktX1_init_2 : List UInt8 := dkwX1_init_2 ++ dktX1_init_3
def dkwX1_init_1 : List UInt8 := [188, 10, 181, 0, 18, 42, 16, 25, 188, 10, 181, 0, 21, 42, 16, 25, 188, 11, 181, 0, 24, 42, 16, 25]
abbrev dktX1_init_1 : List UInt8 := dkwX1_init_1 ++ dktX1_init_2
def dkwX1_init_0 : List UInt8 := [42, 183, 0, 3, 42, 16, 25, 188, 10, 181, 0, 9, 42, 16, 25, 188, 10, 181, 0, 15, 42, 16, 25]
abbrev dktX1_init_0 : List UInt8 := dkwX1_init_0 ++ dktX1_init_1
theorem dksX1_init_0 : cX1_init.data.toList.drop 0 = dktX1_init_0 := by decide +kernel
theorem dksX1_init_1 : cX1_init.data.toList.drop 23 = dktX1_init_1 := dk_seg dksX1_init_0 23 rfl rfl
theorem dksX1_init_2 : cX1_init.data.toList.drop 47 = dktX1_init_2 := dk_seg dksX1_init_1 24 rfl rfl
theorem dksX1_init_3 : cX1_init.data.toList.drop 71 = dktX1_init_3 := dk_seg dksX1_init_2 24 rfl rfl
theorem dksX1_init_4 : cX1_init.data.toList.drop 94 = dktX1_init_4 := dk_seg dksX1_init_3 23 rfl rfl
theorem dksX1_init_5 : cX1_init.data.toList.drop 118 = dktX1_init_5 := dk_seg dksX1_init_4 24 rfl rfl
theorem dksX1_init_6 : cX1_init.data.toList.drop 140 = dktX1_init_6 := dk_seg dksX1_init_5 22 rfl rfl
theorem dX1_init_0 : decode cX1_init 0 = .ok (.aload_n 0, 1) := dk_42 (dk_at dksX1_init_0 0 rfl rfl)
theorem dX1_init_1 : decode cX1_init 1 = .ok (.invokespecial 3, 3) := dk_183 0 3 (dk_at dksX1_init_0 1 rfl rfl)
theorem dX1_init_4 : decode cX1_init 4 = .ok (.aload_n 0, 1) := dk_42 (dk_at dksX1_init_0 4 rfl rfl)
theorem dX1_init_5 : decode cX1_init 5 = .ok (.bipush 25, 2) := dk_16 25 (dk_at dksX1_init_0 5 rfl rfl)
theorem dX1_init_7 : decode cX1_init 7 = .ok (.newarray .int, 2) := dk_188_10 (dk_at dksX1_init_0 7 rfl rfl)
theorem dX1_init_9 : decode cX1_init 9 = .ok (.putfield 9, 3) := dk_181 0 9 (dk_at dksX1_init_0 9 rfl rfl)
theorem dX1_init_12 : decode cX1_init 12 = .ok (.aload_n 0, 1) := dk_42 (dk_at dksX1_init_0 12 rfl rfl)
theorem dX1_init_13 : decode cX1_init 13 = .ok (.bipush 25, 2) := dk_16 25 (dk_at dksX1_init_0 13 rfl rfl)
theorem dX1_init_15 : decode cX1_init 15 = .ok (.newarray .int, 2) := dk_188_10 (dk_at dksX1_init_0 15 rfl rfl)
theorem dX1_init_17 : decode cX1_init 17 = .ok (.putfield 15, 3) := dk_181 0 15 (dk_at dksX1_init_0 17 rfl rfl)
theorem dX1_init_20 : decode cX1_init 20 = .ok (.aload_n 0, 1) := dk_42 (dk_at dksX1_init_0 20 rfl rfl)
theorem dX1_init_21 : decode cX1_init 21 = .ok (.bipush 25, 2) := dk_16 25 (dk_at dksX1_init_0 21 rfl rfl)
theorem dX1_init_23 : decode cX1_init 23 = .ok (.newarray .int, 2) := dk_188_10 (dk_at dksX1_init_1 0 rfl rfl)
theorem dX1_init_25 : decode cX1_init 25 = .ok (.putfield 18, 3) := dk_181 0 18 (dk_at dksX1_init_1 2 rfl rfl)
theorem dX1_init_28 : decode cX1_init 28 = .ok (.aload_n 0, 1) := dk_42 (dk_at dksX1_init_1 5 rfl rfl)
theorem dX1_init_29 : decode cX1_init 29 = .ok (.bipush 25, 2) := dk_16 25 (dk_at dksX1_init_1 6 rfl rfl)
theorem dX1_init_31 : decode cX1_init 31 = .ok (.newarray .int, 2) := dk_188_10 (dk_at dksX1_init_1 8 rfl rfl)
theorem dX1_init_33 : decode cX1_init 33 = .ok (.putfield 21, 3) := dk_181 0 21 (dk_at dksX1_init_1 10 rfl rfl)
theorem dX1_init_36 : decode cX1_init 36 = .ok (.aload_n 0, 1) := dk_42 (dk_at dksX1_init_1 13 rfl rfl)
theorem dX1_init_37 : decode cX1_init 37 = .ok (.bipush 25, 2) := dk_16 25 (dk_at dksX1_init_1 14 rfl rfl)
theorem dX1_init_39 : decode cX1_init 39 = .ok (.newarray .long, 2) := dk_188_11 (dk_at dksX1_init_1 16 rfl rfl)
theorem dX1_init_41 : decode cX1_init 41 = .ok (.putfield 24, 3) := dk_181 0 24 (dk_at dksX1_init_1 18 rfl rfl)
theorem dX1_init_44 : decode cX1_init 44 = .ok (.aload_n 0, 1) := dk_42 (dk_at dksX1_init_1 21 rfl rfl)
theorem dX1_init_45 : decode cX1_init 45 = .ok (.bipush 25, 2) := dk_16 25 (dk_at dksX1_init_1 22 rfl rfl)
theorem dX1_init_47 : decode cX1_init 47 = .ok (.newarray .int, 2) := dk_188_10 (dk_at dksX1_init_2 0 rfl rfl)
theorem dX1_init_49 : decode cX1_init 49 = .ok (.putfield 28, 3) := dk_181 0 28 (dk_at dksX1_init_2 2 rfl rfl)
theorem dX1_init_52 : decode cX1_init 52 = .ok (.aload_n 0, 1) := dk_42 (dk_at dksX1_init_2 5 rfl rfl)
theorem dX1_init_53 : decode cX1_init 53 = .ok (.bipush 8, 2) := dk_16 8 (dk_at dksX1_init_2 6 rfl rfl)
theorem dX1_init_55 : decode cX1_init 55 = .ok (.newarray .int, 2) := dk_188_10 (dk_at dksX1_init_2 8 rfl rfl)
theorem dX1_init_57 : decode cX1_init 57 = .ok (.putfield 31, 3) := dk_181 0 31 (dk_at dksX1_init_2 10 rfl rfl)
theorem dX1_init_60 : decode cX1_init 60 = .ok (.aload_n 0, 1) := dk_42 (dk_at dksX1_init_2 13 rfl rfl)
theorem dX1_init_61 : decode cX1_init 61 = .ok (.bipush 8, 2) := dk_16 8 (dk_at dksX1_init_2 14 rfl rfl)
theorem dX1_init_63 : decode cX1_init 63 = .ok (.newarray .int, 2) := dk_188_10 (dk_at dksX1_init_2 16 rfl rfl)
theorem dX1_init_65 : decode cX1_init 65 = .ok (.putfield 34, 3) := dk_181 0 34 (dk_at dksX1_init_2 18 rfl rfl)
theorem dX1_init_68 : decode cX1_init 68 = .ok (.aload_n 0, 1) := dk_42 (dk_at dksX1_init_2 21 rfl rfl)
theorem dX1_init_69 : decode cX1_init 69 = .ok (.bipush 8, 2) := dk_16 8 (dk_at dksX1_init_2 22 rfl rfl)
theorem dX1_init_71 : decode cX1_init 71 = .ok (.newarray .long, 2) := dk_188_11 (dk_at dksX1_init_3 0 rfl rfl)
theorem dX1_init_73 : decode cX1_init 73 = .ok (.putfield 37, 3) := dk_181 0 37 (dk_at dksX1_init_3 2 rfl rfl)
theorem dX1_init_76 : decode cX1_init 76 = .ok (.aload_n 0, 1) := dk_42 (dk_at dksX1_init_3 5 rfl rfl)
theorem dX1_init_77 : decode cX1_init 77 = .ok (.bipush 8, 2) := dk_16 8 (dk_at dksX1_init_3 6 rfl rfl)
theorem dX1_init_79 : decode cX1_init 79 = .ok (.newarray .long, 2) := dk_188_11 (dk_at dksX1_init_3 8 rfl rfl)
theorem dX1_init_81 : decode cX1_init 81 = .ok (.putfield 40, 3) := dk_181 0 40 (dk_at dksX1_init_3 10 rfl rfl)
theorem dX1_init_84 : decode cX1_init 84 = .ok (.aload_n 0, 1) := dk_42 (dk_at dksX1_init_3 13 rfl rfl)
theorem dX1_init_85 : decode cX1_init 85 = .ok (.bipush 8, 2) := dk_16 8 (dk_at dksX1_init_3 14 rfl rfl)
theorem dX1_init_87 : decode cX1_init 87 = .ok (.anewarray 43, 3) := dk_189 0 43 (dk_at dksX1_init_3 16 rfl rfl)
theorem dX1_init_90 : decode cX1_init 90 = .ok (.putfield 45, 3) := dk_181 0 45 (dk_at dksX1_init_3 19 rfl rfl)
theorem dX1_init_93 : decode cX1_init 93 = .ok (.aload_n 0, 1) := dk_42 (dk_at dksX1_init_3 22 rfl rfl)
theorem dX1_init_94 : decode cX1_init 94 = .ok (.new 49, 3) := dk_187 0 49 (dk_at dksX1_init_4 0 rfl rfl)
theorem dX1_init_97 : decode cX1_init 97 = .ok (.dup, 1) := dk_89 (dk_at dksX1_init_4 3 rfl rfl)
theorem dX1_init_98 : decode cX1_init 98 = .ok (.bipush 9, 2) := dk_16 9 (dk_at dksX1_init_4 4 rfl rfl)
theorem dX1_init_100 : decode cX1_init 100 = .ok (.invokespecial 51, 3) := dk_183 0 51 (dk_at dksX1_init_4 6 rfl rfl)
theorem dX1_init_103 : decode cX1_init 103 = .ok (.putfield 54, 3) := dk_181 0 54 (dk_at dksX1_init_4 9 rfl rfl)
theorem dX1_init_106 : decode cX1_init 106 = .ok (.aload_n 0, 1) := dk_42 (dk_at dksX1_init_4 12 rfl rfl)
theorem dX1_init_107 : decode cX1_init 107 = .ok (.bipush 8, 2) := dk_16 8 (dk_at dksX1_init_4 13 rfl rfl)
theorem dX1_init_109 : decode cX1_init 109 = .ok (.newarray .long, 2) := dk_188_11 (dk_at dksX1_init_4 15 rfl rfl)
theorem dX1_init_111 : decode cX1_init 111 = .ok (.putfield 58, 3) := dk_181 0 58 (dk_at dksX1_init_4 17 rfl rfl)
theorem dX1_init_114 : decode cX1_init 114 = .ok (.aload_n 0, 1) := dk_42 (dk_at dksX1_init_4 20 rfl rfl)
theorem dX1_init_115 : decode cX1_init 115 = .ok (.new 61, 3) := dk_187 0 61 (dk_at dksX1_init_4 21 rfl rfl)
theorem dX1_init_118 : decode cX1_init 118 = .ok (.dup, 1) := dk_89 (dk_at dksX1_init_5 0 rfl rfl)
theorem dX1_init_119 : decode cX1_init 119 = .ok (.bipush 8, 2) := dk_16 8 (dk_at dksX1_init_5 1 rfl rfl)
theorem dX1_init_121 : decode cX1_init 121 = .ok (.invokespecial 63, 3) := dk_183 0 63 (dk_at dksX1_init_5 3 rfl rfl)
theorem dX1_init_124 : decode cX1_init 124 = .ok (.putfield 64, 3) := dk_181 0 64 (dk_at dksX1_init_5 6 rfl rfl)
theorem dX1_init_127 : decode cX1_init 127 = .ok (.iconst 0, 1) := dk_3 (dk_at dksX1_init_5 9 rfl rfl)
theorem dX1_init_128 : decode cX1_init 128 = .ok (.istore_n 1, 1) := dk_60 (dk_at dksX1_init_5 10 rfl rfl)
theorem dX1_init_129 : decode cX1_init 129 = .ok (.iload_n 1, 1) := dk_27 (dk_at dksX1_init_5 11 rfl rfl)
theorem dX1_init_130 : decode cX1_init 130 = .ok (.bipush 8, 2) := dk_16 8 (dk_at dksX1_init_5 12 rfl rfl)
theorem dX1_init_132 : decode cX1_init 132 = .ok (.if_icmp .ge 23, 3) := dk_162 0 23 (dk_at dksX1_init_5 14 rfl rfl)
theorem dX1_init_135 : decode cX1_init 135 = .ok (.aload_n 0, 1) := dk_42 (dk_at dksX1_init_5 17 rfl rfl)
theorem dX1_init_136 : decode cX1_init 136 = .ok (.getfield 45, 3) := dk_180 0 45 (dk_at dksX1_init_5 18 rfl rfl)
theorem dX1_init_139 : decode cX1_init 139 = .ok (.iload_n 1, 1) := dk_27 (dk_at dksX1_init_5 21 rfl rfl)
theorem dX1_init_140 : decode cX1_init 140 = .ok (.new 43, 3) := dk_187 0 43 (dk_at dksX1_init_6 0 rfl rfl)
theorem dX1_init_143 : decode cX1_init 143 = .ok (.dup, 1) := dk_89 (dk_at dksX1_init_6 3 rfl rfl)
theorem dX1_init_144 : decode cX1_init 144 = .ok (.iload_n 1, 1) := dk_27 (dk_at dksX1_init_6 4 rfl rfl)
theorem dX1_init_145 : decode cX1_init 145 = .ok (.invokespecial 68, 3) := dk_183 0 68 (dk_at dksX1_init_6 5 rfl rfl)
theorem dX1_init_148 : decode cX1_init 148 = .ok (.aastore, 1) := dk_83 (dk_at dksX1_init_6 8 rfl rfl)
theorem dX1_init_149 : decode cX1_init 149 = .ok (.iinc 1 1, 3) := dk_132 1 1 (dk_at dksX1_init_6 9 rfl rfl)
theorem dX1_init_152 : decode cX1_init 152 = .ok (.goto (-23), 3) := dk_167 255 233 (dk_at dksX1_init_6 12 rfl rfl)
theorem dX1_init_155 : decode cX1_init 155 = .ok (.return_, 1) := dk_177 (dk_at dksX1_init_6 15 rfl rfl)
abbrev cX1_adds : ByteArray := prog_6_method_3_code
def yX1_adds : MethodName := ⟨RX1, "adds", "(IIIIJ)V"⟩
def dkwX1_adds_2 : List UInt8 := [180, 0, 69, 22, 5, 80, 42, 89, 180, 0, 69, 4, 96, 181, 0, 69, 177]
abbrev dktX1_adds_2 : List UInt8 := dkwX1_adds_2 ++ []
def dkwX1_adds_1 : List UInt8 := [42, 180, 0, 69, 29, 79, 42, 180, 0, 21, 42, 180, 0, 69, 21, 4, 79, 42, 180, 0, 24, 42]
abbrev dktX1_adds_1 : List UInt8 := dkwX1_adds_1 ++ dktX1_adds_2
def dkwX1_adds_0 : List UInt8 := [42, 180, 0, 9, 42, 180, 0, 69, 27, 79, 42, 180, 0, 15, 42, 180, 0, 69, 28, 79, 42, 180, 0, 18]
abbrev dktX1_adds_0 : List UInt8 := dkwX1_adds_0 ++ dktX1_adds_1
theorem dksX1_adds_0 : cX1_adds.data.toList.drop 0 = dktX1_adds_0 := by decide +kernel
theorem dksX1_adds_1 : cX1_adds.data.toList.drop 24 = dktX1_adds_1 := dk_seg dksX1_adds_0 24 rfl rfl
theorem dksX1_adds_2 : cX1_adds.data.toList.drop 46 = dktX1_adds_2 := dk_seg dksX1_adds_1 22 rfl rfl
theorem dX1_adds_0 : decode cX1_adds 0 = .ok (.aload_n 0, 1) := dk_42 (dk_at dksX1_adds_0 0 rfl rfl)
theorem dX1_adds_1 : decode cX1_adds 1 = .ok (.getfield 9, 3) := dk_180 0 9 (dk_at dksX1_adds_0 1 rfl rfl)
theorem dX1_adds_4 : decode cX1_adds 4 = .ok (.aload_n 0, 1) := dk_42 (dk_at dksX1_adds_0 4 rfl rfl)
theorem dX1_adds_5 : decode cX1_adds 5 = .ok (.getfield 69, 3) := dk_180 0 69 (dk_at dksX1_adds_0 5 rfl rfl)
theorem dX1_adds_8 : decode cX1_adds 8 = .ok (.iload_n 1, 1) := dk_27 (dk_at dksX1_adds_0 8 rfl rfl)
theorem dX1_adds_9 : decode cX1_adds 9 = .ok (.iastore, 1) := dk_79 (dk_at dksX1_adds_0 9 rfl rfl)
theorem dX1_adds_10 : decode cX1_adds 10 = .ok (.aload_n 0, 1) := dk_42 (dk_at dksX1_adds_0 10 rfl rfl)
theorem dX1_adds_11 : decode cX1_adds 11 = .ok (.getfield 15, 3) := dk_180 0 15 (dk_at dksX1_adds_0 11 rfl rfl)
theorem dX1_adds_14 : decode cX1_adds 14 = .ok (.aload_n 0, 1) := dk_42 (dk_at dksX1_adds_0 14 rfl rfl)
theorem dX1_adds_15 : decode cX1_adds 15 = .ok (.getfield 69, 3) := dk_180 0 69 (dk_at dksX1_adds_0 15 rfl rfl)
theorem dX1_adds_18 : decode cX1_adds 18 = .ok (.iload_n 2, 1) := dk_28 (dk_at dksX1_adds_0 18 rfl rfl)
theorem dX1_adds_19 : decode cX1_adds 19 = .ok (.iastore, 1) := dk_79 (dk_at dksX1_adds_0 19 rfl rfl)
theorem dX1_adds_20 : decode cX1_adds 20 = .ok (.aload_n 0, 1) := dk_42 (dk_at dksX1_adds_0 20 rfl rfl)
theorem dX1_adds_21 : decode cX1_adds 21 = .ok (.getfield 18, 3) := dk_180 0 18 (dk_at dksX1_adds_0 21 rfl rfl)
theorem dX1_adds_24 : decode cX1_adds 24 = .ok (.aload_n 0, 1) := dk_42 (dk_at dksX1_adds_1 0 rfl rfl)
theorem dX1_adds_25 : decode cX1_adds 25 = .ok (.getfield 69, 3) := dk_180 0 69 (dk_at dksX1_adds_1 1 rfl rfl)
theorem dX1_adds_28 : decode cX1_adds 28 = .ok (.iload_n 3, 1) := dk_29 (dk_at dksX1_adds_1 4 rfl rfl)
theorem dX1_adds_29 : decode cX1_adds 29 = .ok (.iastore, 1) := dk_79 (dk_at dksX1_adds_1 5 rfl rfl)
theorem dX1_adds_30 : decode cX1_adds 30 = .ok (.aload_n 0, 1) := dk_42 (dk_at dksX1_adds_1 6 rfl rfl)
theorem dX1_adds_31 : decode cX1_adds 31 = .ok (.getfield 21, 3) := dk_180 0 21 (dk_at dksX1_adds_1 7 rfl rfl)
theorem dX1_adds_34 : decode cX1_adds 34 = .ok (.aload_n 0, 1) := dk_42 (dk_at dksX1_adds_1 10 rfl rfl)
theorem dX1_adds_35 : decode cX1_adds 35 = .ok (.getfield 69, 3) := dk_180 0 69 (dk_at dksX1_adds_1 11 rfl rfl)
theorem dX1_adds_38 : decode cX1_adds 38 = .ok (.iload 4, 2) := dk_21 4 (dk_at dksX1_adds_1 14 rfl rfl)
theorem dX1_adds_40 : decode cX1_adds 40 = .ok (.iastore, 1) := dk_79 (dk_at dksX1_adds_1 16 rfl rfl)
theorem dX1_adds_41 : decode cX1_adds 41 = .ok (.aload_n 0, 1) := dk_42 (dk_at dksX1_adds_1 17 rfl rfl)
theorem dX1_adds_42 : decode cX1_adds 42 = .ok (.getfield 24, 3) := dk_180 0 24 (dk_at dksX1_adds_1 18 rfl rfl)
theorem dX1_adds_45 : decode cX1_adds 45 = .ok (.aload_n 0, 1) := dk_42 (dk_at dksX1_adds_1 21 rfl rfl)
theorem dX1_adds_46 : decode cX1_adds 46 = .ok (.getfield 69, 3) := dk_180 0 69 (dk_at dksX1_adds_2 0 rfl rfl)
theorem dX1_adds_49 : decode cX1_adds 49 = .ok (.lload 5, 2) := dk_22 5 (dk_at dksX1_adds_2 3 rfl rfl)
theorem dX1_adds_51 : decode cX1_adds 51 = .ok (.lastore, 1) := dk_80 (dk_at dksX1_adds_2 5 rfl rfl)
theorem dX1_adds_52 : decode cX1_adds 52 = .ok (.aload_n 0, 1) := dk_42 (dk_at dksX1_adds_2 6 rfl rfl)
theorem dX1_adds_53 : decode cX1_adds 53 = .ok (.dup, 1) := dk_89 (dk_at dksX1_adds_2 7 rfl rfl)
theorem dX1_adds_54 : decode cX1_adds 54 = .ok (.getfield 69, 3) := dk_180 0 69 (dk_at dksX1_adds_2 8 rfl rfl)
theorem dX1_adds_57 : decode cX1_adds 57 = .ok (.iconst 1, 1) := dk_4 (dk_at dksX1_adds_2 11 rfl rfl)
theorem dX1_adds_58 : decode cX1_adds 58 = .ok (.iadd, 1) := dk_96 (dk_at dksX1_adds_2 12 rfl rfl)
theorem dX1_adds_59 : decode cX1_adds 59 = .ok (.putfield 69, 3) := dk_181 0 69 (dk_at dksX1_adds_2 13 rfl rfl)
theorem dX1_adds_62 : decode cX1_adds 62 = .ok (.return_, 1) := dk_177 (dk_at dksX1_adds_2 16 rfl rfl)
abbrev cX1_solve : ByteArray := prog_6_method_17_code
def yX1_solve : MethodName := ⟨RX1, "solve", "()Z"⟩
def dkwX1_solve_8 : List UInt8 := [180, 0, 158, 172]
abbrev dktX1_solve_8 : List UInt8 := dkwX1_solve_8 ++ []
def dkwX1_solve_7 : List UInt8 := [153, 0, 15, 42, 42, 27, 182, 0, 161, 181, 0, 158, 167, 255, 231, 132, 1, 1, 167, 255, 210, 42]
abbrev dktX1_solve_7 : List UInt8 := dkwX1_solve_7 ++ dktX1_solve_8
def dkwX1_solve_6 : List UInt8 := [162, 0, 44, 42, 180, 0, 158, 153, 0, 37, 42, 180, 0, 34, 27, 46, 158, 0, 22, 42, 180, 0, 158]
abbrev dktX1_solve_6 : List UInt8 := dkwX1_solve_6 ++ dktX1_solve_7
def dkwX1_solve_5 : List UInt8 := [46, 96, 79, 132, 1, 1, 167, 255, 173, 42, 42, 182, 0, 155, 181, 0, 158, 3, 60, 27, 42, 180, 0, 138]
abbrev dktX1_solve_5 : List UInt8 := dkwX1_solve_5 ++ dktX1_solve_6
def dkwX1_solve_4 : List UInt8 := [180, 0, 28, 27, 46, 100, 79, 42, 180, 0, 34, 42, 180, 0, 15, 27, 46, 92, 46, 42, 180, 0, 28, 27]
abbrev dktX1_solve_4 : List UInt8 := dkwX1_solve_4 ++ dktX1_solve_5
def dkwX1_solve_3 : List UInt8 := [46, 167, 0, 9, 42, 180, 0, 18, 27, 46, 79, 42, 180, 0, 34, 42, 180, 0, 9, 27, 46, 92, 46, 42]
abbrev dktX1_solve_3 : List UInt8 := dkwX1_solve_3 ++ dktX1_solve_4
def dkwX1_solve_2 : List UInt8 := [162, 0, 81, 42, 180, 0, 28, 27, 42, 180, 0, 24, 27, 47, 9, 148, 156, 0, 12, 42, 180, 0, 21, 27]
abbrev dktX1_solve_2 : List UInt8 := dkwX1_solve_2 ++ dktX1_solve_3
def dkwX1_solve_1 : List UInt8 := [27, 9, 80, 42, 180, 0, 40, 27, 9, 80, 132, 1, 1, 167, 255, 221, 3, 60, 27, 42, 180, 0, 69]
abbrev dktX1_solve_1 : List UInt8 := dkwX1_solve_1 ++ dktX1_solve_2
def dkwX1_solve_0 : List UInt8 := [3, 60, 27, 16, 8, 162, 0, 35, 42, 180, 0, 34, 27, 42, 180, 0, 31, 27, 46, 79, 42, 180, 0, 37]
abbrev dktX1_solve_0 : List UInt8 := dkwX1_solve_0 ++ dktX1_solve_1
theorem dksX1_solve_0 : cX1_solve.data.toList.drop 0 = dktX1_solve_0 := by decide +kernel
theorem dksX1_solve_1 : cX1_solve.data.toList.drop 24 = dktX1_solve_1 := dk_seg dksX1_solve_0 24 rfl rfl
theorem dksX1_solve_2 : cX1_solve.data.toList.drop 47 = dktX1_solve_2 := dk_seg dksX1_solve_1 23 rfl rfl
theorem dksX1_solve_3 : cX1_solve.data.toList.drop 71 = dktX1_solve_3 := dk_seg dksX1_solve_2 24 rfl rfl
theorem dksX1_solve_4 : cX1_solve.data.toList.drop 95 = dktX1_solve_4 := dk_seg dksX1_solve_3 24 rfl rfl
theorem dksX1_solve_5 : cX1_solve.data.toList.drop 119 = dktX1_solve_5 := dk_seg dksX1_solve_4 24 rfl rfl
theorem dksX1_solve_6 : cX1_solve.data.toList.drop 143 = dktX1_solve_6 := dk_seg dksX1_solve_5 24 rfl rfl
theorem dksX1_solve_7 : cX1_solve.data.toList.drop 166 = dktX1_solve_7 := dk_seg dksX1_solve_6 23 rfl rfl
theorem dksX1_solve_8 : cX1_solve.data.toList.drop 188 = dktX1_solve_8 := dk_seg dksX1_solve_7 22 rfl rfl
theorem dX1_solve_0 : decode cX1_solve 0 = .ok (.iconst 0, 1) := dk_3 (dk_at dksX1_solve_0 0 rfl rfl)
theorem dX1_solve_1 : decode cX1_solve 1 = .ok (.istore_n 1, 1) := dk_60 (dk_at dksX1_solve_0 1 rfl rfl)
theorem dX1_solve_2 : decode cX1_solve 2 = .ok (.iload_n 1, 1) := dk_27 (dk_at dksX1_solve_0 2 rfl rfl)
theorem dX1_solve_3 : decode cX1_solve 3 = .ok (.bipush 8, 2) := dk_16 8 (dk_at dksX1_solve_0 3 rfl rfl)
theorem dX1_solve_5 : decode cX1_solve 5 = .ok (.if_icmp .ge 35, 3) := dk_162 0 35 (dk_at dksX1_solve_0 5 rfl rfl)
theorem dX1_solve_8 : decode cX1_solve 8 = .ok (.aload_n 0, 1) := dk_42 (dk_at dksX1_solve_0 8 rfl rfl)
theorem dX1_solve_9 : decode cX1_solve 9 = .ok (.getfield 34, 3) := dk_180 0 34 (dk_at dksX1_solve_0 9 rfl rfl)
theorem dX1_solve_12 : decode cX1_solve 12 = .ok (.iload_n 1, 1) := dk_27 (dk_at dksX1_solve_0 12 rfl rfl)
theorem dX1_solve_13 : decode cX1_solve 13 = .ok (.aload_n 0, 1) := dk_42 (dk_at dksX1_solve_0 13 rfl rfl)
theorem dX1_solve_14 : decode cX1_solve 14 = .ok (.getfield 31, 3) := dk_180 0 31 (dk_at dksX1_solve_0 14 rfl rfl)
theorem dX1_solve_17 : decode cX1_solve 17 = .ok (.iload_n 1, 1) := dk_27 (dk_at dksX1_solve_0 17 rfl rfl)
theorem dX1_solve_18 : decode cX1_solve 18 = .ok (.iaload, 1) := dk_46 (dk_at dksX1_solve_0 18 rfl rfl)
theorem dX1_solve_19 : decode cX1_solve 19 = .ok (.iastore, 1) := dk_79 (dk_at dksX1_solve_0 19 rfl rfl)
theorem dX1_solve_20 : decode cX1_solve 20 = .ok (.aload_n 0, 1) := dk_42 (dk_at dksX1_solve_0 20 rfl rfl)
theorem dX1_solve_21 : decode cX1_solve 21 = .ok (.getfield 37, 3) := dk_180 0 37 (dk_at dksX1_solve_0 21 rfl rfl)
theorem dX1_solve_24 : decode cX1_solve 24 = .ok (.iload_n 1, 1) := dk_27 (dk_at dksX1_solve_1 0 rfl rfl)
theorem dX1_solve_25 : decode cX1_solve 25 = .ok (.lconst 0, 1) := dk_9 (dk_at dksX1_solve_1 1 rfl rfl)
theorem dX1_solve_26 : decode cX1_solve 26 = .ok (.lastore, 1) := dk_80 (dk_at dksX1_solve_1 2 rfl rfl)
theorem dX1_solve_27 : decode cX1_solve 27 = .ok (.aload_n 0, 1) := dk_42 (dk_at dksX1_solve_1 3 rfl rfl)
theorem dX1_solve_28 : decode cX1_solve 28 = .ok (.getfield 40, 3) := dk_180 0 40 (dk_at dksX1_solve_1 4 rfl rfl)
theorem dX1_solve_31 : decode cX1_solve 31 = .ok (.iload_n 1, 1) := dk_27 (dk_at dksX1_solve_1 7 rfl rfl)
theorem dX1_solve_32 : decode cX1_solve 32 = .ok (.lconst 0, 1) := dk_9 (dk_at dksX1_solve_1 8 rfl rfl)
theorem dX1_solve_33 : decode cX1_solve 33 = .ok (.lastore, 1) := dk_80 (dk_at dksX1_solve_1 9 rfl rfl)
theorem dX1_solve_34 : decode cX1_solve 34 = .ok (.iinc 1 1, 3) := dk_132 1 1 (dk_at dksX1_solve_1 10 rfl rfl)
theorem dX1_solve_37 : decode cX1_solve 37 = .ok (.goto (-35), 3) := dk_167 255 221 (dk_at dksX1_solve_1 13 rfl rfl)
theorem dX1_solve_40 : decode cX1_solve 40 = .ok (.iconst 0, 1) := dk_3 (dk_at dksX1_solve_1 16 rfl rfl)
theorem dX1_solve_41 : decode cX1_solve 41 = .ok (.istore_n 1, 1) := dk_60 (dk_at dksX1_solve_1 17 rfl rfl)
theorem dX1_solve_42 : decode cX1_solve 42 = .ok (.iload_n 1, 1) := dk_27 (dk_at dksX1_solve_1 18 rfl rfl)
theorem dX1_solve_43 : decode cX1_solve 43 = .ok (.aload_n 0, 1) := dk_42 (dk_at dksX1_solve_1 19 rfl rfl)
theorem dX1_solve_44 : decode cX1_solve 44 = .ok (.getfield 69, 3) := dk_180 0 69 (dk_at dksX1_solve_1 20 rfl rfl)
theorem dX1_solve_47 : decode cX1_solve 47 = .ok (.if_icmp .ge 81, 3) := dk_162 0 81 (dk_at dksX1_solve_2 0 rfl rfl)
theorem dX1_solve_50 : decode cX1_solve 50 = .ok (.aload_n 0, 1) := dk_42 (dk_at dksX1_solve_2 3 rfl rfl)
theorem dX1_solve_51 : decode cX1_solve 51 = .ok (.getfield 28, 3) := dk_180 0 28 (dk_at dksX1_solve_2 4 rfl rfl)
theorem dX1_solve_54 : decode cX1_solve 54 = .ok (.iload_n 1, 1) := dk_27 (dk_at dksX1_solve_2 7 rfl rfl)
theorem dX1_solve_55 : decode cX1_solve 55 = .ok (.aload_n 0, 1) := dk_42 (dk_at dksX1_solve_2 8 rfl rfl)
theorem dX1_solve_56 : decode cX1_solve 56 = .ok (.getfield 24, 3) := dk_180 0 24 (dk_at dksX1_solve_2 9 rfl rfl)
theorem dX1_solve_59 : decode cX1_solve 59 = .ok (.iload_n 1, 1) := dk_27 (dk_at dksX1_solve_2 12 rfl rfl)
theorem dX1_solve_60 : decode cX1_solve 60 = .ok (.laload, 1) := dk_47 (dk_at dksX1_solve_2 13 rfl rfl)
theorem dX1_solve_61 : decode cX1_solve 61 = .ok (.lconst 0, 1) := dk_9 (dk_at dksX1_solve_2 14 rfl rfl)
theorem dX1_solve_62 : decode cX1_solve 62 = .ok (.lcmp, 1) := dk_148 (dk_at dksX1_solve_2 15 rfl rfl)
theorem dX1_solve_63 : decode cX1_solve 63 = .ok (.ifCond .ge 12, 3) := dk_156 0 12 (dk_at dksX1_solve_2 16 rfl rfl)
theorem dX1_solve_66 : decode cX1_solve 66 = .ok (.aload_n 0, 1) := dk_42 (dk_at dksX1_solve_2 19 rfl rfl)
theorem dX1_solve_67 : decode cX1_solve 67 = .ok (.getfield 21, 3) := dk_180 0 21 (dk_at dksX1_solve_2 20 rfl rfl)
theorem dX1_solve_70 : decode cX1_solve 70 = .ok (.iload_n 1, 1) := dk_27 (dk_at dksX1_solve_2 23 rfl rfl)
theorem dX1_solve_71 : decode cX1_solve 71 = .ok (.iaload, 1) := dk_46 (dk_at dksX1_solve_3 0 rfl rfl)
theorem dX1_solve_72 : decode cX1_solve 72 = .ok (.goto 9, 3) := dk_167 0 9 (dk_at dksX1_solve_3 1 rfl rfl)
theorem dX1_solve_75 : decode cX1_solve 75 = .ok (.aload_n 0, 1) := dk_42 (dk_at dksX1_solve_3 4 rfl rfl)
theorem dX1_solve_76 : decode cX1_solve 76 = .ok (.getfield 18, 3) := dk_180 0 18 (dk_at dksX1_solve_3 5 rfl rfl)
theorem dX1_solve_79 : decode cX1_solve 79 = .ok (.iload_n 1, 1) := dk_27 (dk_at dksX1_solve_3 8 rfl rfl)
theorem dX1_solve_80 : decode cX1_solve 80 = .ok (.iaload, 1) := dk_46 (dk_at dksX1_solve_3 9 rfl rfl)
theorem dX1_solve_81 : decode cX1_solve 81 = .ok (.iastore, 1) := dk_79 (dk_at dksX1_solve_3 10 rfl rfl)
theorem dX1_solve_82 : decode cX1_solve 82 = .ok (.aload_n 0, 1) := dk_42 (dk_at dksX1_solve_3 11 rfl rfl)
theorem dX1_solve_83 : decode cX1_solve 83 = .ok (.getfield 34, 3) := dk_180 0 34 (dk_at dksX1_solve_3 12 rfl rfl)
theorem dX1_solve_86 : decode cX1_solve 86 = .ok (.aload_n 0, 1) := dk_42 (dk_at dksX1_solve_3 15 rfl rfl)
theorem dX1_solve_87 : decode cX1_solve 87 = .ok (.getfield 9, 3) := dk_180 0 9 (dk_at dksX1_solve_3 16 rfl rfl)
theorem dX1_solve_90 : decode cX1_solve 90 = .ok (.iload_n 1, 1) := dk_27 (dk_at dksX1_solve_3 19 rfl rfl)
theorem dX1_solve_91 : decode cX1_solve 91 = .ok (.iaload, 1) := dk_46 (dk_at dksX1_solve_3 20 rfl rfl)
theorem dX1_solve_92 : decode cX1_solve 92 = .ok (.dup2, 1) := dk_92 (dk_at dksX1_solve_3 21 rfl rfl)
theorem dX1_solve_93 : decode cX1_solve 93 = .ok (.iaload, 1) := dk_46 (dk_at dksX1_solve_3 22 rfl rfl)
theorem dX1_solve_94 : decode cX1_solve 94 = .ok (.aload_n 0, 1) := dk_42 (dk_at dksX1_solve_3 23 rfl rfl)
theorem dX1_solve_95 : decode cX1_solve 95 = .ok (.getfield 28, 3) := dk_180 0 28 (dk_at dksX1_solve_4 0 rfl rfl)
theorem dX1_solve_98 : decode cX1_solve 98 = .ok (.iload_n 1, 1) := dk_27 (dk_at dksX1_solve_4 3 rfl rfl)
theorem dX1_solve_99 : decode cX1_solve 99 = .ok (.iaload, 1) := dk_46 (dk_at dksX1_solve_4 4 rfl rfl)
theorem dX1_solve_100 : decode cX1_solve 100 = .ok (.isub, 1) := dk_100 (dk_at dksX1_solve_4 5 rfl rfl)
theorem dX1_solve_101 : decode cX1_solve 101 = .ok (.iastore, 1) := dk_79 (dk_at dksX1_solve_4 6 rfl rfl)
theorem dX1_solve_102 : decode cX1_solve 102 = .ok (.aload_n 0, 1) := dk_42 (dk_at dksX1_solve_4 7 rfl rfl)
theorem dX1_solve_103 : decode cX1_solve 103 = .ok (.getfield 34, 3) := dk_180 0 34 (dk_at dksX1_solve_4 8 rfl rfl)
theorem dX1_solve_106 : decode cX1_solve 106 = .ok (.aload_n 0, 1) := dk_42 (dk_at dksX1_solve_4 11 rfl rfl)
theorem dX1_solve_107 : decode cX1_solve 107 = .ok (.getfield 15, 3) := dk_180 0 15 (dk_at dksX1_solve_4 12 rfl rfl)
theorem dX1_solve_110 : decode cX1_solve 110 = .ok (.iload_n 1, 1) := dk_27 (dk_at dksX1_solve_4 15 rfl rfl)
theorem dX1_solve_111 : decode cX1_solve 111 = .ok (.iaload, 1) := dk_46 (dk_at dksX1_solve_4 16 rfl rfl)
theorem dX1_solve_112 : decode cX1_solve 112 = .ok (.dup2, 1) := dk_92 (dk_at dksX1_solve_4 17 rfl rfl)
theorem dX1_solve_113 : decode cX1_solve 113 = .ok (.iaload, 1) := dk_46 (dk_at dksX1_solve_4 18 rfl rfl)
theorem dX1_solve_114 : decode cX1_solve 114 = .ok (.aload_n 0, 1) := dk_42 (dk_at dksX1_solve_4 19 rfl rfl)
theorem dX1_solve_115 : decode cX1_solve 115 = .ok (.getfield 28, 3) := dk_180 0 28 (dk_at dksX1_solve_4 20 rfl rfl)
theorem dX1_solve_118 : decode cX1_solve 118 = .ok (.iload_n 1, 1) := dk_27 (dk_at dksX1_solve_4 23 rfl rfl)
theorem dX1_solve_119 : decode cX1_solve 119 = .ok (.iaload, 1) := dk_46 (dk_at dksX1_solve_5 0 rfl rfl)
theorem dX1_solve_120 : decode cX1_solve 120 = .ok (.iadd, 1) := dk_96 (dk_at dksX1_solve_5 1 rfl rfl)
theorem dX1_solve_121 : decode cX1_solve 121 = .ok (.iastore, 1) := dk_79 (dk_at dksX1_solve_5 2 rfl rfl)
theorem dX1_solve_122 : decode cX1_solve 122 = .ok (.iinc 1 1, 3) := dk_132 1 1 (dk_at dksX1_solve_5 3 rfl rfl)
theorem dX1_solve_125 : decode cX1_solve 125 = .ok (.goto (-83), 3) := dk_167 255 173 (dk_at dksX1_solve_5 6 rfl rfl)
theorem dX1_solve_128 : decode cX1_solve 128 = .ok (.aload_n 0, 1) := dk_42 (dk_at dksX1_solve_5 9 rfl rfl)
theorem dX1_solve_129 : decode cX1_solve 129 = .ok (.aload_n 0, 1) := dk_42 (dk_at dksX1_solve_5 10 rfl rfl)
theorem dX1_solve_130 : decode cX1_solve 130 = .ok (.invokevirtual 155, 3) := dk_182 0 155 (dk_at dksX1_solve_5 11 rfl rfl)
theorem dX1_solve_133 : decode cX1_solve 133 = .ok (.putfield 158, 3) := dk_181 0 158 (dk_at dksX1_solve_5 14 rfl rfl)
theorem dX1_solve_136 : decode cX1_solve 136 = .ok (.iconst 0, 1) := dk_3 (dk_at dksX1_solve_5 17 rfl rfl)
theorem dX1_solve_137 : decode cX1_solve 137 = .ok (.istore_n 1, 1) := dk_60 (dk_at dksX1_solve_5 18 rfl rfl)
theorem dX1_solve_138 : decode cX1_solve 138 = .ok (.iload_n 1, 1) := dk_27 (dk_at dksX1_solve_5 19 rfl rfl)
theorem dX1_solve_139 : decode cX1_solve 139 = .ok (.aload_n 0, 1) := dk_42 (dk_at dksX1_solve_5 20 rfl rfl)
theorem dX1_solve_140 : decode cX1_solve 140 = .ok (.getfield 138, 3) := dk_180 0 138 (dk_at dksX1_solve_5 21 rfl rfl)
theorem dX1_solve_143 : decode cX1_solve 143 = .ok (.if_icmp .ge 44, 3) := dk_162 0 44 (dk_at dksX1_solve_6 0 rfl rfl)
theorem dX1_solve_146 : decode cX1_solve 146 = .ok (.aload_n 0, 1) := dk_42 (dk_at dksX1_solve_6 3 rfl rfl)
theorem dX1_solve_147 : decode cX1_solve 147 = .ok (.getfield 158, 3) := dk_180 0 158 (dk_at dksX1_solve_6 4 rfl rfl)
theorem dX1_solve_150 : decode cX1_solve 150 = .ok (.ifCond .eq 37, 3) := dk_153 0 37 (dk_at dksX1_solve_6 7 rfl rfl)
theorem dX1_solve_153 : decode cX1_solve 153 = .ok (.aload_n 0, 1) := dk_42 (dk_at dksX1_solve_6 10 rfl rfl)
theorem dX1_solve_154 : decode cX1_solve 154 = .ok (.getfield 34, 3) := dk_180 0 34 (dk_at dksX1_solve_6 11 rfl rfl)
theorem dX1_solve_157 : decode cX1_solve 157 = .ok (.iload_n 1, 1) := dk_27 (dk_at dksX1_solve_6 14 rfl rfl)
theorem dX1_solve_158 : decode cX1_solve 158 = .ok (.iaload, 1) := dk_46 (dk_at dksX1_solve_6 15 rfl rfl)
theorem dX1_solve_159 : decode cX1_solve 159 = .ok (.ifCond .le 22, 3) := dk_158 0 22 (dk_at dksX1_solve_6 16 rfl rfl)
theorem dX1_solve_162 : decode cX1_solve 162 = .ok (.aload_n 0, 1) := dk_42 (dk_at dksX1_solve_6 19 rfl rfl)
theorem dX1_solve_163 : decode cX1_solve 163 = .ok (.getfield 158, 3) := dk_180 0 158 (dk_at dksX1_solve_6 20 rfl rfl)
theorem dX1_solve_166 : decode cX1_solve 166 = .ok (.ifCond .eq 15, 3) := dk_153 0 15 (dk_at dksX1_solve_7 0 rfl rfl)
theorem dX1_solve_169 : decode cX1_solve 169 = .ok (.aload_n 0, 1) := dk_42 (dk_at dksX1_solve_7 3 rfl rfl)
theorem dX1_solve_170 : decode cX1_solve 170 = .ok (.aload_n 0, 1) := dk_42 (dk_at dksX1_solve_7 4 rfl rfl)
theorem dX1_solve_171 : decode cX1_solve 171 = .ok (.iload_n 1, 1) := dk_27 (dk_at dksX1_solve_7 5 rfl rfl)
theorem dX1_solve_172 : decode cX1_solve 172 = .ok (.invokevirtual 161, 3) := dk_182 0 161 (dk_at dksX1_solve_7 6 rfl rfl)
theorem dX1_solve_175 : decode cX1_solve 175 = .ok (.putfield 158, 3) := dk_181 0 158 (dk_at dksX1_solve_7 9 rfl rfl)
theorem dX1_solve_178 : decode cX1_solve 178 = .ok (.goto (-25), 3) := dk_167 255 231 (dk_at dksX1_solve_7 12 rfl rfl)
theorem dX1_solve_181 : decode cX1_solve 181 = .ok (.iinc 1 1, 3) := dk_132 1 1 (dk_at dksX1_solve_7 15 rfl rfl)
theorem dX1_solve_184 : decode cX1_solve 184 = .ok (.goto (-46), 3) := dk_167 255 210 (dk_at dksX1_solve_7 18 rfl rfl)
theorem dX1_solve_187 : decode cX1_solve 187 = .ok (.aload_n 0, 1) := dk_42 (dk_at dksX1_solve_7 21 rfl rfl)
theorem dX1_solve_188 : decode cX1_solve 188 = .ok (.getfield 158, 3) := dk_180 0 158 (dk_at dksX1_solve_8 0 rfl rfl)
theorem dX1_solve_191 : decode cX1_solve 191 = .ok (.ireturn, 1) := dk_172 (dk_at dksX1_solve_8 3 rfl rfl)
abbrev cX1_isBalanced : ByteArray := prog_6_method_18_code
def yX1_isBalanced : MethodName := ⟨RX1, "isBalanced", "()Z"⟩
def dkwX1_isBalanced_1 : List UInt8 := [167, 255, 236, 27, 154, 0, 7, 4, 167, 0, 4, 3, 172]
abbrev dktX1_isBalanced_1 : List UInt8 := dkwX1_isBalanced_1 ++ []
def dkwX1_isBalanced_0 : List UInt8 := [3, 60, 3, 61, 28, 42, 180, 0, 138, 162, 0, 18, 27, 42, 180, 0, 31, 28, 46, 96, 60, 132, 2, 1]
abbrev dktX1_isBalanced_0 : List UInt8 := dkwX1_isBalanced_0 ++ dktX1_isBalanced_1
theorem dksX1_isBalanced_0 : cX1_isBalanced.data.toList.drop 0 = dktX1_isBalanced_0 := by decide +kernel
theorem dksX1_isBalanced_1 : cX1_isBalanced.data.toList.drop 24 = dktX1_isBalanced_1 := dk_seg dksX1_isBalanced_0 24 rfl rfl
theorem dX1_isBalanced_0 : decode cX1_isBalanced 0 = .ok (.iconst 0, 1) := dk_3 (dk_at dksX1_isBalanced_0 0 rfl rfl)
theorem dX1_isBalanced_1 : decode cX1_isBalanced 1 = .ok (.istore_n 1, 1) := dk_60 (dk_at dksX1_isBalanced_0 1 rfl rfl)
theorem dX1_isBalanced_2 : decode cX1_isBalanced 2 = .ok (.iconst 0, 1) := dk_3 (dk_at dksX1_isBalanced_0 2 rfl rfl)
theorem dX1_isBalanced_3 : decode cX1_isBalanced 3 = .ok (.istore_n 2, 1) := dk_61 (dk_at dksX1_isBalanced_0 3 rfl rfl)
theorem dX1_isBalanced_4 : decode cX1_isBalanced 4 = .ok (.iload_n 2, 1) := dk_28 (dk_at dksX1_isBalanced_0 4 rfl rfl)
theorem dX1_isBalanced_5 : decode cX1_isBalanced 5 = .ok (.aload_n 0, 1) := dk_42 (dk_at dksX1_isBalanced_0 5 rfl rfl)
theorem dX1_isBalanced_6 : decode cX1_isBalanced 6 = .ok (.getfield 138, 3) := dk_180 0 138 (dk_at dksX1_isBalanced_0 6 rfl rfl)
theorem dX1_isBalanced_9 : decode cX1_isBalanced 9 = .ok (.if_icmp .ge 18, 3) := dk_162 0 18 (dk_at dksX1_isBalanced_0 9 rfl rfl)
theorem dX1_isBalanced_12 : decode cX1_isBalanced 12 = .ok (.iload_n 1, 1) := dk_27 (dk_at dksX1_isBalanced_0 12 rfl rfl)
theorem dX1_isBalanced_13 : decode cX1_isBalanced 13 = .ok (.aload_n 0, 1) := dk_42 (dk_at dksX1_isBalanced_0 13 rfl rfl)
theorem dX1_isBalanced_14 : decode cX1_isBalanced 14 = .ok (.getfield 31, 3) := dk_180 0 31 (dk_at dksX1_isBalanced_0 14 rfl rfl)
theorem dX1_isBalanced_17 : decode cX1_isBalanced 17 = .ok (.iload_n 2, 1) := dk_28 (dk_at dksX1_isBalanced_0 17 rfl rfl)
theorem dX1_isBalanced_18 : decode cX1_isBalanced 18 = .ok (.iaload, 1) := dk_46 (dk_at dksX1_isBalanced_0 18 rfl rfl)
theorem dX1_isBalanced_19 : decode cX1_isBalanced 19 = .ok (.iadd, 1) := dk_96 (dk_at dksX1_isBalanced_0 19 rfl rfl)
theorem dX1_isBalanced_20 : decode cX1_isBalanced 20 = .ok (.istore_n 1, 1) := dk_60 (dk_at dksX1_isBalanced_0 20 rfl rfl)
theorem dX1_isBalanced_21 : decode cX1_isBalanced 21 = .ok (.iinc 2 1, 3) := dk_132 2 1 (dk_at dksX1_isBalanced_0 21 rfl rfl)
theorem dX1_isBalanced_24 : decode cX1_isBalanced 24 = .ok (.goto (-20), 3) := dk_167 255 236 (dk_at dksX1_isBalanced_1 0 rfl rfl)
theorem dX1_isBalanced_27 : decode cX1_isBalanced 27 = .ok (.iload_n 1, 1) := dk_27 (dk_at dksX1_isBalanced_1 3 rfl rfl)
theorem dX1_isBalanced_28 : decode cX1_isBalanced 28 = .ok (.ifCond .ne 7, 3) := dk_154 0 7 (dk_at dksX1_isBalanced_1 4 rfl rfl)
theorem dX1_isBalanced_31 : decode cX1_isBalanced 31 = .ok (.iconst 1, 1) := dk_4 (dk_at dksX1_isBalanced_1 7 rfl rfl)
theorem dX1_isBalanced_32 : decode cX1_isBalanced 32 = .ok (.goto 4, 3) := dk_167 0 4 (dk_at dksX1_isBalanced_1 8 rfl rfl)
theorem dX1_isBalanced_35 : decode cX1_isBalanced 35 = .ok (.iconst 0, 1) := dk_3 (dk_at dksX1_isBalanced_1 11 rfl rfl)
theorem dX1_isBalanced_36 : decode cX1_isBalanced 36 = .ok (.ireturn, 1) := dk_172 (dk_at dksX1_isBalanced_1 12 rfl rfl)
abbrev cX1_isSent : ByteArray := prog_6_method_19_code
def yX1_isSent : MethodName := ⟨RX1, "isSent", "(I)Z"⟩
def dkwX1_isSent_2 : List UInt8 := [180, 0, 34, 27, 92, 46, 29, 100, 79, 42, 180, 0, 34, 28, 92, 46, 29, 96, 79, 4, 172]
abbrev dktX1_isSent_2 : List UInt8 := dkwX1_isSent_2 ++ []
def dkwX1_isSent_1 : List UInt8 := [27, 28, 42, 180, 0, 34, 27, 46, 42, 180, 0, 34, 28, 46, 116, 184, 0, 145, 182, 0, 174, 62, 42]
abbrev dktX1_isSent_1 : List UInt8 := dkwX1_isSent_1 ++ dktX1_isSent_2
def dkwX1_isSent_0 : List UInt8 := [42, 27, 182, 0, 165, 42, 182, 0, 168, 61, 28, 16, 251, 160, 0, 5, 3, 172, 42, 28, 182, 0, 172, 42]
abbrev dktX1_isSent_0 : List UInt8 := dkwX1_isSent_0 ++ dktX1_isSent_1
theorem dksX1_isSent_0 : cX1_isSent.data.toList.drop 0 = dktX1_isSent_0 := by decide +kernel
theorem dksX1_isSent_1 : cX1_isSent.data.toList.drop 24 = dktX1_isSent_1 := dk_seg dksX1_isSent_0 24 rfl rfl
theorem dksX1_isSent_2 : cX1_isSent.data.toList.drop 47 = dktX1_isSent_2 := dk_seg dksX1_isSent_1 23 rfl rfl
theorem dX1_isSent_0 : decode cX1_isSent 0 = .ok (.aload_n 0, 1) := dk_42 (dk_at dksX1_isSent_0 0 rfl rfl)
theorem dX1_isSent_1 : decode cX1_isSent 1 = .ok (.iload_n 1, 1) := dk_27 (dk_at dksX1_isSent_0 1 rfl rfl)
theorem dX1_isSent_2 : decode cX1_isSent 2 = .ok (.invokevirtual 165, 3) := dk_182 0 165 (dk_at dksX1_isSent_0 2 rfl rfl)
theorem dX1_isSent_5 : decode cX1_isSent 5 = .ok (.aload_n 0, 1) := dk_42 (dk_at dksX1_isSent_0 5 rfl rfl)
theorem dX1_isSent_6 : decode cX1_isSent 6 = .ok (.invokevirtual 168, 3) := dk_182 0 168 (dk_at dksX1_isSent_0 6 rfl rfl)
theorem dX1_isSent_9 : decode cX1_isSent 9 = .ok (.istore_n 2, 1) := dk_61 (dk_at dksX1_isSent_0 9 rfl rfl)
theorem dX1_isSent_10 : decode cX1_isSent 10 = .ok (.iload_n 2, 1) := dk_28 (dk_at dksX1_isSent_0 10 rfl rfl)
theorem dX1_isSent_11 : decode cX1_isSent 11 = .ok (.bipush (-5), 2) := dk_16 251 (dk_at dksX1_isSent_0 11 rfl rfl)
theorem dX1_isSent_13 : decode cX1_isSent 13 = .ok (.if_icmp .ne 5, 3) := dk_160 0 5 (dk_at dksX1_isSent_0 13 rfl rfl)
theorem dX1_isSent_16 : decode cX1_isSent 16 = .ok (.iconst 0, 1) := dk_3 (dk_at dksX1_isSent_0 16 rfl rfl)
theorem dX1_isSent_17 : decode cX1_isSent 17 = .ok (.ireturn, 1) := dk_172 (dk_at dksX1_isSent_0 17 rfl rfl)
theorem dX1_isSent_18 : decode cX1_isSent 18 = .ok (.aload_n 0, 1) := dk_42 (dk_at dksX1_isSent_0 18 rfl rfl)
theorem dX1_isSent_19 : decode cX1_isSent 19 = .ok (.iload_n 2, 1) := dk_28 (dk_at dksX1_isSent_0 19 rfl rfl)
theorem dX1_isSent_20 : decode cX1_isSent 20 = .ok (.invokevirtual 172, 3) := dk_182 0 172 (dk_at dksX1_isSent_0 20 rfl rfl)
theorem dX1_isSent_23 : decode cX1_isSent 23 = .ok (.aload_n 0, 1) := dk_42 (dk_at dksX1_isSent_0 23 rfl rfl)
theorem dX1_isSent_24 : decode cX1_isSent 24 = .ok (.iload_n 1, 1) := dk_27 (dk_at dksX1_isSent_1 0 rfl rfl)
theorem dX1_isSent_25 : decode cX1_isSent 25 = .ok (.iload_n 2, 1) := dk_28 (dk_at dksX1_isSent_1 1 rfl rfl)
theorem dX1_isSent_26 : decode cX1_isSent 26 = .ok (.aload_n 0, 1) := dk_42 (dk_at dksX1_isSent_1 2 rfl rfl)
theorem dX1_isSent_27 : decode cX1_isSent 27 = .ok (.getfield 34, 3) := dk_180 0 34 (dk_at dksX1_isSent_1 3 rfl rfl)
theorem dX1_isSent_30 : decode cX1_isSent 30 = .ok (.iload_n 1, 1) := dk_27 (dk_at dksX1_isSent_1 6 rfl rfl)
theorem dX1_isSent_31 : decode cX1_isSent 31 = .ok (.iaload, 1) := dk_46 (dk_at dksX1_isSent_1 7 rfl rfl)
theorem dX1_isSent_32 : decode cX1_isSent 32 = .ok (.aload_n 0, 1) := dk_42 (dk_at dksX1_isSent_1 8 rfl rfl)
theorem dX1_isSent_33 : decode cX1_isSent 33 = .ok (.getfield 34, 3) := dk_180 0 34 (dk_at dksX1_isSent_1 9 rfl rfl)
theorem dX1_isSent_36 : decode cX1_isSent 36 = .ok (.iload_n 2, 1) := dk_28 (dk_at dksX1_isSent_1 12 rfl rfl)
theorem dX1_isSent_37 : decode cX1_isSent 37 = .ok (.iaload, 1) := dk_46 (dk_at dksX1_isSent_1 13 rfl rfl)
theorem dX1_isSent_38 : decode cX1_isSent 38 = .ok (.ineg, 1) := dk_116 (dk_at dksX1_isSent_1 14 rfl rfl)
theorem dX1_isSent_39 : decode cX1_isSent 39 = .ok (.invokestatic 145, 3) := dk_184 0 145 (dk_at dksX1_isSent_1 15 rfl rfl)
theorem dX1_isSent_42 : decode cX1_isSent 42 = .ok (.invokevirtual 174, 3) := dk_182 0 174 (dk_at dksX1_isSent_1 18 rfl rfl)
theorem dX1_isSent_45 : decode cX1_isSent 45 = .ok (.istore_n 3, 1) := dk_62 (dk_at dksX1_isSent_1 21 rfl rfl)
theorem dX1_isSent_46 : decode cX1_isSent 46 = .ok (.aload_n 0, 1) := dk_42 (dk_at dksX1_isSent_1 22 rfl rfl)
theorem dX1_isSent_47 : decode cX1_isSent 47 = .ok (.getfield 34, 3) := dk_180 0 34 (dk_at dksX1_isSent_2 0 rfl rfl)
theorem dX1_isSent_50 : decode cX1_isSent 50 = .ok (.iload_n 1, 1) := dk_27 (dk_at dksX1_isSent_2 3 rfl rfl)
theorem dX1_isSent_51 : decode cX1_isSent 51 = .ok (.dup2, 1) := dk_92 (dk_at dksX1_isSent_2 4 rfl rfl)
theorem dX1_isSent_52 : decode cX1_isSent 52 = .ok (.iaload, 1) := dk_46 (dk_at dksX1_isSent_2 5 rfl rfl)
theorem dX1_isSent_53 : decode cX1_isSent 53 = .ok (.iload_n 3, 1) := dk_29 (dk_at dksX1_isSent_2 6 rfl rfl)
theorem dX1_isSent_54 : decode cX1_isSent 54 = .ok (.isub, 1) := dk_100 (dk_at dksX1_isSent_2 7 rfl rfl)
theorem dX1_isSent_55 : decode cX1_isSent 55 = .ok (.iastore, 1) := dk_79 (dk_at dksX1_isSent_2 8 rfl rfl)
theorem dX1_isSent_56 : decode cX1_isSent 56 = .ok (.aload_n 0, 1) := dk_42 (dk_at dksX1_isSent_2 9 rfl rfl)
theorem dX1_isSent_57 : decode cX1_isSent 57 = .ok (.getfield 34, 3) := dk_180 0 34 (dk_at dksX1_isSent_2 10 rfl rfl)
theorem dX1_isSent_60 : decode cX1_isSent 60 = .ok (.iload_n 2, 1) := dk_28 (dk_at dksX1_isSent_2 13 rfl rfl)
theorem dX1_isSent_61 : decode cX1_isSent 61 = .ok (.dup2, 1) := dk_92 (dk_at dksX1_isSent_2 14 rfl rfl)
theorem dX1_isSent_62 : decode cX1_isSent 62 = .ok (.iaload, 1) := dk_46 (dk_at dksX1_isSent_2 15 rfl rfl)
theorem dX1_isSent_63 : decode cX1_isSent 63 = .ok (.iload_n 3, 1) := dk_29 (dk_at dksX1_isSent_2 16 rfl rfl)
theorem dX1_isSent_64 : decode cX1_isSent 64 = .ok (.iadd, 1) := dk_96 (dk_at dksX1_isSent_2 17 rfl rfl)
theorem dX1_isSent_65 : decode cX1_isSent 65 = .ok (.iastore, 1) := dk_79 (dk_at dksX1_isSent_2 18 rfl rfl)
theorem dX1_isSent_66 : decode cX1_isSent 66 = .ok (.iconst 1, 1) := dk_4 (dk_at dksX1_isSent_2 19 rfl rfl)
theorem dX1_isSent_67 : decode cX1_isSent 67 = .ok (.ireturn, 1) := dk_172 (dk_at dksX1_isSent_2 20 rfl rfl)
abbrev cX1_reaches : ByteArray := prog_6_method_12_code
def yX1_reaches : MethodName := ⟨RX1, "reaches", "(I)V"⟩
def dkwX1_reaches_8 : List UInt8 := [22, 7, 97, 29, 182, 0, 100, 132, 3, 1, 167, 255, 145, 167, 255, 114, 177]
abbrev dktX1_reaches_8 : List UInt8 := dkwX1_reaches_8 ++ []
def dkwX1_reaches_7 : List UInt8 := [180, 0, 40, 21, 4, 47, 101, 55, 7, 42, 21, 4, 44, 180, 0, 118, 22, 5, 97, 44, 180, 0, 121]
abbrev dktX1_reaches_7 : List UInt8 := dkwX1_reaches_7 ++ dktX1_reaches_8
def dkwX1_reaches_6 : List UInt8 := [21, 4, 47, 101, 55, 5, 42, 29, 182, 0, 115, 42, 180, 0, 40, 44, 180, 0, 112, 47, 97, 42]
abbrev dktX1_reaches_6 : List UInt8 := dkwX1_reaches_6 ++ dktX1_reaches_7
def dkwX1_reaches_5 : List UInt8 := [182, 0, 81, 54, 4, 42, 29, 182, 0, 87, 42, 180, 0, 37, 44, 180, 0, 112, 47, 97, 42, 180, 0, 37]
abbrev dktX1_reaches_5 : List UInt8 := dkwX1_reaches_5 ++ dktX1_reaches_6
def dkwX1_reaches_4 : List UInt8 := [42, 29, 182, 0, 77, 44, 180, 0, 112, 160, 0, 89, 42, 29, 182, 0, 84, 158, 0, 81, 42, 29]
abbrev dktX1_reaches_4 : List UInt8 := dkwX1_reaches_4 ++ dktX1_reaches_5
def dkwX1_reaches_3 : List UInt8 := [182, 0, 108, 192, 0, 43, 77, 44, 4, 181, 0, 97, 3, 62, 29, 5, 42, 180, 0, 69, 104, 162, 0, 107]
abbrev dktX1_reaches_3 : List UInt8 := dkwX1_reaches_3 ++ dktX1_reaches_4
def dkwX1_reaches_2 : List UInt8 := [42, 27, 9, 9, 2, 182, 0, 100, 42, 180, 0, 54, 182, 0, 104, 154, 0, 138, 42, 180, 0, 54]
abbrev dktX1_reaches_2 : List UInt8 := dkwX1_reaches_2 ++ dktX1_reaches_3
def dkwX1_reaches_1 : List UInt8 := [44, 21, 4, 50, 58, 5, 25, 5, 3, 181, 0, 93, 25, 5, 3, 181, 0, 97, 132, 4, 1, 167, 255, 229]
abbrev dktX1_reaches_1 : List UInt8 := dkwX1_reaches_1 ++ dktX1_reaches_2
def dkwX1_reaches_0 : List UInt8 := [42, 180, 0, 54, 182, 0, 90, 42, 180, 0, 45, 77, 44, 190, 62, 3, 54, 4, 21, 4, 29, 162, 0, 27]
abbrev dktX1_reaches_0 : List UInt8 := dkwX1_reaches_0 ++ dktX1_reaches_1
theorem dksX1_reaches_0 : cX1_reaches.data.toList.drop 0 = dktX1_reaches_0 := by decide +kernel
theorem dksX1_reaches_1 : cX1_reaches.data.toList.drop 24 = dktX1_reaches_1 := dk_seg dksX1_reaches_0 24 rfl rfl
theorem dksX1_reaches_2 : cX1_reaches.data.toList.drop 48 = dktX1_reaches_2 := dk_seg dksX1_reaches_1 24 rfl rfl
theorem dksX1_reaches_3 : cX1_reaches.data.toList.drop 70 = dktX1_reaches_3 := dk_seg dksX1_reaches_2 22 rfl rfl
theorem dksX1_reaches_4 : cX1_reaches.data.toList.drop 94 = dktX1_reaches_4 := dk_seg dksX1_reaches_3 24 rfl rfl
theorem dksX1_reaches_5 : cX1_reaches.data.toList.drop 116 = dktX1_reaches_5 := dk_seg dksX1_reaches_4 22 rfl rfl
theorem dksX1_reaches_6 : cX1_reaches.data.toList.drop 140 = dktX1_reaches_6 := dk_seg dksX1_reaches_5 24 rfl rfl
theorem dksX1_reaches_7 : cX1_reaches.data.toList.drop 162 = dktX1_reaches_7 := dk_seg dksX1_reaches_6 22 rfl rfl
theorem dksX1_reaches_8 : cX1_reaches.data.toList.drop 185 = dktX1_reaches_8 := dk_seg dksX1_reaches_7 23 rfl rfl
theorem dX1_reaches_0 : decode cX1_reaches 0 = .ok (.aload_n 0, 1) := dk_42 (dk_at dksX1_reaches_0 0 rfl rfl)
theorem dX1_reaches_1 : decode cX1_reaches 1 = .ok (.getfield 54, 3) := dk_180 0 54 (dk_at dksX1_reaches_0 1 rfl rfl)
theorem dX1_reaches_4 : decode cX1_reaches 4 = .ok (.invokevirtual 90, 3) := dk_182 0 90 (dk_at dksX1_reaches_0 4 rfl rfl)
theorem dX1_reaches_7 : decode cX1_reaches 7 = .ok (.aload_n 0, 1) := dk_42 (dk_at dksX1_reaches_0 7 rfl rfl)
theorem dX1_reaches_8 : decode cX1_reaches 8 = .ok (.getfield 45, 3) := dk_180 0 45 (dk_at dksX1_reaches_0 8 rfl rfl)
theorem dX1_reaches_11 : decode cX1_reaches 11 = .ok (.astore_n 2, 1) := dk_77 (dk_at dksX1_reaches_0 11 rfl rfl)
theorem dX1_reaches_12 : decode cX1_reaches 12 = .ok (.aload_n 2, 1) := dk_44 (dk_at dksX1_reaches_0 12 rfl rfl)
theorem dX1_reaches_13 : decode cX1_reaches 13 = .ok (.arraylength, 1) := dk_190 (dk_at dksX1_reaches_0 13 rfl rfl)
theorem dX1_reaches_14 : decode cX1_reaches 14 = .ok (.istore_n 3, 1) := dk_62 (dk_at dksX1_reaches_0 14 rfl rfl)
theorem dX1_reaches_15 : decode cX1_reaches 15 = .ok (.iconst 0, 1) := dk_3 (dk_at dksX1_reaches_0 15 rfl rfl)
theorem dX1_reaches_16 : decode cX1_reaches 16 = .ok (.istore 4, 2) := dk_54 4 (dk_at dksX1_reaches_0 16 rfl rfl)
theorem dX1_reaches_18 : decode cX1_reaches 18 = .ok (.iload 4, 2) := dk_21 4 (dk_at dksX1_reaches_0 18 rfl rfl)
theorem dX1_reaches_20 : decode cX1_reaches 20 = .ok (.iload_n 3, 1) := dk_29 (dk_at dksX1_reaches_0 20 rfl rfl)
theorem dX1_reaches_21 : decode cX1_reaches 21 = .ok (.if_icmp .ge 27, 3) := dk_162 0 27 (dk_at dksX1_reaches_0 21 rfl rfl)
theorem dX1_reaches_24 : decode cX1_reaches 24 = .ok (.aload_n 2, 1) := dk_44 (dk_at dksX1_reaches_1 0 rfl rfl)
theorem dX1_reaches_25 : decode cX1_reaches 25 = .ok (.iload 4, 2) := dk_21 4 (dk_at dksX1_reaches_1 1 rfl rfl)
theorem dX1_reaches_27 : decode cX1_reaches 27 = .ok (.aaload, 1) := dk_50 (dk_at dksX1_reaches_1 3 rfl rfl)
theorem dX1_reaches_28 : decode cX1_reaches 28 = .ok (.astore 5, 2) := dk_58 5 (dk_at dksX1_reaches_1 4 rfl rfl)
theorem dX1_reaches_30 : decode cX1_reaches 30 = .ok (.aload 5, 2) := dk_25 5 (dk_at dksX1_reaches_1 6 rfl rfl)
theorem dX1_reaches_32 : decode cX1_reaches 32 = .ok (.iconst 0, 1) := dk_3 (dk_at dksX1_reaches_1 8 rfl rfl)
theorem dX1_reaches_33 : decode cX1_reaches 33 = .ok (.putfield 93, 3) := dk_181 0 93 (dk_at dksX1_reaches_1 9 rfl rfl)
theorem dX1_reaches_36 : decode cX1_reaches 36 = .ok (.aload 5, 2) := dk_25 5 (dk_at dksX1_reaches_1 12 rfl rfl)
theorem dX1_reaches_38 : decode cX1_reaches 38 = .ok (.iconst 0, 1) := dk_3 (dk_at dksX1_reaches_1 14 rfl rfl)
theorem dX1_reaches_39 : decode cX1_reaches 39 = .ok (.putfield 97, 3) := dk_181 0 97 (dk_at dksX1_reaches_1 15 rfl rfl)
theorem dX1_reaches_42 : decode cX1_reaches 42 = .ok (.iinc 4 1, 3) := dk_132 4 1 (dk_at dksX1_reaches_1 18 rfl rfl)
theorem dX1_reaches_45 : decode cX1_reaches 45 = .ok (.goto (-27), 3) := dk_167 255 229 (dk_at dksX1_reaches_1 21 rfl rfl)
theorem dX1_reaches_48 : decode cX1_reaches 48 = .ok (.aload_n 0, 1) := dk_42 (dk_at dksX1_reaches_2 0 rfl rfl)
theorem dX1_reaches_49 : decode cX1_reaches 49 = .ok (.iload_n 1, 1) := dk_27 (dk_at dksX1_reaches_2 1 rfl rfl)
theorem dX1_reaches_50 : decode cX1_reaches 50 = .ok (.lconst 0, 1) := dk_9 (dk_at dksX1_reaches_2 2 rfl rfl)
theorem dX1_reaches_51 : decode cX1_reaches 51 = .ok (.lconst 0, 1) := dk_9 (dk_at dksX1_reaches_2 3 rfl rfl)
theorem dX1_reaches_52 : decode cX1_reaches 52 = .ok (.iconst (-1), 1) := dk_2 (dk_at dksX1_reaches_2 4 rfl rfl)
theorem dX1_reaches_53 : decode cX1_reaches 53 = .ok (.invokevirtual 100, 3) := dk_182 0 100 (dk_at dksX1_reaches_2 5 rfl rfl)
theorem dX1_reaches_56 : decode cX1_reaches 56 = .ok (.aload_n 0, 1) := dk_42 (dk_at dksX1_reaches_2 8 rfl rfl)
theorem dX1_reaches_57 : decode cX1_reaches 57 = .ok (.getfield 54, 3) := dk_180 0 54 (dk_at dksX1_reaches_2 9 rfl rfl)
theorem dX1_reaches_60 : decode cX1_reaches 60 = .ok (.invokevirtual 104, 3) := dk_182 0 104 (dk_at dksX1_reaches_2 12 rfl rfl)
theorem dX1_reaches_63 : decode cX1_reaches 63 = .ok (.ifCond .ne 138, 3) := dk_154 0 138 (dk_at dksX1_reaches_2 15 rfl rfl)
theorem dX1_reaches_66 : decode cX1_reaches 66 = .ok (.aload_n 0, 1) := dk_42 (dk_at dksX1_reaches_2 18 rfl rfl)
theorem dX1_reaches_67 : decode cX1_reaches 67 = .ok (.getfield 54, 3) := dk_180 0 54 (dk_at dksX1_reaches_2 19 rfl rfl)
theorem dX1_reaches_70 : decode cX1_reaches 70 = .ok (.invokevirtual 108, 3) := dk_182 0 108 (dk_at dksX1_reaches_3 0 rfl rfl)
theorem dX1_reaches_73 : decode cX1_reaches 73 = .ok (.checkcast 43, 3) := dk_192 0 43 (dk_at dksX1_reaches_3 3 rfl rfl)
theorem dX1_reaches_76 : decode cX1_reaches 76 = .ok (.astore_n 2, 1) := dk_77 (dk_at dksX1_reaches_3 6 rfl rfl)
theorem dX1_reaches_77 : decode cX1_reaches 77 = .ok (.aload_n 2, 1) := dk_44 (dk_at dksX1_reaches_3 7 rfl rfl)
theorem dX1_reaches_78 : decode cX1_reaches 78 = .ok (.iconst 1, 1) := dk_4 (dk_at dksX1_reaches_3 8 rfl rfl)
theorem dX1_reaches_79 : decode cX1_reaches 79 = .ok (.putfield 97, 3) := dk_181 0 97 (dk_at dksX1_reaches_3 9 rfl rfl)
theorem dX1_reaches_82 : decode cX1_reaches 82 = .ok (.iconst 0, 1) := dk_3 (dk_at dksX1_reaches_3 12 rfl rfl)
theorem dX1_reaches_83 : decode cX1_reaches 83 = .ok (.istore_n 3, 1) := dk_62 (dk_at dksX1_reaches_3 13 rfl rfl)
theorem dX1_reaches_84 : decode cX1_reaches 84 = .ok (.iload_n 3, 1) := dk_29 (dk_at dksX1_reaches_3 14 rfl rfl)
theorem dX1_reaches_85 : decode cX1_reaches 85 = .ok (.iconst 2, 1) := dk_5 (dk_at dksX1_reaches_3 15 rfl rfl)
theorem dX1_reaches_86 : decode cX1_reaches 86 = .ok (.aload_n 0, 1) := dk_42 (dk_at dksX1_reaches_3 16 rfl rfl)
theorem dX1_reaches_87 : decode cX1_reaches 87 = .ok (.getfield 69, 3) := dk_180 0 69 (dk_at dksX1_reaches_3 17 rfl rfl)
theorem dX1_reaches_90 : decode cX1_reaches 90 = .ok (.imul, 1) := dk_104 (dk_at dksX1_reaches_3 20 rfl rfl)
theorem dX1_reaches_91 : decode cX1_reaches 91 = .ok (.if_icmp .ge 107, 3) := dk_162 0 107 (dk_at dksX1_reaches_3 21 rfl rfl)
theorem dX1_reaches_94 : decode cX1_reaches 94 = .ok (.aload_n 0, 1) := dk_42 (dk_at dksX1_reaches_4 0 rfl rfl)
theorem dX1_reaches_95 : decode cX1_reaches 95 = .ok (.iload_n 3, 1) := dk_29 (dk_at dksX1_reaches_4 1 rfl rfl)
theorem dX1_reaches_96 : decode cX1_reaches 96 = .ok (.invokevirtual 77, 3) := dk_182 0 77 (dk_at dksX1_reaches_4 2 rfl rfl)
theorem dX1_reaches_99 : decode cX1_reaches 99 = .ok (.aload_n 2, 1) := dk_44 (dk_at dksX1_reaches_4 5 rfl rfl)
theorem dX1_reaches_100 : decode cX1_reaches 100 = .ok (.getfield 112, 3) := dk_180 0 112 (dk_at dksX1_reaches_4 6 rfl rfl)
theorem dX1_reaches_103 : decode cX1_reaches 103 = .ok (.if_icmp .ne 89, 3) := dk_160 0 89 (dk_at dksX1_reaches_4 9 rfl rfl)
theorem dX1_reaches_106 : decode cX1_reaches 106 = .ok (.aload_n 0, 1) := dk_42 (dk_at dksX1_reaches_4 12 rfl rfl)
theorem dX1_reaches_107 : decode cX1_reaches 107 = .ok (.iload_n 3, 1) := dk_29 (dk_at dksX1_reaches_4 13 rfl rfl)
theorem dX1_reaches_108 : decode cX1_reaches 108 = .ok (.invokevirtual 84, 3) := dk_182 0 84 (dk_at dksX1_reaches_4 14 rfl rfl)
theorem dX1_reaches_111 : decode cX1_reaches 111 = .ok (.ifCond .le 81, 3) := dk_158 0 81 (dk_at dksX1_reaches_4 17 rfl rfl)
theorem dX1_reaches_114 : decode cX1_reaches 114 = .ok (.aload_n 0, 1) := dk_42 (dk_at dksX1_reaches_4 20 rfl rfl)
theorem dX1_reaches_115 : decode cX1_reaches 115 = .ok (.iload_n 3, 1) := dk_29 (dk_at dksX1_reaches_4 21 rfl rfl)
theorem dX1_reaches_116 : decode cX1_reaches 116 = .ok (.invokevirtual 81, 3) := dk_182 0 81 (dk_at dksX1_reaches_5 0 rfl rfl)
theorem dX1_reaches_119 : decode cX1_reaches 119 = .ok (.istore 4, 2) := dk_54 4 (dk_at dksX1_reaches_5 3 rfl rfl)
theorem dX1_reaches_121 : decode cX1_reaches 121 = .ok (.aload_n 0, 1) := dk_42 (dk_at dksX1_reaches_5 5 rfl rfl)
theorem dX1_reaches_122 : decode cX1_reaches 122 = .ok (.iload_n 3, 1) := dk_29 (dk_at dksX1_reaches_5 6 rfl rfl)
theorem dX1_reaches_123 : decode cX1_reaches 123 = .ok (.invokevirtual 87, 3) := dk_182 0 87 (dk_at dksX1_reaches_5 7 rfl rfl)
theorem dX1_reaches_126 : decode cX1_reaches 126 = .ok (.aload_n 0, 1) := dk_42 (dk_at dksX1_reaches_5 10 rfl rfl)
theorem dX1_reaches_127 : decode cX1_reaches 127 = .ok (.getfield 37, 3) := dk_180 0 37 (dk_at dksX1_reaches_5 11 rfl rfl)
theorem dX1_reaches_130 : decode cX1_reaches 130 = .ok (.aload_n 2, 1) := dk_44 (dk_at dksX1_reaches_5 14 rfl rfl)
theorem dX1_reaches_131 : decode cX1_reaches 131 = .ok (.getfield 112, 3) := dk_180 0 112 (dk_at dksX1_reaches_5 15 rfl rfl)
theorem dX1_reaches_134 : decode cX1_reaches 134 = .ok (.laload, 1) := dk_47 (dk_at dksX1_reaches_5 18 rfl rfl)
theorem dX1_reaches_135 : decode cX1_reaches 135 = .ok (.ladd, 1) := dk_97 (dk_at dksX1_reaches_5 19 rfl rfl)
theorem dX1_reaches_136 : decode cX1_reaches 136 = .ok (.aload_n 0, 1) := dk_42 (dk_at dksX1_reaches_5 20 rfl rfl)
theorem dX1_reaches_137 : decode cX1_reaches 137 = .ok (.getfield 37, 3) := dk_180 0 37 (dk_at dksX1_reaches_5 21 rfl rfl)
theorem dX1_reaches_140 : decode cX1_reaches 140 = .ok (.iload 4, 2) := dk_21 4 (dk_at dksX1_reaches_6 0 rfl rfl)
theorem dX1_reaches_142 : decode cX1_reaches 142 = .ok (.laload, 1) := dk_47 (dk_at dksX1_reaches_6 2 rfl rfl)
theorem dX1_reaches_143 : decode cX1_reaches 143 = .ok (.lsub, 1) := dk_101 (dk_at dksX1_reaches_6 3 rfl rfl)
theorem dX1_reaches_144 : decode cX1_reaches 144 = .ok (.lstore 5, 2) := dk_55 5 (dk_at dksX1_reaches_6 4 rfl rfl)
theorem dX1_reaches_146 : decode cX1_reaches 146 = .ok (.aload_n 0, 1) := dk_42 (dk_at dksX1_reaches_6 6 rfl rfl)
theorem dX1_reaches_147 : decode cX1_reaches 147 = .ok (.iload_n 3, 1) := dk_29 (dk_at dksX1_reaches_6 7 rfl rfl)
theorem dX1_reaches_148 : decode cX1_reaches 148 = .ok (.invokevirtual 115, 3) := dk_182 0 115 (dk_at dksX1_reaches_6 8 rfl rfl)
theorem dX1_reaches_151 : decode cX1_reaches 151 = .ok (.aload_n 0, 1) := dk_42 (dk_at dksX1_reaches_6 11 rfl rfl)
theorem dX1_reaches_152 : decode cX1_reaches 152 = .ok (.getfield 40, 3) := dk_180 0 40 (dk_at dksX1_reaches_6 12 rfl rfl)
theorem dX1_reaches_155 : decode cX1_reaches 155 = .ok (.aload_n 2, 1) := dk_44 (dk_at dksX1_reaches_6 15 rfl rfl)
theorem dX1_reaches_156 : decode cX1_reaches 156 = .ok (.getfield 112, 3) := dk_180 0 112 (dk_at dksX1_reaches_6 16 rfl rfl)
theorem dX1_reaches_159 : decode cX1_reaches 159 = .ok (.laload, 1) := dk_47 (dk_at dksX1_reaches_6 19 rfl rfl)
theorem dX1_reaches_160 : decode cX1_reaches 160 = .ok (.ladd, 1) := dk_97 (dk_at dksX1_reaches_6 20 rfl rfl)
theorem dX1_reaches_161 : decode cX1_reaches 161 = .ok (.aload_n 0, 1) := dk_42 (dk_at dksX1_reaches_6 21 rfl rfl)
theorem dX1_reaches_162 : decode cX1_reaches 162 = .ok (.getfield 40, 3) := dk_180 0 40 (dk_at dksX1_reaches_7 0 rfl rfl)
theorem dX1_reaches_165 : decode cX1_reaches 165 = .ok (.iload 4, 2) := dk_21 4 (dk_at dksX1_reaches_7 3 rfl rfl)
theorem dX1_reaches_167 : decode cX1_reaches 167 = .ok (.laload, 1) := dk_47 (dk_at dksX1_reaches_7 5 rfl rfl)
theorem dX1_reaches_168 : decode cX1_reaches 168 = .ok (.lsub, 1) := dk_101 (dk_at dksX1_reaches_7 6 rfl rfl)
theorem dX1_reaches_169 : decode cX1_reaches 169 = .ok (.lstore 7, 2) := dk_55 7 (dk_at dksX1_reaches_7 7 rfl rfl)
theorem dX1_reaches_171 : decode cX1_reaches 171 = .ok (.aload_n 0, 1) := dk_42 (dk_at dksX1_reaches_7 9 rfl rfl)
theorem dX1_reaches_172 : decode cX1_reaches 172 = .ok (.iload 4, 2) := dk_21 4 (dk_at dksX1_reaches_7 10 rfl rfl)
theorem dX1_reaches_174 : decode cX1_reaches 174 = .ok (.aload_n 2, 1) := dk_44 (dk_at dksX1_reaches_7 12 rfl rfl)
theorem dX1_reaches_175 : decode cX1_reaches 175 = .ok (.getfield 118, 3) := dk_180 0 118 (dk_at dksX1_reaches_7 13 rfl rfl)
theorem dX1_reaches_178 : decode cX1_reaches 178 = .ok (.lload 5, 2) := dk_22 5 (dk_at dksX1_reaches_7 16 rfl rfl)
theorem dX1_reaches_180 : decode cX1_reaches 180 = .ok (.ladd, 1) := dk_97 (dk_at dksX1_reaches_7 18 rfl rfl)
theorem dX1_reaches_181 : decode cX1_reaches 181 = .ok (.aload_n 2, 1) := dk_44 (dk_at dksX1_reaches_7 19 rfl rfl)
theorem dX1_reaches_182 : decode cX1_reaches 182 = .ok (.getfield 121, 3) := dk_180 0 121 (dk_at dksX1_reaches_7 20 rfl rfl)
theorem dX1_reaches_185 : decode cX1_reaches 185 = .ok (.lload 7, 2) := dk_22 7 (dk_at dksX1_reaches_8 0 rfl rfl)
theorem dX1_reaches_187 : decode cX1_reaches 187 = .ok (.ladd, 1) := dk_97 (dk_at dksX1_reaches_8 2 rfl rfl)
theorem dX1_reaches_188 : decode cX1_reaches 188 = .ok (.iload_n 3, 1) := dk_29 (dk_at dksX1_reaches_8 3 rfl rfl)
theorem dX1_reaches_189 : decode cX1_reaches 189 = .ok (.invokevirtual 100, 3) := dk_182 0 100 (dk_at dksX1_reaches_8 4 rfl rfl)
theorem dX1_reaches_192 : decode cX1_reaches 192 = .ok (.iinc 3 1, 3) := dk_132 3 1 (dk_at dksX1_reaches_8 7 rfl rfl)
theorem dX1_reaches_195 : decode cX1_reaches 195 = .ok (.goto (-111), 3) := dk_167 255 145 (dk_at dksX1_reaches_8 10 rfl rfl)
theorem dX1_reaches_198 : decode cX1_reaches 198 = .ok (.goto (-142), 3) := dk_167 255 114 (dk_at dksX1_reaches_8 13 rfl rfl)
theorem dX1_reaches_201 : decode cX1_reaches 201 = .ok (.return_, 1) := dk_177 (dk_at dksX1_reaches_8 16 rfl rfl)
abbrev cX1_near : ByteArray := prog_6_method_13_code
def yX1_near : MethodName := ⟨RX1, "near", "(IJJI)V"⟩
def dkwX1_near_3 : List UInt8 := [181, 0, 121, 25, 7, 21, 6, 181, 0, 132, 42, 180, 0, 54, 25, 7, 182, 0, 135, 87, 177]
abbrev dktX1_near_3 : List UInt8 := dkwX1_near_3 ++ []
def dkwX1_near_2 : List UInt8 := [25, 7, 182, 0, 128, 87, 25, 7, 4, 181, 0, 93, 25, 7, 32, 181, 0, 118, 25, 7, 22, 4]
abbrev dktX1_near_2 : List UInt8 := dkwX1_near_2 ++ dktX1_near_3
def dkwX1_near_1 : List UInt8 := [25, 7, 32, 22, 4, 182, 0, 124, 154, 0, 4, 177, 25, 7, 180, 0, 93, 153, 0, 13, 42, 180, 0, 54]
abbrev dktX1_near_1 : List UInt8 := dkwX1_near_1 ++ dktX1_near_2
def dkwX1_near_0 : List UInt8 := [42, 180, 0, 45, 27, 50, 58, 7, 25, 7, 180, 0, 97, 154, 0, 22, 25, 7, 180, 0, 93, 153, 0, 15]
abbrev dktX1_near_0 : List UInt8 := dkwX1_near_0 ++ dktX1_near_1
theorem dksX1_near_0 : cX1_near.data.toList.drop 0 = dktX1_near_0 := by decide +kernel
theorem dksX1_near_1 : cX1_near.data.toList.drop 24 = dktX1_near_1 := dk_seg dksX1_near_0 24 rfl rfl
theorem dksX1_near_2 : cX1_near.data.toList.drop 48 = dktX1_near_2 := dk_seg dksX1_near_1 24 rfl rfl
theorem dksX1_near_3 : cX1_near.data.toList.drop 70 = dktX1_near_3 := dk_seg dksX1_near_2 22 rfl rfl
theorem dX1_near_0 : decode cX1_near 0 = .ok (.aload_n 0, 1) := dk_42 (dk_at dksX1_near_0 0 rfl rfl)
theorem dX1_near_1 : decode cX1_near 1 = .ok (.getfield 45, 3) := dk_180 0 45 (dk_at dksX1_near_0 1 rfl rfl)
theorem dX1_near_4 : decode cX1_near 4 = .ok (.iload_n 1, 1) := dk_27 (dk_at dksX1_near_0 4 rfl rfl)
theorem dX1_near_5 : decode cX1_near 5 = .ok (.aaload, 1) := dk_50 (dk_at dksX1_near_0 5 rfl rfl)
theorem dX1_near_6 : decode cX1_near 6 = .ok (.astore 7, 2) := dk_58 7 (dk_at dksX1_near_0 6 rfl rfl)
theorem dX1_near_8 : decode cX1_near 8 = .ok (.aload 7, 2) := dk_25 7 (dk_at dksX1_near_0 8 rfl rfl)
theorem dX1_near_10 : decode cX1_near 10 = .ok (.getfield 97, 3) := dk_180 0 97 (dk_at dksX1_near_0 10 rfl rfl)
theorem dX1_near_13 : decode cX1_near 13 = .ok (.ifCond .ne 22, 3) := dk_154 0 22 (dk_at dksX1_near_0 13 rfl rfl)
theorem dX1_near_16 : decode cX1_near 16 = .ok (.aload 7, 2) := dk_25 7 (dk_at dksX1_near_0 16 rfl rfl)
theorem dX1_near_18 : decode cX1_near 18 = .ok (.getfield 93, 3) := dk_180 0 93 (dk_at dksX1_near_0 18 rfl rfl)
theorem dX1_near_21 : decode cX1_near 21 = .ok (.ifCond .eq 15, 3) := dk_153 0 15 (dk_at dksX1_near_0 21 rfl rfl)
theorem dX1_near_24 : decode cX1_near 24 = .ok (.aload 7, 2) := dk_25 7 (dk_at dksX1_near_1 0 rfl rfl)
theorem dX1_near_26 : decode cX1_near 26 = .ok (.lload_n 2, 1) := dk_32 (dk_at dksX1_near_1 2 rfl rfl)
theorem dX1_near_27 : decode cX1_near 27 = .ok (.lload 4, 2) := dk_22 4 (dk_at dksX1_near_1 3 rfl rfl)
theorem dX1_near_29 : decode cX1_near 29 = .ok (.invokevirtual 124, 3) := dk_182 0 124 (dk_at dksX1_near_1 5 rfl rfl)
theorem dX1_near_32 : decode cX1_near 32 = .ok (.ifCond .ne 4, 3) := dk_154 0 4 (dk_at dksX1_near_1 8 rfl rfl)
theorem dX1_near_35 : decode cX1_near 35 = .ok (.return_, 1) := dk_177 (dk_at dksX1_near_1 11 rfl rfl)
theorem dX1_near_36 : decode cX1_near 36 = .ok (.aload 7, 2) := dk_25 7 (dk_at dksX1_near_1 12 rfl rfl)
theorem dX1_near_38 : decode cX1_near 38 = .ok (.getfield 93, 3) := dk_180 0 93 (dk_at dksX1_near_1 14 rfl rfl)
theorem dX1_near_41 : decode cX1_near 41 = .ok (.ifCond .eq 13, 3) := dk_153 0 13 (dk_at dksX1_near_1 17 rfl rfl)
theorem dX1_near_44 : decode cX1_near 44 = .ok (.aload_n 0, 1) := dk_42 (dk_at dksX1_near_1 20 rfl rfl)
theorem dX1_near_45 : decode cX1_near 45 = .ok (.getfield 54, 3) := dk_180 0 54 (dk_at dksX1_near_1 21 rfl rfl)
theorem dX1_near_48 : decode cX1_near 48 = .ok (.aload 7, 2) := dk_25 7 (dk_at dksX1_near_2 0 rfl rfl)
theorem dX1_near_50 : decode cX1_near 50 = .ok (.invokevirtual 128, 3) := dk_182 0 128 (dk_at dksX1_near_2 2 rfl rfl)
theorem dX1_near_53 : decode cX1_near 53 = .ok (.pop, 1) := dk_87 (dk_at dksX1_near_2 5 rfl rfl)
theorem dX1_near_54 : decode cX1_near 54 = .ok (.aload 7, 2) := dk_25 7 (dk_at dksX1_near_2 6 rfl rfl)
theorem dX1_near_56 : decode cX1_near 56 = .ok (.iconst 1, 1) := dk_4 (dk_at dksX1_near_2 8 rfl rfl)
theorem dX1_near_57 : decode cX1_near 57 = .ok (.putfield 93, 3) := dk_181 0 93 (dk_at dksX1_near_2 9 rfl rfl)
theorem dX1_near_60 : decode cX1_near 60 = .ok (.aload 7, 2) := dk_25 7 (dk_at dksX1_near_2 12 rfl rfl)
theorem dX1_near_62 : decode cX1_near 62 = .ok (.lload_n 2, 1) := dk_32 (dk_at dksX1_near_2 14 rfl rfl)
theorem dX1_near_63 : decode cX1_near 63 = .ok (.putfield 118, 3) := dk_181 0 118 (dk_at dksX1_near_2 15 rfl rfl)
theorem dX1_near_66 : decode cX1_near 66 = .ok (.aload 7, 2) := dk_25 7 (dk_at dksX1_near_2 18 rfl rfl)
theorem dX1_near_68 : decode cX1_near 68 = .ok (.lload 4, 2) := dk_22 4 (dk_at dksX1_near_2 20 rfl rfl)
theorem dX1_near_70 : decode cX1_near 70 = .ok (.putfield 121, 3) := dk_181 0 121 (dk_at dksX1_near_3 0 rfl rfl)
theorem dX1_near_73 : decode cX1_near 73 = .ok (.aload 7, 2) := dk_25 7 (dk_at dksX1_near_3 3 rfl rfl)
theorem dX1_near_75 : decode cX1_near 75 = .ok (.iload 6, 2) := dk_21 6 (dk_at dksX1_near_3 5 rfl rfl)
theorem dX1_near_77 : decode cX1_near 77 = .ok (.putfield 132, 3) := dk_181 0 132 (dk_at dksX1_near_3 7 rfl rfl)
theorem dX1_near_80 : decode cX1_near 80 = .ok (.aload_n 0, 1) := dk_42 (dk_at dksX1_near_3 10 rfl rfl)
theorem dX1_near_81 : decode cX1_near 81 = .ok (.getfield 54, 3) := dk_180 0 54 (dk_at dksX1_near_3 11 rfl rfl)
theorem dX1_near_84 : decode cX1_near 84 = .ok (.aload 7, 2) := dk_25 7 (dk_at dksX1_near_3 14 rfl rfl)
theorem dX1_near_86 : decode cX1_near 86 = .ok (.invokevirtual 135, 3) := dk_182 0 135 (dk_at dksX1_near_3 16 rfl rfl)
theorem dX1_near_89 : decode cX1_near 89 = .ok (.pop, 1) := dk_87 (dk_at dksX1_near_3 19 rfl rfl)
theorem dX1_near_90 : decode cX1_near 90 = .ok (.return_, 1) := dk_177 (dk_at dksX1_near_3 20 rfl rfl)
abbrev cX1_stepFrom : ByteArray := prog_6_method_5_code
def yX1_stepFrom : MethodName := ⟨RX1, "stepFrom", "(I)I"⟩
def dkwX1_stepFrom_1 : List UInt8 := [46, 172]
abbrev dktX1_stepFrom_1 : List UInt8 := dkwX1_stepFrom_1 ++ []
def dkwX1_stepFrom_0 : List UInt8 := [27, 5, 112, 154, 0, 14, 42, 180, 0, 9, 27, 5, 108, 46, 167, 0, 11, 42, 180, 0, 15, 27, 5, 108]
abbrev dktX1_stepFrom_0 : List UInt8 := dkwX1_stepFrom_0 ++ dktX1_stepFrom_1
theorem dksX1_stepFrom_0 : cX1_stepFrom.data.toList.drop 0 = dktX1_stepFrom_0 := by decide +kernel
theorem dksX1_stepFrom_1 : cX1_stepFrom.data.toList.drop 24 = dktX1_stepFrom_1 := dk_seg dksX1_stepFrom_0 24 rfl rfl
theorem dX1_stepFrom_0 : decode cX1_stepFrom 0 = .ok (.iload_n 1, 1) := dk_27 (dk_at dksX1_stepFrom_0 0 rfl rfl)
theorem dX1_stepFrom_1 : decode cX1_stepFrom 1 = .ok (.iconst 2, 1) := dk_5 (dk_at dksX1_stepFrom_0 1 rfl rfl)
theorem dX1_stepFrom_2 : decode cX1_stepFrom 2 = .ok (.irem, 1) := dk_112 (dk_at dksX1_stepFrom_0 2 rfl rfl)
theorem dX1_stepFrom_3 : decode cX1_stepFrom 3 = .ok (.ifCond .ne 14, 3) := dk_154 0 14 (dk_at dksX1_stepFrom_0 3 rfl rfl)
theorem dX1_stepFrom_6 : decode cX1_stepFrom 6 = .ok (.aload_n 0, 1) := dk_42 (dk_at dksX1_stepFrom_0 6 rfl rfl)
theorem dX1_stepFrom_7 : decode cX1_stepFrom 7 = .ok (.getfield 9, 3) := dk_180 0 9 (dk_at dksX1_stepFrom_0 7 rfl rfl)
theorem dX1_stepFrom_10 : decode cX1_stepFrom 10 = .ok (.iload_n 1, 1) := dk_27 (dk_at dksX1_stepFrom_0 10 rfl rfl)
theorem dX1_stepFrom_11 : decode cX1_stepFrom 11 = .ok (.iconst 2, 1) := dk_5 (dk_at dksX1_stepFrom_0 11 rfl rfl)
theorem dX1_stepFrom_12 : decode cX1_stepFrom 12 = .ok (.idiv, 1) := dk_108 (dk_at dksX1_stepFrom_0 12 rfl rfl)
theorem dX1_stepFrom_13 : decode cX1_stepFrom 13 = .ok (.iaload, 1) := dk_46 (dk_at dksX1_stepFrom_0 13 rfl rfl)
theorem dX1_stepFrom_14 : decode cX1_stepFrom 14 = .ok (.goto 11, 3) := dk_167 0 11 (dk_at dksX1_stepFrom_0 14 rfl rfl)
theorem dX1_stepFrom_17 : decode cX1_stepFrom 17 = .ok (.aload_n 0, 1) := dk_42 (dk_at dksX1_stepFrom_0 17 rfl rfl)
theorem dX1_stepFrom_18 : decode cX1_stepFrom 18 = .ok (.getfield 15, 3) := dk_180 0 15 (dk_at dksX1_stepFrom_0 18 rfl rfl)
theorem dX1_stepFrom_21 : decode cX1_stepFrom 21 = .ok (.iload_n 1, 1) := dk_27 (dk_at dksX1_stepFrom_0 21 rfl rfl)
theorem dX1_stepFrom_22 : decode cX1_stepFrom 22 = .ok (.iconst 2, 1) := dk_5 (dk_at dksX1_stepFrom_0 22 rfl rfl)
theorem dX1_stepFrom_23 : decode cX1_stepFrom 23 = .ok (.idiv, 1) := dk_108 (dk_at dksX1_stepFrom_0 23 rfl rfl)
theorem dX1_stepFrom_24 : decode cX1_stepFrom 24 = .ok (.iaload, 1) := dk_46 (dk_at dksX1_stepFrom_1 0 rfl rfl)
theorem dX1_stepFrom_25 : decode cX1_stepFrom 25 = .ok (.ireturn, 1) := dk_172 (dk_at dksX1_stepFrom_1 1 rfl rfl)
abbrev cX1_room : ByteArray := prog_6_method_9_code
def yX1_room : MethodName := ⟨RX1, "room", "(I)I"⟩
def dkwX1_room_1 : List UInt8 := [167, 0, 16, 42, 180, 0, 28, 28, 46, 42, 180, 0, 18, 28, 46, 100, 172]
abbrev dktX1_room_1 : List UInt8 := dkwX1_room_1 ++ []
def dkwX1_room_0 : List UInt8 := [27, 5, 108, 61, 27, 5, 112, 154, 0, 19, 42, 180, 0, 21, 28, 46, 42, 180, 0, 28, 28, 46, 100]
abbrev dktX1_room_0 : List UInt8 := dkwX1_room_0 ++ dktX1_room_1
theorem dksX1_room_0 : cX1_room.data.toList.drop 0 = dktX1_room_0 := by decide +kernel
theorem dksX1_room_1 : cX1_room.data.toList.drop 23 = dktX1_room_1 := dk_seg dksX1_room_0 23 rfl rfl
theorem dX1_room_0 : decode cX1_room 0 = .ok (.iload_n 1, 1) := dk_27 (dk_at dksX1_room_0 0 rfl rfl)
theorem dX1_room_1 : decode cX1_room 1 = .ok (.iconst 2, 1) := dk_5 (dk_at dksX1_room_0 1 rfl rfl)
theorem dX1_room_2 : decode cX1_room 2 = .ok (.idiv, 1) := dk_108 (dk_at dksX1_room_0 2 rfl rfl)
theorem dX1_room_3 : decode cX1_room 3 = .ok (.istore_n 2, 1) := dk_61 (dk_at dksX1_room_0 3 rfl rfl)
theorem dX1_room_4 : decode cX1_room 4 = .ok (.iload_n 1, 1) := dk_27 (dk_at dksX1_room_0 4 rfl rfl)
theorem dX1_room_5 : decode cX1_room 5 = .ok (.iconst 2, 1) := dk_5 (dk_at dksX1_room_0 5 rfl rfl)
theorem dX1_room_6 : decode cX1_room 6 = .ok (.irem, 1) := dk_112 (dk_at dksX1_room_0 6 rfl rfl)
theorem dX1_room_7 : decode cX1_room 7 = .ok (.ifCond .ne 19, 3) := dk_154 0 19 (dk_at dksX1_room_0 7 rfl rfl)
theorem dX1_room_10 : decode cX1_room 10 = .ok (.aload_n 0, 1) := dk_42 (dk_at dksX1_room_0 10 rfl rfl)
theorem dX1_room_11 : decode cX1_room 11 = .ok (.getfield 21, 3) := dk_180 0 21 (dk_at dksX1_room_0 11 rfl rfl)
theorem dX1_room_14 : decode cX1_room 14 = .ok (.iload_n 2, 1) := dk_28 (dk_at dksX1_room_0 14 rfl rfl)
theorem dX1_room_15 : decode cX1_room 15 = .ok (.iaload, 1) := dk_46 (dk_at dksX1_room_0 15 rfl rfl)
theorem dX1_room_16 : decode cX1_room 16 = .ok (.aload_n 0, 1) := dk_42 (dk_at dksX1_room_0 16 rfl rfl)
theorem dX1_room_17 : decode cX1_room 17 = .ok (.getfield 28, 3) := dk_180 0 28 (dk_at dksX1_room_0 17 rfl rfl)
theorem dX1_room_20 : decode cX1_room 20 = .ok (.iload_n 2, 1) := dk_28 (dk_at dksX1_room_0 20 rfl rfl)
theorem dX1_room_21 : decode cX1_room 21 = .ok (.iaload, 1) := dk_46 (dk_at dksX1_room_0 21 rfl rfl)
theorem dX1_room_22 : decode cX1_room 22 = .ok (.isub, 1) := dk_100 (dk_at dksX1_room_0 22 rfl rfl)
theorem dX1_room_23 : decode cX1_room 23 = .ok (.goto 16, 3) := dk_167 0 16 (dk_at dksX1_room_1 0 rfl rfl)
theorem dX1_room_26 : decode cX1_room 26 = .ok (.aload_n 0, 1) := dk_42 (dk_at dksX1_room_1 3 rfl rfl)
theorem dX1_room_27 : decode cX1_room 27 = .ok (.getfield 28, 3) := dk_180 0 28 (dk_at dksX1_room_1 4 rfl rfl)
theorem dX1_room_30 : decode cX1_room 30 = .ok (.iload_n 2, 1) := dk_28 (dk_at dksX1_room_1 7 rfl rfl)
theorem dX1_room_31 : decode cX1_room 31 = .ok (.iaload, 1) := dk_46 (dk_at dksX1_room_1 8 rfl rfl)
theorem dX1_room_32 : decode cX1_room 32 = .ok (.aload_n 0, 1) := dk_42 (dk_at dksX1_room_1 9 rfl rfl)
theorem dX1_room_33 : decode cX1_room 33 = .ok (.getfield 18, 3) := dk_180 0 18 (dk_at dksX1_room_1 10 rfl rfl)
theorem dX1_room_36 : decode cX1_room 36 = .ok (.iload_n 2, 1) := dk_28 (dk_at dksX1_room_1 13 rfl rfl)
theorem dX1_room_37 : decode cX1_room 37 = .ok (.iaload, 1) := dk_46 (dk_at dksX1_room_1 14 rfl rfl)
theorem dX1_room_38 : decode cX1_room 38 = .ok (.isub, 1) := dk_100 (dk_at dksX1_room_1 15 rfl rfl)
theorem dX1_room_39 : decode cX1_room 39 = .ok (.ireturn, 1) := dk_172 (dk_at dksX1_room_1 16 rfl rfl)
abbrev cX1_stepTo : ByteArray := prog_6_method_6_code
def yX1_stepTo : MethodName := ⟨RX1, "stepTo", "(I)I"⟩
def dkwX1_stepTo_1 : List UInt8 := [46, 172]
abbrev dktX1_stepTo_1 : List UInt8 := dkwX1_stepTo_1 ++ []
def dkwX1_stepTo_0 : List UInt8 := [27, 5, 112, 154, 0, 14, 42, 180, 0, 15, 27, 5, 108, 46, 167, 0, 11, 42, 180, 0, 9, 27, 5, 108]
abbrev dktX1_stepTo_0 : List UInt8 := dkwX1_stepTo_0 ++ dktX1_stepTo_1
theorem dksX1_stepTo_0 : cX1_stepTo.data.toList.drop 0 = dktX1_stepTo_0 := by decide +kernel
theorem dksX1_stepTo_1 : cX1_stepTo.data.toList.drop 24 = dktX1_stepTo_1 := dk_seg dksX1_stepTo_0 24 rfl rfl
theorem dX1_stepTo_0 : decode cX1_stepTo 0 = .ok (.iload_n 1, 1) := dk_27 (dk_at dksX1_stepTo_0 0 rfl rfl)
theorem dX1_stepTo_1 : decode cX1_stepTo 1 = .ok (.iconst 2, 1) := dk_5 (dk_at dksX1_stepTo_0 1 rfl rfl)
theorem dX1_stepTo_2 : decode cX1_stepTo 2 = .ok (.irem, 1) := dk_112 (dk_at dksX1_stepTo_0 2 rfl rfl)
theorem dX1_stepTo_3 : decode cX1_stepTo 3 = .ok (.ifCond .ne 14, 3) := dk_154 0 14 (dk_at dksX1_stepTo_0 3 rfl rfl)
theorem dX1_stepTo_6 : decode cX1_stepTo 6 = .ok (.aload_n 0, 1) := dk_42 (dk_at dksX1_stepTo_0 6 rfl rfl)
theorem dX1_stepTo_7 : decode cX1_stepTo 7 = .ok (.getfield 15, 3) := dk_180 0 15 (dk_at dksX1_stepTo_0 7 rfl rfl)
theorem dX1_stepTo_10 : decode cX1_stepTo 10 = .ok (.iload_n 1, 1) := dk_27 (dk_at dksX1_stepTo_0 10 rfl rfl)
theorem dX1_stepTo_11 : decode cX1_stepTo 11 = .ok (.iconst 2, 1) := dk_5 (dk_at dksX1_stepTo_0 11 rfl rfl)
theorem dX1_stepTo_12 : decode cX1_stepTo 12 = .ok (.idiv, 1) := dk_108 (dk_at dksX1_stepTo_0 12 rfl rfl)
theorem dX1_stepTo_13 : decode cX1_stepTo 13 = .ok (.iaload, 1) := dk_46 (dk_at dksX1_stepTo_0 13 rfl rfl)
theorem dX1_stepTo_14 : decode cX1_stepTo 14 = .ok (.goto 11, 3) := dk_167 0 11 (dk_at dksX1_stepTo_0 14 rfl rfl)
theorem dX1_stepTo_17 : decode cX1_stepTo 17 = .ok (.aload_n 0, 1) := dk_42 (dk_at dksX1_stepTo_0 17 rfl rfl)
theorem dX1_stepTo_18 : decode cX1_stepTo 18 = .ok (.getfield 9, 3) := dk_180 0 9 (dk_at dksX1_stepTo_0 18 rfl rfl)
theorem dX1_stepTo_21 : decode cX1_stepTo 21 = .ok (.iload_n 1, 1) := dk_27 (dk_at dksX1_stepTo_0 21 rfl rfl)
theorem dX1_stepTo_22 : decode cX1_stepTo 22 = .ok (.iconst 2, 1) := dk_5 (dk_at dksX1_stepTo_0 22 rfl rfl)
theorem dX1_stepTo_23 : decode cX1_stepTo 23 = .ok (.idiv, 1) := dk_108 (dk_at dksX1_stepTo_0 23 rfl rfl)
theorem dX1_stepTo_24 : decode cX1_stepTo 24 = .ok (.iaload, 1) := dk_46 (dk_at dksX1_stepTo_1 0 rfl rfl)
theorem dX1_stepTo_25 : decode cX1_stepTo 25 = .ok (.ireturn, 1) := dk_172 (dk_at dksX1_stepTo_1 1 rfl rfl)
abbrev cX1_stepCost : ByteArray := prog_6_method_7_code
def yX1_stepCost : MethodName := ⟨RX1, "stepCost", "(I)J"⟩
def dkwX1_stepCost_1 : List UInt8 := [47, 117, 173]
abbrev dktX1_stepCost_1 : List UInt8 := dkwX1_stepCost_1 ++ []
def dkwX1_stepCost_0 : List UInt8 := [27, 5, 112, 154, 0, 14, 42, 180, 0, 24, 27, 5, 108, 47, 167, 0, 12, 42, 180, 0, 24, 27, 5, 108]
abbrev dktX1_stepCost_0 : List UInt8 := dkwX1_stepCost_0 ++ dktX1_stepCost_1
theorem dksX1_stepCost_0 : cX1_stepCost.data.toList.drop 0 = dktX1_stepCost_0 := by decide +kernel
theorem dksX1_stepCost_1 : cX1_stepCost.data.toList.drop 24 = dktX1_stepCost_1 := dk_seg dksX1_stepCost_0 24 rfl rfl
theorem dX1_stepCost_0 : decode cX1_stepCost 0 = .ok (.iload_n 1, 1) := dk_27 (dk_at dksX1_stepCost_0 0 rfl rfl)
theorem dX1_stepCost_1 : decode cX1_stepCost 1 = .ok (.iconst 2, 1) := dk_5 (dk_at dksX1_stepCost_0 1 rfl rfl)
theorem dX1_stepCost_2 : decode cX1_stepCost 2 = .ok (.irem, 1) := dk_112 (dk_at dksX1_stepCost_0 2 rfl rfl)
theorem dX1_stepCost_3 : decode cX1_stepCost 3 = .ok (.ifCond .ne 14, 3) := dk_154 0 14 (dk_at dksX1_stepCost_0 3 rfl rfl)
theorem dX1_stepCost_6 : decode cX1_stepCost 6 = .ok (.aload_n 0, 1) := dk_42 (dk_at dksX1_stepCost_0 6 rfl rfl)
theorem dX1_stepCost_7 : decode cX1_stepCost 7 = .ok (.getfield 24, 3) := dk_180 0 24 (dk_at dksX1_stepCost_0 7 rfl rfl)
theorem dX1_stepCost_10 : decode cX1_stepCost 10 = .ok (.iload_n 1, 1) := dk_27 (dk_at dksX1_stepCost_0 10 rfl rfl)
theorem dX1_stepCost_11 : decode cX1_stepCost 11 = .ok (.iconst 2, 1) := dk_5 (dk_at dksX1_stepCost_0 11 rfl rfl)
theorem dX1_stepCost_12 : decode cX1_stepCost 12 = .ok (.idiv, 1) := dk_108 (dk_at dksX1_stepCost_0 12 rfl rfl)
theorem dX1_stepCost_13 : decode cX1_stepCost 13 = .ok (.laload, 1) := dk_47 (dk_at dksX1_stepCost_0 13 rfl rfl)
theorem dX1_stepCost_14 : decode cX1_stepCost 14 = .ok (.goto 12, 3) := dk_167 0 12 (dk_at dksX1_stepCost_0 14 rfl rfl)
theorem dX1_stepCost_17 : decode cX1_stepCost 17 = .ok (.aload_n 0, 1) := dk_42 (dk_at dksX1_stepCost_0 17 rfl rfl)
theorem dX1_stepCost_18 : decode cX1_stepCost 18 = .ok (.getfield 24, 3) := dk_180 0 24 (dk_at dksX1_stepCost_0 18 rfl rfl)
theorem dX1_stepCost_21 : decode cX1_stepCost 21 = .ok (.iload_n 1, 1) := dk_27 (dk_at dksX1_stepCost_0 21 rfl rfl)
theorem dX1_stepCost_22 : decode cX1_stepCost 22 = .ok (.iconst 2, 1) := dk_5 (dk_at dksX1_stepCost_0 22 rfl rfl)
theorem dX1_stepCost_23 : decode cX1_stepCost 23 = .ok (.idiv, 1) := dk_108 (dk_at dksX1_stepCost_0 23 rfl rfl)
theorem dX1_stepCost_24 : decode cX1_stepCost 24 = .ok (.laload, 1) := dk_47 (dk_at dksX1_stepCost_1 0 rfl rfl)
theorem dX1_stepCost_25 : decode cX1_stepCost 25 = .ok (.lneg, 1) := dk_117 (dk_at dksX1_stepCost_1 1 rfl rfl)
theorem dX1_stepCost_26 : decode cX1_stepCost 26 = .ok (.lreturn, 1) := dk_173 (dk_at dksX1_stepCost_1 2 rfl rfl)
abbrev cX1_stepWeight : ByteArray := prog_6_method_8_code
def yX1_stepWeight : MethodName := ⟨RX1, "stepWeight", "(I)J"⟩
def dkwX1_stepWeight_0 : List UInt8 := [27, 5, 112, 154, 0, 12, 27, 5, 108, 184, 0, 73, 167, 0, 10, 27, 5, 108, 184, 0, 73, 117, 173]
abbrev dktX1_stepWeight_0 : List UInt8 := dkwX1_stepWeight_0 ++ []
theorem dksX1_stepWeight_0 : cX1_stepWeight.data.toList.drop 0 = dktX1_stepWeight_0 := by decide +kernel
theorem dX1_stepWeight_0 : decode cX1_stepWeight 0 = .ok (.iload_n 1, 1) := dk_27 (dk_at dksX1_stepWeight_0 0 rfl rfl)
theorem dX1_stepWeight_1 : decode cX1_stepWeight 1 = .ok (.iconst 2, 1) := dk_5 (dk_at dksX1_stepWeight_0 1 rfl rfl)
theorem dX1_stepWeight_2 : decode cX1_stepWeight 2 = .ok (.irem, 1) := dk_112 (dk_at dksX1_stepWeight_0 2 rfl rfl)
theorem dX1_stepWeight_3 : decode cX1_stepWeight 3 = .ok (.ifCond .ne 12, 3) := dk_154 0 12 (dk_at dksX1_stepWeight_0 3 rfl rfl)
theorem dX1_stepWeight_6 : decode cX1_stepWeight 6 = .ok (.iload_n 1, 1) := dk_27 (dk_at dksX1_stepWeight_0 6 rfl rfl)
theorem dX1_stepWeight_7 : decode cX1_stepWeight 7 = .ok (.iconst 2, 1) := dk_5 (dk_at dksX1_stepWeight_0 7 rfl rfl)
theorem dX1_stepWeight_8 : decode cX1_stepWeight 8 = .ok (.idiv, 1) := dk_108 (dk_at dksX1_stepWeight_0 8 rfl rfl)
theorem dX1_stepWeight_9 : decode cX1_stepWeight 9 = .ok (.invokestatic 73, 3) := dk_184 0 73 (dk_at dksX1_stepWeight_0 9 rfl rfl)
theorem dX1_stepWeight_12 : decode cX1_stepWeight 12 = .ok (.goto 10, 3) := dk_167 0 10 (dk_at dksX1_stepWeight_0 12 rfl rfl)
theorem dX1_stepWeight_15 : decode cX1_stepWeight 15 = .ok (.iload_n 1, 1) := dk_27 (dk_at dksX1_stepWeight_0 15 rfl rfl)
theorem dX1_stepWeight_16 : decode cX1_stepWeight 16 = .ok (.iconst 2, 1) := dk_5 (dk_at dksX1_stepWeight_0 16 rfl rfl)
theorem dX1_stepWeight_17 : decode cX1_stepWeight 17 = .ok (.idiv, 1) := dk_108 (dk_at dksX1_stepWeight_0 17 rfl rfl)
theorem dX1_stepWeight_18 : decode cX1_stepWeight 18 = .ok (.invokestatic 73, 3) := dk_184 0 73 (dk_at dksX1_stepWeight_0 18 rfl rfl)
theorem dX1_stepWeight_21 : decode cX1_stepWeight 21 = .ok (.lneg, 1) := dk_117 (dk_at dksX1_stepWeight_0 21 rfl rfl)
theorem dX1_stepWeight_22 : decode cX1_stepWeight 22 = .ok (.lreturn, 1) := dk_173 (dk_at dksX1_stepWeight_0 22 rfl rfl)
abbrev cX1_weightOf : ByteArray := prog_6_method_2_code
def yX1_weightOf : MethodName := ⟨RX1, "weightOf", "(I)J"⟩
def dkwX1_weightOf_0 : List UInt8 := [10, 16, 24, 26, 100, 121, 173]
abbrev dktX1_weightOf_0 : List UInt8 := dkwX1_weightOf_0 ++ []
theorem dksX1_weightOf_0 : cX1_weightOf.data.toList.drop 0 = dktX1_weightOf_0 := by decide +kernel
theorem dX1_weightOf_0 : decode cX1_weightOf 0 = .ok (.lconst 1, 1) := dk_10 (dk_at dksX1_weightOf_0 0 rfl rfl)
theorem dX1_weightOf_1 : decode cX1_weightOf 1 = .ok (.bipush 24, 2) := dk_16 24 (dk_at dksX1_weightOf_0 1 rfl rfl)
theorem dX1_weightOf_3 : decode cX1_weightOf 3 = .ok (.iload_n 0, 1) := dk_26 (dk_at dksX1_weightOf_0 3 rfl rfl)
theorem dX1_weightOf_4 : decode cX1_weightOf 4 = .ok (.isub, 1) := dk_100 (dk_at dksX1_weightOf_0 4 rfl rfl)
theorem dX1_weightOf_5 : decode cX1_weightOf 5 = .ok (.lshl, 1) := dk_121 (dk_at dksX1_weightOf_0 5 rfl rfl)
theorem dX1_weightOf_6 : decode cX1_weightOf 6 = .ok (.lreturn, 1) := dk_173 (dk_at dksX1_weightOf_0 6 rfl rfl)
abbrev cX1_nearestWanting : ByteArray := prog_6_method_14_code
def yX1_nearestWanting : MethodName := ⟨RX1, "nearestWanting", "()I"⟩
def dkwX1_nearestWanting_3 : List UInt8 := [132, 2, 1, 167, 255, 188, 27, 172]
abbrev dktX1_nearestWanting_3 : List UInt8 := dkwX1_nearestWanting_3 ++ []
def dkwX1_nearestWanting_2 : List UInt8 := [159, 0, 21, 42, 180, 0, 45, 28, 50, 42, 180, 0, 45, 27, 50, 182, 0, 141, 156, 0, 5, 28, 60]
abbrev dktX1_nearestWanting_2 : List UInt8 := dkwX1_nearestWanting_2 ++ dktX1_nearestWanting_3
def dkwX1_nearestWanting_1 : List UInt8 := [180, 0, 45, 28, 50, 180, 0, 93, 153, 0, 7, 4, 167, 0, 4, 3, 62, 29, 153, 0, 29, 27, 16, 251]
abbrev dktX1_nearestWanting_1 : List UInt8 := dkwX1_nearestWanting_1 ++ dktX1_nearestWanting_2
def dkwX1_nearestWanting_0 : List UInt8 := [16, 251, 60, 3, 61, 28, 42, 180, 0, 138, 162, 0, 66, 42, 180, 0, 34, 28, 46, 156, 0, 19, 42]
abbrev dktX1_nearestWanting_0 : List UInt8 := dkwX1_nearestWanting_0 ++ dktX1_nearestWanting_1
theorem dksX1_nearestWanting_0 : cX1_nearestWanting.data.toList.drop 0 = dktX1_nearestWanting_0 := by decide +kernel
theorem dksX1_nearestWanting_1 : cX1_nearestWanting.data.toList.drop 23 = dktX1_nearestWanting_1 := dk_seg dksX1_nearestWanting_0 23 rfl rfl
theorem dksX1_nearestWanting_2 : cX1_nearestWanting.data.toList.drop 47 = dktX1_nearestWanting_2 := dk_seg dksX1_nearestWanting_1 24 rfl rfl
theorem dksX1_nearestWanting_3 : cX1_nearestWanting.data.toList.drop 70 = dktX1_nearestWanting_3 := dk_seg dksX1_nearestWanting_2 23 rfl rfl
theorem dX1_nearestWanting_0 : decode cX1_nearestWanting 0 = .ok (.bipush (-5), 2) := dk_16 251 (dk_at dksX1_nearestWanting_0 0 rfl rfl)
theorem dX1_nearestWanting_2 : decode cX1_nearestWanting 2 = .ok (.istore_n 1, 1) := dk_60 (dk_at dksX1_nearestWanting_0 2 rfl rfl)
theorem dX1_nearestWanting_3 : decode cX1_nearestWanting 3 = .ok (.iconst 0, 1) := dk_3 (dk_at dksX1_nearestWanting_0 3 rfl rfl)
theorem dX1_nearestWanting_4 : decode cX1_nearestWanting 4 = .ok (.istore_n 2, 1) := dk_61 (dk_at dksX1_nearestWanting_0 4 rfl rfl)
theorem dX1_nearestWanting_5 : decode cX1_nearestWanting 5 = .ok (.iload_n 2, 1) := dk_28 (dk_at dksX1_nearestWanting_0 5 rfl rfl)
theorem dX1_nearestWanting_6 : decode cX1_nearestWanting 6 = .ok (.aload_n 0, 1) := dk_42 (dk_at dksX1_nearestWanting_0 6 rfl rfl)
theorem dX1_nearestWanting_7 : decode cX1_nearestWanting 7 = .ok (.getfield 138, 3) := dk_180 0 138 (dk_at dksX1_nearestWanting_0 7 rfl rfl)
theorem dX1_nearestWanting_10 : decode cX1_nearestWanting 10 = .ok (.if_icmp .ge 66, 3) := dk_162 0 66 (dk_at dksX1_nearestWanting_0 10 rfl rfl)
theorem dX1_nearestWanting_13 : decode cX1_nearestWanting 13 = .ok (.aload_n 0, 1) := dk_42 (dk_at dksX1_nearestWanting_0 13 rfl rfl)
theorem dX1_nearestWanting_14 : decode cX1_nearestWanting 14 = .ok (.getfield 34, 3) := dk_180 0 34 (dk_at dksX1_nearestWanting_0 14 rfl rfl)
theorem dX1_nearestWanting_17 : decode cX1_nearestWanting 17 = .ok (.iload_n 2, 1) := dk_28 (dk_at dksX1_nearestWanting_0 17 rfl rfl)
theorem dX1_nearestWanting_18 : decode cX1_nearestWanting 18 = .ok (.iaload, 1) := dk_46 (dk_at dksX1_nearestWanting_0 18 rfl rfl)
theorem dX1_nearestWanting_19 : decode cX1_nearestWanting 19 = .ok (.ifCond .ge 19, 3) := dk_156 0 19 (dk_at dksX1_nearestWanting_0 19 rfl rfl)
theorem dX1_nearestWanting_22 : decode cX1_nearestWanting 22 = .ok (.aload_n 0, 1) := dk_42 (dk_at dksX1_nearestWanting_0 22 rfl rfl)
theorem dX1_nearestWanting_23 : decode cX1_nearestWanting 23 = .ok (.getfield 45, 3) := dk_180 0 45 (dk_at dksX1_nearestWanting_1 0 rfl rfl)
theorem dX1_nearestWanting_26 : decode cX1_nearestWanting 26 = .ok (.iload_n 2, 1) := dk_28 (dk_at dksX1_nearestWanting_1 3 rfl rfl)
theorem dX1_nearestWanting_27 : decode cX1_nearestWanting 27 = .ok (.aaload, 1) := dk_50 (dk_at dksX1_nearestWanting_1 4 rfl rfl)
theorem dX1_nearestWanting_28 : decode cX1_nearestWanting 28 = .ok (.getfield 93, 3) := dk_180 0 93 (dk_at dksX1_nearestWanting_1 5 rfl rfl)
theorem dX1_nearestWanting_31 : decode cX1_nearestWanting 31 = .ok (.ifCond .eq 7, 3) := dk_153 0 7 (dk_at dksX1_nearestWanting_1 8 rfl rfl)
theorem dX1_nearestWanting_34 : decode cX1_nearestWanting 34 = .ok (.iconst 1, 1) := dk_4 (dk_at dksX1_nearestWanting_1 11 rfl rfl)
theorem dX1_nearestWanting_35 : decode cX1_nearestWanting 35 = .ok (.goto 4, 3) := dk_167 0 4 (dk_at dksX1_nearestWanting_1 12 rfl rfl)
theorem dX1_nearestWanting_38 : decode cX1_nearestWanting 38 = .ok (.iconst 0, 1) := dk_3 (dk_at dksX1_nearestWanting_1 15 rfl rfl)
theorem dX1_nearestWanting_39 : decode cX1_nearestWanting 39 = .ok (.istore_n 3, 1) := dk_62 (dk_at dksX1_nearestWanting_1 16 rfl rfl)
theorem dX1_nearestWanting_40 : decode cX1_nearestWanting 40 = .ok (.iload_n 3, 1) := dk_29 (dk_at dksX1_nearestWanting_1 17 rfl rfl)
theorem dX1_nearestWanting_41 : decode cX1_nearestWanting 41 = .ok (.ifCond .eq 29, 3) := dk_153 0 29 (dk_at dksX1_nearestWanting_1 18 rfl rfl)
theorem dX1_nearestWanting_44 : decode cX1_nearestWanting 44 = .ok (.iload_n 1, 1) := dk_27 (dk_at dksX1_nearestWanting_1 21 rfl rfl)
theorem dX1_nearestWanting_45 : decode cX1_nearestWanting 45 = .ok (.bipush (-5), 2) := dk_16 251 (dk_at dksX1_nearestWanting_1 22 rfl rfl)
theorem dX1_nearestWanting_47 : decode cX1_nearestWanting 47 = .ok (.if_icmp .eq 21, 3) := dk_159 0 21 (dk_at dksX1_nearestWanting_2 0 rfl rfl)
theorem dX1_nearestWanting_50 : decode cX1_nearestWanting 50 = .ok (.aload_n 0, 1) := dk_42 (dk_at dksX1_nearestWanting_2 3 rfl rfl)
theorem dX1_nearestWanting_51 : decode cX1_nearestWanting 51 = .ok (.getfield 45, 3) := dk_180 0 45 (dk_at dksX1_nearestWanting_2 4 rfl rfl)
theorem dX1_nearestWanting_54 : decode cX1_nearestWanting 54 = .ok (.iload_n 2, 1) := dk_28 (dk_at dksX1_nearestWanting_2 7 rfl rfl)
theorem dX1_nearestWanting_55 : decode cX1_nearestWanting 55 = .ok (.aaload, 1) := dk_50 (dk_at dksX1_nearestWanting_2 8 rfl rfl)
theorem dX1_nearestWanting_56 : decode cX1_nearestWanting 56 = .ok (.aload_n 0, 1) := dk_42 (dk_at dksX1_nearestWanting_2 9 rfl rfl)
theorem dX1_nearestWanting_57 : decode cX1_nearestWanting 57 = .ok (.getfield 45, 3) := dk_180 0 45 (dk_at dksX1_nearestWanting_2 10 rfl rfl)
theorem dX1_nearestWanting_60 : decode cX1_nearestWanting 60 = .ok (.iload_n 1, 1) := dk_27 (dk_at dksX1_nearestWanting_2 13 rfl rfl)
theorem dX1_nearestWanting_61 : decode cX1_nearestWanting 61 = .ok (.aaload, 1) := dk_50 (dk_at dksX1_nearestWanting_2 14 rfl rfl)
theorem dX1_nearestWanting_62 : decode cX1_nearestWanting 62 = .ok (.invokevirtual 141, 3) := dk_182 0 141 (dk_at dksX1_nearestWanting_2 15 rfl rfl)
theorem dX1_nearestWanting_65 : decode cX1_nearestWanting 65 = .ok (.ifCond .ge 5, 3) := dk_156 0 5 (dk_at dksX1_nearestWanting_2 18 rfl rfl)
theorem dX1_nearestWanting_68 : decode cX1_nearestWanting 68 = .ok (.iload_n 2, 1) := dk_28 (dk_at dksX1_nearestWanting_2 21 rfl rfl)
theorem dX1_nearestWanting_69 : decode cX1_nearestWanting 69 = .ok (.istore_n 1, 1) := dk_60 (dk_at dksX1_nearestWanting_2 22 rfl rfl)
theorem dX1_nearestWanting_70 : decode cX1_nearestWanting 70 = .ok (.iinc 2 1, 3) := dk_132 2 1 (dk_at dksX1_nearestWanting_3 0 rfl rfl)
theorem dX1_nearestWanting_73 : decode cX1_nearestWanting 73 = .ok (.goto (-68), 3) := dk_167 255 188 (dk_at dksX1_nearestWanting_3 3 rfl rfl)
theorem dX1_nearestWanting_76 : decode cX1_nearestWanting 76 = .ok (.iload_n 1, 1) := dk_27 (dk_at dksX1_nearestWanting_3 6 rfl rfl)
theorem dX1_nearestWanting_77 : decode cX1_nearestWanting 77 = .ok (.ireturn, 1) := dk_172 (dk_at dksX1_nearestWanting_3 7 rfl rfl)
abbrev cX1_prices : ByteArray := prog_6_method_15_code
def yX1_prices : MethodName := ⟨RX1, "prices", "(I)V"⟩
def dkwX1_prices_5 : List UInt8 := [132, 6, 1, 167, 255, 160, 177]
abbrev dktX1_prices_5 : List UInt8 := dkwX1_prices_5 ++ []
def dkwX1_prices_4 : List UInt8 := [180, 0, 40, 21, 6, 92, 47, 21, 8, 153, 0, 11, 25, 7, 180, 0, 121, 167, 0, 5, 22, 4, 97, 80]
abbrev dktX1_prices_4 : List UInt8 := dkwX1_prices_4 ++ dktX1_prices_5
def dkwX1_prices_3 : List UInt8 := [180, 0, 37, 21, 6, 92, 47, 21, 8, 153, 0, 11, 25, 7, 180, 0, 118, 167, 0, 4, 32, 97, 80, 42]
abbrev dktX1_prices_3 : List UInt8 := dkwX1_prices_3 ++ dktX1_prices_4
def dkwX1_prices_2 : List UInt8 := [153, 0, 18, 25, 7, 32, 22, 4, 182, 0, 124, 154, 0, 7, 4, 167, 0, 4, 3, 54, 8, 42]
abbrev dktX1_prices_2 : List UInt8 := dkwX1_prices_2 ++ dktX1_prices_3
def dkwX1_prices_1 : List UInt8 := [21, 6, 42, 180, 0, 138, 162, 0, 93, 42, 180, 0, 45, 21, 6, 50, 58, 7, 25, 7, 180, 0, 93]
abbrev dktX1_prices_1 : List UInt8 := dkwX1_prices_1 ++ dktX1_prices_2
def dkwX1_prices_0 : List UInt8 := [42, 180, 0, 45, 27, 50, 180, 0, 118, 65, 42, 180, 0, 45, 27, 50, 180, 0, 121, 55, 4, 3, 54, 6]
abbrev dktX1_prices_0 : List UInt8 := dkwX1_prices_0 ++ dktX1_prices_1
theorem dksX1_prices_0 : cX1_prices.data.toList.drop 0 = dktX1_prices_0 := by decide +kernel
theorem dksX1_prices_1 : cX1_prices.data.toList.drop 24 = dktX1_prices_1 := dk_seg dksX1_prices_0 24 rfl rfl
theorem dksX1_prices_2 : cX1_prices.data.toList.drop 47 = dktX1_prices_2 := dk_seg dksX1_prices_1 23 rfl rfl
theorem dksX1_prices_3 : cX1_prices.data.toList.drop 69 = dktX1_prices_3 := dk_seg dksX1_prices_2 22 rfl rfl
theorem dksX1_prices_4 : cX1_prices.data.toList.drop 93 = dktX1_prices_4 := dk_seg dksX1_prices_3 24 rfl rfl
theorem dksX1_prices_5 : cX1_prices.data.toList.drop 117 = dktX1_prices_5 := dk_seg dksX1_prices_4 24 rfl rfl
theorem dX1_prices_0 : decode cX1_prices 0 = .ok (.aload_n 0, 1) := dk_42 (dk_at dksX1_prices_0 0 rfl rfl)
theorem dX1_prices_1 : decode cX1_prices 1 = .ok (.getfield 45, 3) := dk_180 0 45 (dk_at dksX1_prices_0 1 rfl rfl)
theorem dX1_prices_4 : decode cX1_prices 4 = .ok (.iload_n 1, 1) := dk_27 (dk_at dksX1_prices_0 4 rfl rfl)
theorem dX1_prices_5 : decode cX1_prices 5 = .ok (.aaload, 1) := dk_50 (dk_at dksX1_prices_0 5 rfl rfl)
theorem dX1_prices_6 : decode cX1_prices 6 = .ok (.getfield 118, 3) := dk_180 0 118 (dk_at dksX1_prices_0 6 rfl rfl)
theorem dX1_prices_9 : decode cX1_prices 9 = .ok (.lstore_n 2, 1) := dk_65 (dk_at dksX1_prices_0 9 rfl rfl)
theorem dX1_prices_10 : decode cX1_prices 10 = .ok (.aload_n 0, 1) := dk_42 (dk_at dksX1_prices_0 10 rfl rfl)
theorem dX1_prices_11 : decode cX1_prices 11 = .ok (.getfield 45, 3) := dk_180 0 45 (dk_at dksX1_prices_0 11 rfl rfl)
theorem dX1_prices_14 : decode cX1_prices 14 = .ok (.iload_n 1, 1) := dk_27 (dk_at dksX1_prices_0 14 rfl rfl)
theorem dX1_prices_15 : decode cX1_prices 15 = .ok (.aaload, 1) := dk_50 (dk_at dksX1_prices_0 15 rfl rfl)
theorem dX1_prices_16 : decode cX1_prices 16 = .ok (.getfield 121, 3) := dk_180 0 121 (dk_at dksX1_prices_0 16 rfl rfl)
theorem dX1_prices_19 : decode cX1_prices 19 = .ok (.lstore 4, 2) := dk_55 4 (dk_at dksX1_prices_0 19 rfl rfl)
theorem dX1_prices_21 : decode cX1_prices 21 = .ok (.iconst 0, 1) := dk_3 (dk_at dksX1_prices_0 21 rfl rfl)
theorem dX1_prices_22 : decode cX1_prices 22 = .ok (.istore 6, 2) := dk_54 6 (dk_at dksX1_prices_0 22 rfl rfl)
theorem dX1_prices_24 : decode cX1_prices 24 = .ok (.iload 6, 2) := dk_21 6 (dk_at dksX1_prices_1 0 rfl rfl)
theorem dX1_prices_26 : decode cX1_prices 26 = .ok (.aload_n 0, 1) := dk_42 (dk_at dksX1_prices_1 2 rfl rfl)
theorem dX1_prices_27 : decode cX1_prices 27 = .ok (.getfield 138, 3) := dk_180 0 138 (dk_at dksX1_prices_1 3 rfl rfl)
theorem dX1_prices_30 : decode cX1_prices 30 = .ok (.if_icmp .ge 93, 3) := dk_162 0 93 (dk_at dksX1_prices_1 6 rfl rfl)
theorem dX1_prices_33 : decode cX1_prices 33 = .ok (.aload_n 0, 1) := dk_42 (dk_at dksX1_prices_1 9 rfl rfl)
theorem dX1_prices_34 : decode cX1_prices 34 = .ok (.getfield 45, 3) := dk_180 0 45 (dk_at dksX1_prices_1 10 rfl rfl)
theorem dX1_prices_37 : decode cX1_prices 37 = .ok (.iload 6, 2) := dk_21 6 (dk_at dksX1_prices_1 13 rfl rfl)
theorem dX1_prices_39 : decode cX1_prices 39 = .ok (.aaload, 1) := dk_50 (dk_at dksX1_prices_1 15 rfl rfl)
theorem dX1_prices_40 : decode cX1_prices 40 = .ok (.astore 7, 2) := dk_58 7 (dk_at dksX1_prices_1 16 rfl rfl)
theorem dX1_prices_42 : decode cX1_prices 42 = .ok (.aload 7, 2) := dk_25 7 (dk_at dksX1_prices_1 18 rfl rfl)
theorem dX1_prices_44 : decode cX1_prices 44 = .ok (.getfield 93, 3) := dk_180 0 93 (dk_at dksX1_prices_1 20 rfl rfl)
theorem dX1_prices_47 : decode cX1_prices 47 = .ok (.ifCond .eq 18, 3) := dk_153 0 18 (dk_at dksX1_prices_2 0 rfl rfl)
theorem dX1_prices_50 : decode cX1_prices 50 = .ok (.aload 7, 2) := dk_25 7 (dk_at dksX1_prices_2 3 rfl rfl)
theorem dX1_prices_52 : decode cX1_prices 52 = .ok (.lload_n 2, 1) := dk_32 (dk_at dksX1_prices_2 5 rfl rfl)
theorem dX1_prices_53 : decode cX1_prices 53 = .ok (.lload 4, 2) := dk_22 4 (dk_at dksX1_prices_2 6 rfl rfl)
theorem dX1_prices_55 : decode cX1_prices 55 = .ok (.invokevirtual 124, 3) := dk_182 0 124 (dk_at dksX1_prices_2 8 rfl rfl)
theorem dX1_prices_58 : decode cX1_prices 58 = .ok (.ifCond .ne 7, 3) := dk_154 0 7 (dk_at dksX1_prices_2 11 rfl rfl)
theorem dX1_prices_61 : decode cX1_prices 61 = .ok (.iconst 1, 1) := dk_4 (dk_at dksX1_prices_2 14 rfl rfl)
theorem dX1_prices_62 : decode cX1_prices 62 = .ok (.goto 4, 3) := dk_167 0 4 (dk_at dksX1_prices_2 15 rfl rfl)
theorem dX1_prices_65 : decode cX1_prices 65 = .ok (.iconst 0, 1) := dk_3 (dk_at dksX1_prices_2 18 rfl rfl)
theorem dX1_prices_66 : decode cX1_prices 66 = .ok (.istore 8, 2) := dk_54 8 (dk_at dksX1_prices_2 19 rfl rfl)
theorem dX1_prices_68 : decode cX1_prices 68 = .ok (.aload_n 0, 1) := dk_42 (dk_at dksX1_prices_2 21 rfl rfl)
theorem dX1_prices_69 : decode cX1_prices 69 = .ok (.getfield 37, 3) := dk_180 0 37 (dk_at dksX1_prices_3 0 rfl rfl)
theorem dX1_prices_72 : decode cX1_prices 72 = .ok (.iload 6, 2) := dk_21 6 (dk_at dksX1_prices_3 3 rfl rfl)
theorem dX1_prices_74 : decode cX1_prices 74 = .ok (.dup2, 1) := dk_92 (dk_at dksX1_prices_3 5 rfl rfl)
theorem dX1_prices_75 : decode cX1_prices 75 = .ok (.laload, 1) := dk_47 (dk_at dksX1_prices_3 6 rfl rfl)
theorem dX1_prices_76 : decode cX1_prices 76 = .ok (.iload 8, 2) := dk_21 8 (dk_at dksX1_prices_3 7 rfl rfl)
theorem dX1_prices_78 : decode cX1_prices 78 = .ok (.ifCond .eq 11, 3) := dk_153 0 11 (dk_at dksX1_prices_3 9 rfl rfl)
theorem dX1_prices_81 : decode cX1_prices 81 = .ok (.aload 7, 2) := dk_25 7 (dk_at dksX1_prices_3 12 rfl rfl)
theorem dX1_prices_83 : decode cX1_prices 83 = .ok (.getfield 118, 3) := dk_180 0 118 (dk_at dksX1_prices_3 14 rfl rfl)
theorem dX1_prices_86 : decode cX1_prices 86 = .ok (.goto 4, 3) := dk_167 0 4 (dk_at dksX1_prices_3 17 rfl rfl)
theorem dX1_prices_89 : decode cX1_prices 89 = .ok (.lload_n 2, 1) := dk_32 (dk_at dksX1_prices_3 20 rfl rfl)
theorem dX1_prices_90 : decode cX1_prices 90 = .ok (.ladd, 1) := dk_97 (dk_at dksX1_prices_3 21 rfl rfl)
theorem dX1_prices_91 : decode cX1_prices 91 = .ok (.lastore, 1) := dk_80 (dk_at dksX1_prices_3 22 rfl rfl)
theorem dX1_prices_92 : decode cX1_prices 92 = .ok (.aload_n 0, 1) := dk_42 (dk_at dksX1_prices_3 23 rfl rfl)
theorem dX1_prices_93 : decode cX1_prices 93 = .ok (.getfield 40, 3) := dk_180 0 40 (dk_at dksX1_prices_4 0 rfl rfl)
theorem dX1_prices_96 : decode cX1_prices 96 = .ok (.iload 6, 2) := dk_21 6 (dk_at dksX1_prices_4 3 rfl rfl)
theorem dX1_prices_98 : decode cX1_prices 98 = .ok (.dup2, 1) := dk_92 (dk_at dksX1_prices_4 5 rfl rfl)
theorem dX1_prices_99 : decode cX1_prices 99 = .ok (.laload, 1) := dk_47 (dk_at dksX1_prices_4 6 rfl rfl)
theorem dX1_prices_100 : decode cX1_prices 100 = .ok (.iload 8, 2) := dk_21 8 (dk_at dksX1_prices_4 7 rfl rfl)
theorem dX1_prices_102 : decode cX1_prices 102 = .ok (.ifCond .eq 11, 3) := dk_153 0 11 (dk_at dksX1_prices_4 9 rfl rfl)
theorem dX1_prices_105 : decode cX1_prices 105 = .ok (.aload 7, 2) := dk_25 7 (dk_at dksX1_prices_4 12 rfl rfl)
theorem dX1_prices_107 : decode cX1_prices 107 = .ok (.getfield 121, 3) := dk_180 0 121 (dk_at dksX1_prices_4 14 rfl rfl)
theorem dX1_prices_110 : decode cX1_prices 110 = .ok (.goto 5, 3) := dk_167 0 5 (dk_at dksX1_prices_4 17 rfl rfl)
theorem dX1_prices_113 : decode cX1_prices 113 = .ok (.lload 4, 2) := dk_22 4 (dk_at dksX1_prices_4 20 rfl rfl)
theorem dX1_prices_115 : decode cX1_prices 115 = .ok (.ladd, 1) := dk_97 (dk_at dksX1_prices_4 22 rfl rfl)
theorem dX1_prices_116 : decode cX1_prices 116 = .ok (.lastore, 1) := dk_80 (dk_at dksX1_prices_4 23 rfl rfl)
theorem dX1_prices_117 : decode cX1_prices 117 = .ok (.iinc 6 1, 3) := dk_132 6 1 (dk_at dksX1_prices_5 0 rfl rfl)
theorem dX1_prices_120 : decode cX1_prices 120 = .ok (.goto (-96), 3) := dk_167 255 160 (dk_at dksX1_prices_5 3 rfl rfl)
theorem dX1_prices_123 : decode cX1_prices 123 = .ok (.return_, 1) := dk_177 (dk_at dksX1_prices_5 6 rfl rfl)
abbrev cX1_sends : ByteArray := prog_6_method_16_code
def yX1_sends : MethodName := ⟨RX1, "sends", "(III)I"⟩
def dkwX1_sends_4 : List UInt8 := [54, 5, 167, 255, 218, 21, 4, 172]
abbrev dktX1_sends_4 : List UInt8 := dkwX1_sends_4 ++ []
def dkwX1_sends_3 : List UInt8 := [50, 180, 0, 132, 21, 4, 182, 0, 151, 42, 42, 180, 0, 45, 21, 5, 50, 180, 0, 132, 182, 0, 77]
abbrev dktX1_sends_3 : List UInt8 := dkwX1_sends_3 ++ dktX1_sends_4
def dkwX1_sends_2 : List UInt8 := [182, 0, 77, 54, 5, 167, 255, 213, 28, 54, 5, 21, 5, 27, 159, 0, 38, 42, 42, 180, 0, 45, 21, 5]
abbrev dktX1_sends_2 : List UInt8 := dkwX1_sends_2 ++ dktX1_sends_3
def dkwX1_sends_1 : List UInt8 := [180, 0, 132, 182, 0, 84, 184, 0, 145, 54, 4, 42, 42, 180, 0, 45, 21, 5, 50, 180, 0, 132]
abbrev dktX1_sends_1 : List UInt8 := dkwX1_sends_1 ++ dktX1_sends_2
def dkwX1_sends_0 : List UInt8 := [29, 54, 4, 28, 54, 5, 21, 5, 27, 159, 0, 43, 21, 4, 42, 42, 180, 0, 45, 21, 5, 50]
abbrev dktX1_sends_0 : List UInt8 := dkwX1_sends_0 ++ dktX1_sends_1
theorem dksX1_sends_0 : cX1_sends.data.toList.drop 0 = dktX1_sends_0 := by decide +kernel
theorem dksX1_sends_1 : cX1_sends.data.toList.drop 22 = dktX1_sends_1 := dk_seg dksX1_sends_0 22 rfl rfl
theorem dksX1_sends_2 : cX1_sends.data.toList.drop 44 = dktX1_sends_2 := dk_seg dksX1_sends_1 22 rfl rfl
theorem dksX1_sends_3 : cX1_sends.data.toList.drop 68 = dktX1_sends_3 := dk_seg dksX1_sends_2 24 rfl rfl
theorem dksX1_sends_4 : cX1_sends.data.toList.drop 91 = dktX1_sends_4 := dk_seg dksX1_sends_3 23 rfl rfl
theorem dX1_sends_0 : decode cX1_sends 0 = .ok (.iload_n 3, 1) := dk_29 (dk_at dksX1_sends_0 0 rfl rfl)
theorem dX1_sends_1 : decode cX1_sends 1 = .ok (.istore 4, 2) := dk_54 4 (dk_at dksX1_sends_0 1 rfl rfl)
theorem dX1_sends_3 : decode cX1_sends 3 = .ok (.iload_n 2, 1) := dk_28 (dk_at dksX1_sends_0 3 rfl rfl)
theorem dX1_sends_4 : decode cX1_sends 4 = .ok (.istore 5, 2) := dk_54 5 (dk_at dksX1_sends_0 4 rfl rfl)
theorem dX1_sends_6 : decode cX1_sends 6 = .ok (.iload 5, 2) := dk_21 5 (dk_at dksX1_sends_0 6 rfl rfl)
theorem dX1_sends_8 : decode cX1_sends 8 = .ok (.iload_n 1, 1) := dk_27 (dk_at dksX1_sends_0 8 rfl rfl)
theorem dX1_sends_9 : decode cX1_sends 9 = .ok (.if_icmp .eq 43, 3) := dk_159 0 43 (dk_at dksX1_sends_0 9 rfl rfl)
theorem dX1_sends_12 : decode cX1_sends 12 = .ok (.iload 4, 2) := dk_21 4 (dk_at dksX1_sends_0 12 rfl rfl)
theorem dX1_sends_14 : decode cX1_sends 14 = .ok (.aload_n 0, 1) := dk_42 (dk_at dksX1_sends_0 14 rfl rfl)
theorem dX1_sends_15 : decode cX1_sends 15 = .ok (.aload_n 0, 1) := dk_42 (dk_at dksX1_sends_0 15 rfl rfl)
theorem dX1_sends_16 : decode cX1_sends 16 = .ok (.getfield 45, 3) := dk_180 0 45 (dk_at dksX1_sends_0 16 rfl rfl)
theorem dX1_sends_19 : decode cX1_sends 19 = .ok (.iload 5, 2) := dk_21 5 (dk_at dksX1_sends_0 19 rfl rfl)
theorem dX1_sends_21 : decode cX1_sends 21 = .ok (.aaload, 1) := dk_50 (dk_at dksX1_sends_0 21 rfl rfl)
theorem dX1_sends_22 : decode cX1_sends 22 = .ok (.getfield 132, 3) := dk_180 0 132 (dk_at dksX1_sends_1 0 rfl rfl)
theorem dX1_sends_25 : decode cX1_sends 25 = .ok (.invokevirtual 84, 3) := dk_182 0 84 (dk_at dksX1_sends_1 3 rfl rfl)
theorem dX1_sends_28 : decode cX1_sends 28 = .ok (.invokestatic 145, 3) := dk_184 0 145 (dk_at dksX1_sends_1 6 rfl rfl)
theorem dX1_sends_31 : decode cX1_sends 31 = .ok (.istore 4, 2) := dk_54 4 (dk_at dksX1_sends_1 9 rfl rfl)
theorem dX1_sends_33 : decode cX1_sends 33 = .ok (.aload_n 0, 1) := dk_42 (dk_at dksX1_sends_1 11 rfl rfl)
theorem dX1_sends_34 : decode cX1_sends 34 = .ok (.aload_n 0, 1) := dk_42 (dk_at dksX1_sends_1 12 rfl rfl)
theorem dX1_sends_35 : decode cX1_sends 35 = .ok (.getfield 45, 3) := dk_180 0 45 (dk_at dksX1_sends_1 13 rfl rfl)
theorem dX1_sends_38 : decode cX1_sends 38 = .ok (.iload 5, 2) := dk_21 5 (dk_at dksX1_sends_1 16 rfl rfl)
theorem dX1_sends_40 : decode cX1_sends 40 = .ok (.aaload, 1) := dk_50 (dk_at dksX1_sends_1 18 rfl rfl)
theorem dX1_sends_41 : decode cX1_sends 41 = .ok (.getfield 132, 3) := dk_180 0 132 (dk_at dksX1_sends_1 19 rfl rfl)
theorem dX1_sends_44 : decode cX1_sends 44 = .ok (.invokevirtual 77, 3) := dk_182 0 77 (dk_at dksX1_sends_2 0 rfl rfl)
theorem dX1_sends_47 : decode cX1_sends 47 = .ok (.istore 5, 2) := dk_54 5 (dk_at dksX1_sends_2 3 rfl rfl)
theorem dX1_sends_49 : decode cX1_sends 49 = .ok (.goto (-43), 3) := dk_167 255 213 (dk_at dksX1_sends_2 5 rfl rfl)
theorem dX1_sends_52 : decode cX1_sends 52 = .ok (.iload_n 2, 1) := dk_28 (dk_at dksX1_sends_2 8 rfl rfl)
theorem dX1_sends_53 : decode cX1_sends 53 = .ok (.istore 5, 2) := dk_54 5 (dk_at dksX1_sends_2 9 rfl rfl)
theorem dX1_sends_55 : decode cX1_sends 55 = .ok (.iload 5, 2) := dk_21 5 (dk_at dksX1_sends_2 11 rfl rfl)
theorem dX1_sends_57 : decode cX1_sends 57 = .ok (.iload_n 1, 1) := dk_27 (dk_at dksX1_sends_2 13 rfl rfl)
theorem dX1_sends_58 : decode cX1_sends 58 = .ok (.if_icmp .eq 38, 3) := dk_159 0 38 (dk_at dksX1_sends_2 14 rfl rfl)
theorem dX1_sends_61 : decode cX1_sends 61 = .ok (.aload_n 0, 1) := dk_42 (dk_at dksX1_sends_2 17 rfl rfl)
theorem dX1_sends_62 : decode cX1_sends 62 = .ok (.aload_n 0, 1) := dk_42 (dk_at dksX1_sends_2 18 rfl rfl)
theorem dX1_sends_63 : decode cX1_sends 63 = .ok (.getfield 45, 3) := dk_180 0 45 (dk_at dksX1_sends_2 19 rfl rfl)
theorem dX1_sends_66 : decode cX1_sends 66 = .ok (.iload 5, 2) := dk_21 5 (dk_at dksX1_sends_2 22 rfl rfl)
theorem dX1_sends_68 : decode cX1_sends 68 = .ok (.aaload, 1) := dk_50 (dk_at dksX1_sends_3 0 rfl rfl)
theorem dX1_sends_69 : decode cX1_sends 69 = .ok (.getfield 132, 3) := dk_180 0 132 (dk_at dksX1_sends_3 1 rfl rfl)
theorem dX1_sends_72 : decode cX1_sends 72 = .ok (.iload 4, 2) := dk_21 4 (dk_at dksX1_sends_3 4 rfl rfl)
theorem dX1_sends_74 : decode cX1_sends 74 = .ok (.invokevirtual 151, 3) := dk_182 0 151 (dk_at dksX1_sends_3 6 rfl rfl)
theorem dX1_sends_77 : decode cX1_sends 77 = .ok (.aload_n 0, 1) := dk_42 (dk_at dksX1_sends_3 9 rfl rfl)
theorem dX1_sends_78 : decode cX1_sends 78 = .ok (.aload_n 0, 1) := dk_42 (dk_at dksX1_sends_3 10 rfl rfl)
theorem dX1_sends_79 : decode cX1_sends 79 = .ok (.getfield 45, 3) := dk_180 0 45 (dk_at dksX1_sends_3 11 rfl rfl)
theorem dX1_sends_82 : decode cX1_sends 82 = .ok (.iload 5, 2) := dk_21 5 (dk_at dksX1_sends_3 14 rfl rfl)
theorem dX1_sends_84 : decode cX1_sends 84 = .ok (.aaload, 1) := dk_50 (dk_at dksX1_sends_3 16 rfl rfl)
theorem dX1_sends_85 : decode cX1_sends 85 = .ok (.getfield 132, 3) := dk_180 0 132 (dk_at dksX1_sends_3 17 rfl rfl)
theorem dX1_sends_88 : decode cX1_sends 88 = .ok (.invokevirtual 77, 3) := dk_182 0 77 (dk_at dksX1_sends_3 20 rfl rfl)
theorem dX1_sends_91 : decode cX1_sends 91 = .ok (.istore 5, 2) := dk_54 5 (dk_at dksX1_sends_4 0 rfl rfl)
theorem dX1_sends_93 : decode cX1_sends 93 = .ok (.goto (-38), 3) := dk_167 255 218 (dk_at dksX1_sends_4 2 rfl rfl)
theorem dX1_sends_96 : decode cX1_sends 96 = .ok (.iload 4, 2) := dk_21 4 (dk_at dksX1_sends_4 5 rfl rfl)
theorem dX1_sends_98 : decode cX1_sends 98 = .ok (.ireturn, 1) := dk_172 (dk_at dksX1_sends_4 7 rfl rfl)
abbrev cX1_goes : ByteArray := prog_6_method_10_code
def yX1_goes : MethodName := ⟨RX1, "goes", "(II)V"⟩
def dkwX1_goes_0 : List UInt8 := [42, 180, 0, 28, 27, 5, 108, 92, 46, 27, 5, 112, 154, 0, 7, 28, 167, 0, 5, 28, 116, 96, 79, 177]
abbrev dktX1_goes_0 : List UInt8 := dkwX1_goes_0 ++ []
theorem dksX1_goes_0 : cX1_goes.data.toList.drop 0 = dktX1_goes_0 := by decide +kernel
theorem dX1_goes_0 : decode cX1_goes 0 = .ok (.aload_n 0, 1) := dk_42 (dk_at dksX1_goes_0 0 rfl rfl)
theorem dX1_goes_1 : decode cX1_goes 1 = .ok (.getfield 28, 3) := dk_180 0 28 (dk_at dksX1_goes_0 1 rfl rfl)
theorem dX1_goes_4 : decode cX1_goes 4 = .ok (.iload_n 1, 1) := dk_27 (dk_at dksX1_goes_0 4 rfl rfl)
theorem dX1_goes_5 : decode cX1_goes 5 = .ok (.iconst 2, 1) := dk_5 (dk_at dksX1_goes_0 5 rfl rfl)
theorem dX1_goes_6 : decode cX1_goes 6 = .ok (.idiv, 1) := dk_108 (dk_at dksX1_goes_0 6 rfl rfl)
theorem dX1_goes_7 : decode cX1_goes 7 = .ok (.dup2, 1) := dk_92 (dk_at dksX1_goes_0 7 rfl rfl)
theorem dX1_goes_8 : decode cX1_goes 8 = .ok (.iaload, 1) := dk_46 (dk_at dksX1_goes_0 8 rfl rfl)
theorem dX1_goes_9 : decode cX1_goes 9 = .ok (.iload_n 1, 1) := dk_27 (dk_at dksX1_goes_0 9 rfl rfl)
theorem dX1_goes_10 : decode cX1_goes 10 = .ok (.iconst 2, 1) := dk_5 (dk_at dksX1_goes_0 10 rfl rfl)
theorem dX1_goes_11 : decode cX1_goes 11 = .ok (.irem, 1) := dk_112 (dk_at dksX1_goes_0 11 rfl rfl)
theorem dX1_goes_12 : decode cX1_goes 12 = .ok (.ifCond .ne 7, 3) := dk_154 0 7 (dk_at dksX1_goes_0 12 rfl rfl)
theorem dX1_goes_15 : decode cX1_goes 15 = .ok (.iload_n 2, 1) := dk_28 (dk_at dksX1_goes_0 15 rfl rfl)
theorem dX1_goes_16 : decode cX1_goes 16 = .ok (.goto 5, 3) := dk_167 0 5 (dk_at dksX1_goes_0 16 rfl rfl)
theorem dX1_goes_19 : decode cX1_goes 19 = .ok (.iload_n 2, 1) := dk_28 (dk_at dksX1_goes_0 19 rfl rfl)
theorem dX1_goes_20 : decode cX1_goes 20 = .ok (.ineg, 1) := dk_116 (dk_at dksX1_goes_0 20 rfl rfl)
theorem dX1_goes_21 : decode cX1_goes 21 = .ok (.iadd, 1) := dk_96 (dk_at dksX1_goes_0 21 rfl rfl)
theorem dX1_goes_22 : decode cX1_goes 22 = .ok (.iastore, 1) := dk_79 (dk_at dksX1_goes_0 22 rfl rfl)
theorem dX1_goes_23 : decode cX1_goes 23 = .ok (.return_, 1) := dk_177 (dk_at dksX1_goes_0 23 rfl rfl)
abbrev cX1_total : ByteArray := prog_6_method_21_code
def yX1_total : MethodName := ⟨RX1, "total", "()J"⟩
def dkwX1_total_1 : List UInt8 := [46, 133, 184, 0, 181, 184, 0, 185, 64, 132, 3, 1, 167, 255, 224, 31, 173]
abbrev dktX1_total_1 : List UInt8 := dkwX1_total_1 ++ []
def dkwX1_total_0 : List UInt8 := [9, 64, 3, 62, 29, 42, 180, 0, 69, 162, 0, 30, 31, 42, 180, 0, 24, 29, 47, 42, 180, 0, 28, 29]
abbrev dktX1_total_0 : List UInt8 := dkwX1_total_0 ++ dktX1_total_1
theorem dksX1_total_0 : cX1_total.data.toList.drop 0 = dktX1_total_0 := by decide +kernel
theorem dksX1_total_1 : cX1_total.data.toList.drop 24 = dktX1_total_1 := dk_seg dksX1_total_0 24 rfl rfl
theorem dX1_total_0 : decode cX1_total 0 = .ok (.lconst 0, 1) := dk_9 (dk_at dksX1_total_0 0 rfl rfl)
theorem dX1_total_1 : decode cX1_total 1 = .ok (.lstore_n 1, 1) := dk_64 (dk_at dksX1_total_0 1 rfl rfl)
theorem dX1_total_2 : decode cX1_total 2 = .ok (.iconst 0, 1) := dk_3 (dk_at dksX1_total_0 2 rfl rfl)
theorem dX1_total_3 : decode cX1_total 3 = .ok (.istore_n 3, 1) := dk_62 (dk_at dksX1_total_0 3 rfl rfl)
theorem dX1_total_4 : decode cX1_total 4 = .ok (.iload_n 3, 1) := dk_29 (dk_at dksX1_total_0 4 rfl rfl)
theorem dX1_total_5 : decode cX1_total 5 = .ok (.aload_n 0, 1) := dk_42 (dk_at dksX1_total_0 5 rfl rfl)
theorem dX1_total_6 : decode cX1_total 6 = .ok (.getfield 69, 3) := dk_180 0 69 (dk_at dksX1_total_0 6 rfl rfl)
theorem dX1_total_9 : decode cX1_total 9 = .ok (.if_icmp .ge 30, 3) := dk_162 0 30 (dk_at dksX1_total_0 9 rfl rfl)
theorem dX1_total_12 : decode cX1_total 12 = .ok (.lload_n 1, 1) := dk_31 (dk_at dksX1_total_0 12 rfl rfl)
theorem dX1_total_13 : decode cX1_total 13 = .ok (.aload_n 0, 1) := dk_42 (dk_at dksX1_total_0 13 rfl rfl)
theorem dX1_total_14 : decode cX1_total 14 = .ok (.getfield 24, 3) := dk_180 0 24 (dk_at dksX1_total_0 14 rfl rfl)
theorem dX1_total_17 : decode cX1_total 17 = .ok (.iload_n 3, 1) := dk_29 (dk_at dksX1_total_0 17 rfl rfl)
theorem dX1_total_18 : decode cX1_total 18 = .ok (.laload, 1) := dk_47 (dk_at dksX1_total_0 18 rfl rfl)
theorem dX1_total_19 : decode cX1_total 19 = .ok (.aload_n 0, 1) := dk_42 (dk_at dksX1_total_0 19 rfl rfl)
theorem dX1_total_20 : decode cX1_total 20 = .ok (.getfield 28, 3) := dk_180 0 28 (dk_at dksX1_total_0 20 rfl rfl)
theorem dX1_total_23 : decode cX1_total 23 = .ok (.iload_n 3, 1) := dk_29 (dk_at dksX1_total_0 23 rfl rfl)
theorem dX1_total_24 : decode cX1_total 24 = .ok (.iaload, 1) := dk_46 (dk_at dksX1_total_1 0 rfl rfl)
theorem dX1_total_25 : decode cX1_total 25 = .ok (.i2l, 1) := dk_133 (dk_at dksX1_total_1 1 rfl rfl)
theorem dX1_total_26 : decode cX1_total 26 = .ok (.invokestatic 181, 3) := dk_184 0 181 (dk_at dksX1_total_1 2 rfl rfl)
theorem dX1_total_29 : decode cX1_total 29 = .ok (.invokestatic 185, 3) := dk_184 0 185 (dk_at dksX1_total_1 5 rfl rfl)
theorem dX1_total_32 : decode cX1_total 32 = .ok (.lstore_n 1, 1) := dk_64 (dk_at dksX1_total_1 8 rfl rfl)
theorem dX1_total_33 : decode cX1_total 33 = .ok (.iinc 3 1, 3) := dk_132 3 1 (dk_at dksX1_total_1 9 rfl rfl)
theorem dX1_total_36 : decode cX1_total 36 = .ok (.goto (-32), 3) := dk_167 255 224 (dk_at dksX1_total_1 12 rfl rfl)
theorem dX1_total_39 : decode cX1_total 39 = .ok (.lload_n 1, 1) := dk_31 (dk_at dksX1_total_1 15 rfl rfl)
theorem dX1_total_40 : decode cX1_total 40 = .ok (.lreturn, 1) := dk_173 (dk_at dksX1_total_1 16 rfl rfl)
abbrev cX1_pricesAll : ByteArray := prog_6_method_22_code
def yX1_pricesAll : MethodName := ⟨RX1, "pricesAll", "()V"⟩
def dkwX1_pricesAll_4 : List UInt8 := [153, 0, 7, 4, 167, 0, 4, 3, 60, 132, 2, 1, 167, 255, 182, 167, 255, 171, 177]
abbrev dktX1_pricesAll_4 : List UInt8 := dkwX1_pricesAll_4 ++ []
def dkwX1_pricesAll_3 : List UInt8 := [42, 180, 0, 58, 42, 28, 182, 0, 77, 47, 42, 28, 182, 0, 87, 97, 182, 0, 195, 154, 0, 7, 27]
abbrev dktX1_pricesAll_3 : List UInt8 := dkwX1_pricesAll_3 ++ dktX1_pricesAll_4
def dkwX1_pricesAll_2 : List UInt8 := [158, 0, 46, 42, 180, 0, 64, 42, 28, 182, 0, 77, 182, 0, 192, 153, 0, 31, 42, 42, 28, 182, 0, 81]
abbrev dktX1_pricesAll_2 : List UInt8 := dkwX1_pricesAll_2 ++ dktX1_pricesAll_3
def dkwX1_pricesAll_1 : List UInt8 := [27, 153, 0, 87, 3, 60, 3, 61, 28, 5, 42, 180, 0, 69, 104, 162, 0, 70, 42, 28, 182, 0, 84]
abbrev dktX1_pricesAll_1 : List UInt8 := dkwX1_pricesAll_1 ++ dktX1_pricesAll_2
def dkwX1_pricesAll_0 : List UInt8 := [42, 180, 0, 64, 182, 0, 188, 42, 180, 0, 64, 3, 182, 0, 189, 42, 180, 0, 58, 3, 9, 80, 4, 60]
abbrev dktX1_pricesAll_0 : List UInt8 := dkwX1_pricesAll_0 ++ dktX1_pricesAll_1
theorem dksX1_pricesAll_0 : cX1_pricesAll.data.toList.drop 0 = dktX1_pricesAll_0 := by decide +kernel
theorem dksX1_pricesAll_1 : cX1_pricesAll.data.toList.drop 24 = dktX1_pricesAll_1 := dk_seg dksX1_pricesAll_0 24 rfl rfl
theorem dksX1_pricesAll_2 : cX1_pricesAll.data.toList.drop 47 = dktX1_pricesAll_2 := dk_seg dksX1_pricesAll_1 23 rfl rfl
theorem dksX1_pricesAll_3 : cX1_pricesAll.data.toList.drop 71 = dktX1_pricesAll_3 := dk_seg dksX1_pricesAll_2 24 rfl rfl
theorem dksX1_pricesAll_4 : cX1_pricesAll.data.toList.drop 94 = dktX1_pricesAll_4 := dk_seg dksX1_pricesAll_3 23 rfl rfl
theorem dX1_pricesAll_0 : decode cX1_pricesAll 0 = .ok (.aload_n 0, 1) := dk_42 (dk_at dksX1_pricesAll_0 0 rfl rfl)
theorem dX1_pricesAll_1 : decode cX1_pricesAll 1 = .ok (.getfield 64, 3) := dk_180 0 64 (dk_at dksX1_pricesAll_0 1 rfl rfl)
theorem dX1_pricesAll_4 : decode cX1_pricesAll 4 = .ok (.invokevirtual 188, 3) := dk_182 0 188 (dk_at dksX1_pricesAll_0 4 rfl rfl)
theorem dX1_pricesAll_7 : decode cX1_pricesAll 7 = .ok (.aload_n 0, 1) := dk_42 (dk_at dksX1_pricesAll_0 7 rfl rfl)
theorem dX1_pricesAll_8 : decode cX1_pricesAll 8 = .ok (.getfield 64, 3) := dk_180 0 64 (dk_at dksX1_pricesAll_0 8 rfl rfl)
theorem dX1_pricesAll_11 : decode cX1_pricesAll 11 = .ok (.iconst 0, 1) := dk_3 (dk_at dksX1_pricesAll_0 11 rfl rfl)
theorem dX1_pricesAll_12 : decode cX1_pricesAll 12 = .ok (.invokevirtual 189, 3) := dk_182 0 189 (dk_at dksX1_pricesAll_0 12 rfl rfl)
theorem dX1_pricesAll_15 : decode cX1_pricesAll 15 = .ok (.aload_n 0, 1) := dk_42 (dk_at dksX1_pricesAll_0 15 rfl rfl)
theorem dX1_pricesAll_16 : decode cX1_pricesAll 16 = .ok (.getfield 58, 3) := dk_180 0 58 (dk_at dksX1_pricesAll_0 16 rfl rfl)
theorem dX1_pricesAll_19 : decode cX1_pricesAll 19 = .ok (.iconst 0, 1) := dk_3 (dk_at dksX1_pricesAll_0 19 rfl rfl)
theorem dX1_pricesAll_20 : decode cX1_pricesAll 20 = .ok (.lconst 0, 1) := dk_9 (dk_at dksX1_pricesAll_0 20 rfl rfl)
theorem dX1_pricesAll_21 : decode cX1_pricesAll 21 = .ok (.lastore, 1) := dk_80 (dk_at dksX1_pricesAll_0 21 rfl rfl)
theorem dX1_pricesAll_22 : decode cX1_pricesAll 22 = .ok (.iconst 1, 1) := dk_4 (dk_at dksX1_pricesAll_0 22 rfl rfl)
theorem dX1_pricesAll_23 : decode cX1_pricesAll 23 = .ok (.istore_n 1, 1) := dk_60 (dk_at dksX1_pricesAll_0 23 rfl rfl)
theorem dX1_pricesAll_24 : decode cX1_pricesAll 24 = .ok (.iload_n 1, 1) := dk_27 (dk_at dksX1_pricesAll_1 0 rfl rfl)
theorem dX1_pricesAll_25 : decode cX1_pricesAll 25 = .ok (.ifCond .eq 87, 3) := dk_153 0 87 (dk_at dksX1_pricesAll_1 1 rfl rfl)
theorem dX1_pricesAll_28 : decode cX1_pricesAll 28 = .ok (.iconst 0, 1) := dk_3 (dk_at dksX1_pricesAll_1 4 rfl rfl)
theorem dX1_pricesAll_29 : decode cX1_pricesAll 29 = .ok (.istore_n 1, 1) := dk_60 (dk_at dksX1_pricesAll_1 5 rfl rfl)
theorem dX1_pricesAll_30 : decode cX1_pricesAll 30 = .ok (.iconst 0, 1) := dk_3 (dk_at dksX1_pricesAll_1 6 rfl rfl)
theorem dX1_pricesAll_31 : decode cX1_pricesAll 31 = .ok (.istore_n 2, 1) := dk_61 (dk_at dksX1_pricesAll_1 7 rfl rfl)
theorem dX1_pricesAll_32 : decode cX1_pricesAll 32 = .ok (.iload_n 2, 1) := dk_28 (dk_at dksX1_pricesAll_1 8 rfl rfl)
theorem dX1_pricesAll_33 : decode cX1_pricesAll 33 = .ok (.iconst 2, 1) := dk_5 (dk_at dksX1_pricesAll_1 9 rfl rfl)
theorem dX1_pricesAll_34 : decode cX1_pricesAll 34 = .ok (.aload_n 0, 1) := dk_42 (dk_at dksX1_pricesAll_1 10 rfl rfl)
theorem dX1_pricesAll_35 : decode cX1_pricesAll 35 = .ok (.getfield 69, 3) := dk_180 0 69 (dk_at dksX1_pricesAll_1 11 rfl rfl)
theorem dX1_pricesAll_38 : decode cX1_pricesAll 38 = .ok (.imul, 1) := dk_104 (dk_at dksX1_pricesAll_1 14 rfl rfl)
theorem dX1_pricesAll_39 : decode cX1_pricesAll 39 = .ok (.if_icmp .ge 70, 3) := dk_162 0 70 (dk_at dksX1_pricesAll_1 15 rfl rfl)
theorem dX1_pricesAll_42 : decode cX1_pricesAll 42 = .ok (.aload_n 0, 1) := dk_42 (dk_at dksX1_pricesAll_1 18 rfl rfl)
theorem dX1_pricesAll_43 : decode cX1_pricesAll 43 = .ok (.iload_n 2, 1) := dk_28 (dk_at dksX1_pricesAll_1 19 rfl rfl)
theorem dX1_pricesAll_44 : decode cX1_pricesAll 44 = .ok (.invokevirtual 84, 3) := dk_182 0 84 (dk_at dksX1_pricesAll_1 20 rfl rfl)
theorem dX1_pricesAll_47 : decode cX1_pricesAll 47 = .ok (.ifCond .le 46, 3) := dk_158 0 46 (dk_at dksX1_pricesAll_2 0 rfl rfl)
theorem dX1_pricesAll_50 : decode cX1_pricesAll 50 = .ok (.aload_n 0, 1) := dk_42 (dk_at dksX1_pricesAll_2 3 rfl rfl)
theorem dX1_pricesAll_51 : decode cX1_pricesAll 51 = .ok (.getfield 64, 3) := dk_180 0 64 (dk_at dksX1_pricesAll_2 4 rfl rfl)
theorem dX1_pricesAll_54 : decode cX1_pricesAll 54 = .ok (.aload_n 0, 1) := dk_42 (dk_at dksX1_pricesAll_2 7 rfl rfl)
theorem dX1_pricesAll_55 : decode cX1_pricesAll 55 = .ok (.iload_n 2, 1) := dk_28 (dk_at dksX1_pricesAll_2 8 rfl rfl)
theorem dX1_pricesAll_56 : decode cX1_pricesAll 56 = .ok (.invokevirtual 77, 3) := dk_182 0 77 (dk_at dksX1_pricesAll_2 9 rfl rfl)
theorem dX1_pricesAll_59 : decode cX1_pricesAll 59 = .ok (.invokevirtual 192, 3) := dk_182 0 192 (dk_at dksX1_pricesAll_2 12 rfl rfl)
theorem dX1_pricesAll_62 : decode cX1_pricesAll 62 = .ok (.ifCond .eq 31, 3) := dk_153 0 31 (dk_at dksX1_pricesAll_2 15 rfl rfl)
theorem dX1_pricesAll_65 : decode cX1_pricesAll 65 = .ok (.aload_n 0, 1) := dk_42 (dk_at dksX1_pricesAll_2 18 rfl rfl)
theorem dX1_pricesAll_66 : decode cX1_pricesAll 66 = .ok (.aload_n 0, 1) := dk_42 (dk_at dksX1_pricesAll_2 19 rfl rfl)
theorem dX1_pricesAll_67 : decode cX1_pricesAll 67 = .ok (.iload_n 2, 1) := dk_28 (dk_at dksX1_pricesAll_2 20 rfl rfl)
theorem dX1_pricesAll_68 : decode cX1_pricesAll 68 = .ok (.invokevirtual 81, 3) := dk_182 0 81 (dk_at dksX1_pricesAll_2 21 rfl rfl)
theorem dX1_pricesAll_71 : decode cX1_pricesAll 71 = .ok (.aload_n 0, 1) := dk_42 (dk_at dksX1_pricesAll_3 0 rfl rfl)
theorem dX1_pricesAll_72 : decode cX1_pricesAll 72 = .ok (.getfield 58, 3) := dk_180 0 58 (dk_at dksX1_pricesAll_3 1 rfl rfl)
theorem dX1_pricesAll_75 : decode cX1_pricesAll 75 = .ok (.aload_n 0, 1) := dk_42 (dk_at dksX1_pricesAll_3 4 rfl rfl)
theorem dX1_pricesAll_76 : decode cX1_pricesAll 76 = .ok (.iload_n 2, 1) := dk_28 (dk_at dksX1_pricesAll_3 5 rfl rfl)
theorem dX1_pricesAll_77 : decode cX1_pricesAll 77 = .ok (.invokevirtual 77, 3) := dk_182 0 77 (dk_at dksX1_pricesAll_3 6 rfl rfl)
theorem dX1_pricesAll_80 : decode cX1_pricesAll 80 = .ok (.laload, 1) := dk_47 (dk_at dksX1_pricesAll_3 9 rfl rfl)
theorem dX1_pricesAll_81 : decode cX1_pricesAll 81 = .ok (.aload_n 0, 1) := dk_42 (dk_at dksX1_pricesAll_3 10 rfl rfl)
theorem dX1_pricesAll_82 : decode cX1_pricesAll 82 = .ok (.iload_n 2, 1) := dk_28 (dk_at dksX1_pricesAll_3 11 rfl rfl)
theorem dX1_pricesAll_83 : decode cX1_pricesAll 83 = .ok (.invokevirtual 87, 3) := dk_182 0 87 (dk_at dksX1_pricesAll_3 12 rfl rfl)
theorem dX1_pricesAll_86 : decode cX1_pricesAll 86 = .ok (.ladd, 1) := dk_97 (dk_at dksX1_pricesAll_3 15 rfl rfl)
theorem dX1_pricesAll_87 : decode cX1_pricesAll 87 = .ok (.invokevirtual 195, 3) := dk_182 0 195 (dk_at dksX1_pricesAll_3 16 rfl rfl)
theorem dX1_pricesAll_90 : decode cX1_pricesAll 90 = .ok (.ifCond .ne 7, 3) := dk_154 0 7 (dk_at dksX1_pricesAll_3 19 rfl rfl)
theorem dX1_pricesAll_93 : decode cX1_pricesAll 93 = .ok (.iload_n 1, 1) := dk_27 (dk_at dksX1_pricesAll_3 22 rfl rfl)
theorem dX1_pricesAll_94 : decode cX1_pricesAll 94 = .ok (.ifCond .eq 7, 3) := dk_153 0 7 (dk_at dksX1_pricesAll_4 0 rfl rfl)
theorem dX1_pricesAll_97 : decode cX1_pricesAll 97 = .ok (.iconst 1, 1) := dk_4 (dk_at dksX1_pricesAll_4 3 rfl rfl)
theorem dX1_pricesAll_98 : decode cX1_pricesAll 98 = .ok (.goto 4, 3) := dk_167 0 4 (dk_at dksX1_pricesAll_4 4 rfl rfl)
theorem dX1_pricesAll_101 : decode cX1_pricesAll 101 = .ok (.iconst 0, 1) := dk_3 (dk_at dksX1_pricesAll_4 7 rfl rfl)
theorem dX1_pricesAll_102 : decode cX1_pricesAll 102 = .ok (.istore_n 1, 1) := dk_60 (dk_at dksX1_pricesAll_4 8 rfl rfl)
theorem dX1_pricesAll_103 : decode cX1_pricesAll 103 = .ok (.iinc 2 1, 3) := dk_132 2 1 (dk_at dksX1_pricesAll_4 9 rfl rfl)
theorem dX1_pricesAll_106 : decode cX1_pricesAll 106 = .ok (.goto (-74), 3) := dk_167 255 182 (dk_at dksX1_pricesAll_4 12 rfl rfl)
theorem dX1_pricesAll_109 : decode cX1_pricesAll 109 = .ok (.goto (-85), 3) := dk_167 255 171 (dk_at dksX1_pricesAll_4 15 rfl rfl)
theorem dX1_pricesAll_112 : decode cX1_pricesAll 112 = .ok (.return_, 1) := dk_177 (dk_at dksX1_pricesAll_4 18 rfl rfl)
abbrev cX1_isBettered : ByteArray := prog_6_method_23_code
def yX1_isBettered : MethodName := ⟨RX1, "isBettered", "(IJ)Z"⟩
def dkwX1_isBettered_1 : List UInt8 := [42, 180, 0, 64, 27, 182, 0, 189, 42, 180, 0, 58, 27, 32, 80, 4, 172]
abbrev dktX1_isBettered_1 : List UInt8 := dkwX1_isBettered_1 ++ []
def dkwX1_isBettered_0 : List UInt8 := [42, 180, 0, 64, 27, 182, 0, 192, 153, 0, 16, 42, 180, 0, 58, 27, 47, 32, 148, 157, 0, 5, 3, 172]
abbrev dktX1_isBettered_0 : List UInt8 := dkwX1_isBettered_0 ++ dktX1_isBettered_1
theorem dksX1_isBettered_0 : cX1_isBettered.data.toList.drop 0 = dktX1_isBettered_0 := by decide +kernel
theorem dksX1_isBettered_1 : cX1_isBettered.data.toList.drop 24 = dktX1_isBettered_1 := dk_seg dksX1_isBettered_0 24 rfl rfl
theorem dX1_isBettered_0 : decode cX1_isBettered 0 = .ok (.aload_n 0, 1) := dk_42 (dk_at dksX1_isBettered_0 0 rfl rfl)
theorem dX1_isBettered_1 : decode cX1_isBettered 1 = .ok (.getfield 64, 3) := dk_180 0 64 (dk_at dksX1_isBettered_0 1 rfl rfl)
theorem dX1_isBettered_4 : decode cX1_isBettered 4 = .ok (.iload_n 1, 1) := dk_27 (dk_at dksX1_isBettered_0 4 rfl rfl)
theorem dX1_isBettered_5 : decode cX1_isBettered 5 = .ok (.invokevirtual 192, 3) := dk_182 0 192 (dk_at dksX1_isBettered_0 5 rfl rfl)
theorem dX1_isBettered_8 : decode cX1_isBettered 8 = .ok (.ifCond .eq 16, 3) := dk_153 0 16 (dk_at dksX1_isBettered_0 8 rfl rfl)
theorem dX1_isBettered_11 : decode cX1_isBettered 11 = .ok (.aload_n 0, 1) := dk_42 (dk_at dksX1_isBettered_0 11 rfl rfl)
theorem dX1_isBettered_12 : decode cX1_isBettered 12 = .ok (.getfield 58, 3) := dk_180 0 58 (dk_at dksX1_isBettered_0 12 rfl rfl)
theorem dX1_isBettered_15 : decode cX1_isBettered 15 = .ok (.iload_n 1, 1) := dk_27 (dk_at dksX1_isBettered_0 15 rfl rfl)
theorem dX1_isBettered_16 : decode cX1_isBettered 16 = .ok (.laload, 1) := dk_47 (dk_at dksX1_isBettered_0 16 rfl rfl)
theorem dX1_isBettered_17 : decode cX1_isBettered 17 = .ok (.lload_n 2, 1) := dk_32 (dk_at dksX1_isBettered_0 17 rfl rfl)
theorem dX1_isBettered_18 : decode cX1_isBettered 18 = .ok (.lcmp, 1) := dk_148 (dk_at dksX1_isBettered_0 18 rfl rfl)
theorem dX1_isBettered_19 : decode cX1_isBettered 19 = .ok (.ifCond .gt 5, 3) := dk_157 0 5 (dk_at dksX1_isBettered_0 19 rfl rfl)
theorem dX1_isBettered_22 : decode cX1_isBettered 22 = .ok (.iconst 0, 1) := dk_3 (dk_at dksX1_isBettered_0 22 rfl rfl)
theorem dX1_isBettered_23 : decode cX1_isBettered 23 = .ok (.ireturn, 1) := dk_172 (dk_at dksX1_isBettered_0 23 rfl rfl)
theorem dX1_isBettered_24 : decode cX1_isBettered 24 = .ok (.aload_n 0, 1) := dk_42 (dk_at dksX1_isBettered_1 0 rfl rfl)
theorem dX1_isBettered_25 : decode cX1_isBettered 25 = .ok (.getfield 64, 3) := dk_180 0 64 (dk_at dksX1_isBettered_1 1 rfl rfl)
theorem dX1_isBettered_28 : decode cX1_isBettered 28 = .ok (.iload_n 1, 1) := dk_27 (dk_at dksX1_isBettered_1 4 rfl rfl)
theorem dX1_isBettered_29 : decode cX1_isBettered 29 = .ok (.invokevirtual 189, 3) := dk_182 0 189 (dk_at dksX1_isBettered_1 5 rfl rfl)
theorem dX1_isBettered_32 : decode cX1_isBettered 32 = .ok (.aload_n 0, 1) := dk_42 (dk_at dksX1_isBettered_1 8 rfl rfl)
theorem dX1_isBettered_33 : decode cX1_isBettered 33 = .ok (.getfield 58, 3) := dk_180 0 58 (dk_at dksX1_isBettered_1 9 rfl rfl)
theorem dX1_isBettered_36 : decode cX1_isBettered 36 = .ok (.iload_n 1, 1) := dk_27 (dk_at dksX1_isBettered_1 12 rfl rfl)
theorem dX1_isBettered_37 : decode cX1_isBettered 37 = .ok (.lload_n 2, 1) := dk_32 (dk_at dksX1_isBettered_1 13 rfl rfl)
theorem dX1_isBettered_38 : decode cX1_isBettered 38 = .ok (.lastore, 1) := dk_80 (dk_at dksX1_isBettered_1 14 rfl rfl)
theorem dX1_isBettered_39 : decode cX1_isBettered 39 = .ok (.iconst 1, 1) := dk_4 (dk_at dksX1_isBettered_1 15 rfl rfl)
theorem dX1_isBettered_40 : decode cX1_isBettered 40 = .ok (.ireturn, 1) := dk_172 (dk_at dksX1_isBettered_1 16 rfl rfl)
abbrev cX1_cut : ByteArray := prog_6_method_24_code
def yX1_cut : MethodName := ⟨RX1, "cut", "()I"⟩
def dkwX1_cut_6 : List UInt8 := [27, 172, 132, 1, 1, 167, 255, 111, 16, 251, 172]
abbrev dktX1_cut_6 : List UInt8 := dkwX1_cut_6 ++ []
def dkwX1_cut_5 : List UInt8 := [29, 46, 116, 167, 0, 9, 42, 180, 0, 18, 29, 46, 96, 61, 132, 3, 1, 167, 255, 168, 28, 158, 0, 5]
abbrev dktX1_cut_5 : List UInt8 := dkwX1_cut_5 ++ dktX1_cut_6
def dkwX1_cut_4 : List UInt8 := [3, 54, 5, 28, 21, 4, 21, 5, 160, 0, 7, 3, 167, 0, 24, 21, 4, 153, 0, 13, 42, 180, 0, 21]
abbrev dktX1_cut_4 : List UInt8 := dkwX1_cut_4 ++ dktX1_cut_5
def dkwX1_cut_3 : List UInt8 := [167, 0, 4, 3, 54, 4, 27, 42, 180, 0, 15, 29, 46, 122, 4, 126, 4, 160, 0, 7, 4, 167, 0, 4]
abbrev dktX1_cut_3 : List UInt8 := dkwX1_cut_3 ++ dktX1_cut_4
def dkwX1_cut_2 : List UInt8 := [42, 180, 0, 69, 162, 0, 86, 27, 42, 180, 0, 9, 29, 46, 122, 4, 126, 4, 160, 0, 7, 4]
abbrev dktX1_cut_2 : List UInt8 := dkwX1_cut_2 ++ dktX1_cut_3
def dkwX1_cut_1 : List UInt8 := [28, 27, 29, 122, 4, 126, 42, 180, 0, 31, 29, 46, 104, 96, 61, 132, 3, 1, 167, 255, 230, 3, 62, 29]
abbrev dktX1_cut_1 : List UInt8 := dkwX1_cut_1 ++ dktX1_cut_2
def dkwX1_cut_0 : List UInt8 := [3, 60, 27, 4, 42, 180, 0, 138, 120, 162, 0, 141, 3, 61, 3, 62, 29, 42, 180, 0, 138, 162, 0, 24]
abbrev dktX1_cut_0 : List UInt8 := dkwX1_cut_0 ++ dktX1_cut_1
theorem dksX1_cut_0 : cX1_cut.data.toList.drop 0 = dktX1_cut_0 := by decide +kernel
theorem dksX1_cut_1 : cX1_cut.data.toList.drop 24 = dktX1_cut_1 := dk_seg dksX1_cut_0 24 rfl rfl
theorem dksX1_cut_2 : cX1_cut.data.toList.drop 48 = dktX1_cut_2 := dk_seg dksX1_cut_1 24 rfl rfl
theorem dksX1_cut_3 : cX1_cut.data.toList.drop 70 = dktX1_cut_3 := dk_seg dksX1_cut_2 22 rfl rfl
theorem dksX1_cut_4 : cX1_cut.data.toList.drop 94 = dktX1_cut_4 := dk_seg dksX1_cut_3 24 rfl rfl
theorem dksX1_cut_5 : cX1_cut.data.toList.drop 118 = dktX1_cut_5 := dk_seg dksX1_cut_4 24 rfl rfl
theorem dksX1_cut_6 : cX1_cut.data.toList.drop 142 = dktX1_cut_6 := dk_seg dksX1_cut_5 24 rfl rfl
theorem dX1_cut_0 : decode cX1_cut 0 = .ok (.iconst 0, 1) := dk_3 (dk_at dksX1_cut_0 0 rfl rfl)
theorem dX1_cut_1 : decode cX1_cut 1 = .ok (.istore_n 1, 1) := dk_60 (dk_at dksX1_cut_0 1 rfl rfl)
theorem dX1_cut_2 : decode cX1_cut 2 = .ok (.iload_n 1, 1) := dk_27 (dk_at dksX1_cut_0 2 rfl rfl)
theorem dX1_cut_3 : decode cX1_cut 3 = .ok (.iconst 1, 1) := dk_4 (dk_at dksX1_cut_0 3 rfl rfl)
theorem dX1_cut_4 : decode cX1_cut 4 = .ok (.aload_n 0, 1) := dk_42 (dk_at dksX1_cut_0 4 rfl rfl)
theorem dX1_cut_5 : decode cX1_cut 5 = .ok (.getfield 138, 3) := dk_180 0 138 (dk_at dksX1_cut_0 5 rfl rfl)
theorem dX1_cut_8 : decode cX1_cut 8 = .ok (.ishl, 1) := dk_120 (dk_at dksX1_cut_0 8 rfl rfl)
theorem dX1_cut_9 : decode cX1_cut 9 = .ok (.if_icmp .ge 141, 3) := dk_162 0 141 (dk_at dksX1_cut_0 9 rfl rfl)
theorem dX1_cut_12 : decode cX1_cut 12 = .ok (.iconst 0, 1) := dk_3 (dk_at dksX1_cut_0 12 rfl rfl)
theorem dX1_cut_13 : decode cX1_cut 13 = .ok (.istore_n 2, 1) := dk_61 (dk_at dksX1_cut_0 13 rfl rfl)
theorem dX1_cut_14 : decode cX1_cut 14 = .ok (.iconst 0, 1) := dk_3 (dk_at dksX1_cut_0 14 rfl rfl)
theorem dX1_cut_15 : decode cX1_cut 15 = .ok (.istore_n 3, 1) := dk_62 (dk_at dksX1_cut_0 15 rfl rfl)
theorem dX1_cut_16 : decode cX1_cut 16 = .ok (.iload_n 3, 1) := dk_29 (dk_at dksX1_cut_0 16 rfl rfl)
theorem dX1_cut_17 : decode cX1_cut 17 = .ok (.aload_n 0, 1) := dk_42 (dk_at dksX1_cut_0 17 rfl rfl)
theorem dX1_cut_18 : decode cX1_cut 18 = .ok (.getfield 138, 3) := dk_180 0 138 (dk_at dksX1_cut_0 18 rfl rfl)
theorem dX1_cut_21 : decode cX1_cut 21 = .ok (.if_icmp .ge 24, 3) := dk_162 0 24 (dk_at dksX1_cut_0 21 rfl rfl)
theorem dX1_cut_24 : decode cX1_cut 24 = .ok (.iload_n 2, 1) := dk_28 (dk_at dksX1_cut_1 0 rfl rfl)
theorem dX1_cut_25 : decode cX1_cut 25 = .ok (.iload_n 1, 1) := dk_27 (dk_at dksX1_cut_1 1 rfl rfl)
theorem dX1_cut_26 : decode cX1_cut 26 = .ok (.iload_n 3, 1) := dk_29 (dk_at dksX1_cut_1 2 rfl rfl)
theorem dX1_cut_27 : decode cX1_cut 27 = .ok (.ishr, 1) := dk_122 (dk_at dksX1_cut_1 3 rfl rfl)
theorem dX1_cut_28 : decode cX1_cut 28 = .ok (.iconst 1, 1) := dk_4 (dk_at dksX1_cut_1 4 rfl rfl)
theorem dX1_cut_29 : decode cX1_cut 29 = .ok (.iand, 1) := dk_126 (dk_at dksX1_cut_1 5 rfl rfl)
theorem dX1_cut_30 : decode cX1_cut 30 = .ok (.aload_n 0, 1) := dk_42 (dk_at dksX1_cut_1 6 rfl rfl)
theorem dX1_cut_31 : decode cX1_cut 31 = .ok (.getfield 31, 3) := dk_180 0 31 (dk_at dksX1_cut_1 7 rfl rfl)
theorem dX1_cut_34 : decode cX1_cut 34 = .ok (.iload_n 3, 1) := dk_29 (dk_at dksX1_cut_1 10 rfl rfl)
theorem dX1_cut_35 : decode cX1_cut 35 = .ok (.iaload, 1) := dk_46 (dk_at dksX1_cut_1 11 rfl rfl)
theorem dX1_cut_36 : decode cX1_cut 36 = .ok (.imul, 1) := dk_104 (dk_at dksX1_cut_1 12 rfl rfl)
theorem dX1_cut_37 : decode cX1_cut 37 = .ok (.iadd, 1) := dk_96 (dk_at dksX1_cut_1 13 rfl rfl)
theorem dX1_cut_38 : decode cX1_cut 38 = .ok (.istore_n 2, 1) := dk_61 (dk_at dksX1_cut_1 14 rfl rfl)
theorem dX1_cut_39 : decode cX1_cut 39 = .ok (.iinc 3 1, 3) := dk_132 3 1 (dk_at dksX1_cut_1 15 rfl rfl)
theorem dX1_cut_42 : decode cX1_cut 42 = .ok (.goto (-26), 3) := dk_167 255 230 (dk_at dksX1_cut_1 18 rfl rfl)
theorem dX1_cut_45 : decode cX1_cut 45 = .ok (.iconst 0, 1) := dk_3 (dk_at dksX1_cut_1 21 rfl rfl)
theorem dX1_cut_46 : decode cX1_cut 46 = .ok (.istore_n 3, 1) := dk_62 (dk_at dksX1_cut_1 22 rfl rfl)
theorem dX1_cut_47 : decode cX1_cut 47 = .ok (.iload_n 3, 1) := dk_29 (dk_at dksX1_cut_1 23 rfl rfl)
theorem dX1_cut_48 : decode cX1_cut 48 = .ok (.aload_n 0, 1) := dk_42 (dk_at dksX1_cut_2 0 rfl rfl)
theorem dX1_cut_49 : decode cX1_cut 49 = .ok (.getfield 69, 3) := dk_180 0 69 (dk_at dksX1_cut_2 1 rfl rfl)
theorem dX1_cut_52 : decode cX1_cut 52 = .ok (.if_icmp .ge 86, 3) := dk_162 0 86 (dk_at dksX1_cut_2 4 rfl rfl)
theorem dX1_cut_55 : decode cX1_cut 55 = .ok (.iload_n 1, 1) := dk_27 (dk_at dksX1_cut_2 7 rfl rfl)
theorem dX1_cut_56 : decode cX1_cut 56 = .ok (.aload_n 0, 1) := dk_42 (dk_at dksX1_cut_2 8 rfl rfl)
theorem dX1_cut_57 : decode cX1_cut 57 = .ok (.getfield 9, 3) := dk_180 0 9 (dk_at dksX1_cut_2 9 rfl rfl)
theorem dX1_cut_60 : decode cX1_cut 60 = .ok (.iload_n 3, 1) := dk_29 (dk_at dksX1_cut_2 12 rfl rfl)
theorem dX1_cut_61 : decode cX1_cut 61 = .ok (.iaload, 1) := dk_46 (dk_at dksX1_cut_2 13 rfl rfl)
theorem dX1_cut_62 : decode cX1_cut 62 = .ok (.ishr, 1) := dk_122 (dk_at dksX1_cut_2 14 rfl rfl)
theorem dX1_cut_63 : decode cX1_cut 63 = .ok (.iconst 1, 1) := dk_4 (dk_at dksX1_cut_2 15 rfl rfl)
theorem dX1_cut_64 : decode cX1_cut 64 = .ok (.iand, 1) := dk_126 (dk_at dksX1_cut_2 16 rfl rfl)
theorem dX1_cut_65 : decode cX1_cut 65 = .ok (.iconst 1, 1) := dk_4 (dk_at dksX1_cut_2 17 rfl rfl)
theorem dX1_cut_66 : decode cX1_cut 66 = .ok (.if_icmp .ne 7, 3) := dk_160 0 7 (dk_at dksX1_cut_2 18 rfl rfl)
theorem dX1_cut_69 : decode cX1_cut 69 = .ok (.iconst 1, 1) := dk_4 (dk_at dksX1_cut_2 21 rfl rfl)
theorem dX1_cut_70 : decode cX1_cut 70 = .ok (.goto 4, 3) := dk_167 0 4 (dk_at dksX1_cut_3 0 rfl rfl)
theorem dX1_cut_73 : decode cX1_cut 73 = .ok (.iconst 0, 1) := dk_3 (dk_at dksX1_cut_3 3 rfl rfl)
theorem dX1_cut_74 : decode cX1_cut 74 = .ok (.istore 4, 2) := dk_54 4 (dk_at dksX1_cut_3 4 rfl rfl)
theorem dX1_cut_76 : decode cX1_cut 76 = .ok (.iload_n 1, 1) := dk_27 (dk_at dksX1_cut_3 6 rfl rfl)
theorem dX1_cut_77 : decode cX1_cut 77 = .ok (.aload_n 0, 1) := dk_42 (dk_at dksX1_cut_3 7 rfl rfl)
theorem dX1_cut_78 : decode cX1_cut 78 = .ok (.getfield 15, 3) := dk_180 0 15 (dk_at dksX1_cut_3 8 rfl rfl)
theorem dX1_cut_81 : decode cX1_cut 81 = .ok (.iload_n 3, 1) := dk_29 (dk_at dksX1_cut_3 11 rfl rfl)
theorem dX1_cut_82 : decode cX1_cut 82 = .ok (.iaload, 1) := dk_46 (dk_at dksX1_cut_3 12 rfl rfl)
theorem dX1_cut_83 : decode cX1_cut 83 = .ok (.ishr, 1) := dk_122 (dk_at dksX1_cut_3 13 rfl rfl)
theorem dX1_cut_84 : decode cX1_cut 84 = .ok (.iconst 1, 1) := dk_4 (dk_at dksX1_cut_3 14 rfl rfl)
theorem dX1_cut_85 : decode cX1_cut 85 = .ok (.iand, 1) := dk_126 (dk_at dksX1_cut_3 15 rfl rfl)
theorem dX1_cut_86 : decode cX1_cut 86 = .ok (.iconst 1, 1) := dk_4 (dk_at dksX1_cut_3 16 rfl rfl)
theorem dX1_cut_87 : decode cX1_cut 87 = .ok (.if_icmp .ne 7, 3) := dk_160 0 7 (dk_at dksX1_cut_3 17 rfl rfl)
theorem dX1_cut_90 : decode cX1_cut 90 = .ok (.iconst 1, 1) := dk_4 (dk_at dksX1_cut_3 20 rfl rfl)
theorem dX1_cut_91 : decode cX1_cut 91 = .ok (.goto 4, 3) := dk_167 0 4 (dk_at dksX1_cut_3 21 rfl rfl)
theorem dX1_cut_94 : decode cX1_cut 94 = .ok (.iconst 0, 1) := dk_3 (dk_at dksX1_cut_4 0 rfl rfl)
theorem dX1_cut_95 : decode cX1_cut 95 = .ok (.istore 5, 2) := dk_54 5 (dk_at dksX1_cut_4 1 rfl rfl)
theorem dX1_cut_97 : decode cX1_cut 97 = .ok (.iload_n 2, 1) := dk_28 (dk_at dksX1_cut_4 3 rfl rfl)
theorem dX1_cut_98 : decode cX1_cut 98 = .ok (.iload 4, 2) := dk_21 4 (dk_at dksX1_cut_4 4 rfl rfl)
theorem dX1_cut_100 : decode cX1_cut 100 = .ok (.iload 5, 2) := dk_21 5 (dk_at dksX1_cut_4 6 rfl rfl)
theorem dX1_cut_102 : decode cX1_cut 102 = .ok (.if_icmp .ne 7, 3) := dk_160 0 7 (dk_at dksX1_cut_4 8 rfl rfl)
theorem dX1_cut_105 : decode cX1_cut 105 = .ok (.iconst 0, 1) := dk_3 (dk_at dksX1_cut_4 11 rfl rfl)
theorem dX1_cut_106 : decode cX1_cut 106 = .ok (.goto 24, 3) := dk_167 0 24 (dk_at dksX1_cut_4 12 rfl rfl)
theorem dX1_cut_109 : decode cX1_cut 109 = .ok (.iload 4, 2) := dk_21 4 (dk_at dksX1_cut_4 15 rfl rfl)
theorem dX1_cut_111 : decode cX1_cut 111 = .ok (.ifCond .eq 13, 3) := dk_153 0 13 (dk_at dksX1_cut_4 17 rfl rfl)
theorem dX1_cut_114 : decode cX1_cut 114 = .ok (.aload_n 0, 1) := dk_42 (dk_at dksX1_cut_4 20 rfl rfl)
theorem dX1_cut_115 : decode cX1_cut 115 = .ok (.getfield 21, 3) := dk_180 0 21 (dk_at dksX1_cut_4 21 rfl rfl)
theorem dX1_cut_118 : decode cX1_cut 118 = .ok (.iload_n 3, 1) := dk_29 (dk_at dksX1_cut_5 0 rfl rfl)
theorem dX1_cut_119 : decode cX1_cut 119 = .ok (.iaload, 1) := dk_46 (dk_at dksX1_cut_5 1 rfl rfl)
theorem dX1_cut_120 : decode cX1_cut 120 = .ok (.ineg, 1) := dk_116 (dk_at dksX1_cut_5 2 rfl rfl)
theorem dX1_cut_121 : decode cX1_cut 121 = .ok (.goto 9, 3) := dk_167 0 9 (dk_at dksX1_cut_5 3 rfl rfl)
theorem dX1_cut_124 : decode cX1_cut 124 = .ok (.aload_n 0, 1) := dk_42 (dk_at dksX1_cut_5 6 rfl rfl)
theorem dX1_cut_125 : decode cX1_cut 125 = .ok (.getfield 18, 3) := dk_180 0 18 (dk_at dksX1_cut_5 7 rfl rfl)
theorem dX1_cut_128 : decode cX1_cut 128 = .ok (.iload_n 3, 1) := dk_29 (dk_at dksX1_cut_5 10 rfl rfl)
theorem dX1_cut_129 : decode cX1_cut 129 = .ok (.iaload, 1) := dk_46 (dk_at dksX1_cut_5 11 rfl rfl)
theorem dX1_cut_130 : decode cX1_cut 130 = .ok (.iadd, 1) := dk_96 (dk_at dksX1_cut_5 12 rfl rfl)
theorem dX1_cut_131 : decode cX1_cut 131 = .ok (.istore_n 2, 1) := dk_61 (dk_at dksX1_cut_5 13 rfl rfl)
theorem dX1_cut_132 : decode cX1_cut 132 = .ok (.iinc 3 1, 3) := dk_132 3 1 (dk_at dksX1_cut_5 14 rfl rfl)
theorem dX1_cut_135 : decode cX1_cut 135 = .ok (.goto (-88), 3) := dk_167 255 168 (dk_at dksX1_cut_5 17 rfl rfl)
theorem dX1_cut_138 : decode cX1_cut 138 = .ok (.iload_n 2, 1) := dk_28 (dk_at dksX1_cut_5 20 rfl rfl)
theorem dX1_cut_139 : decode cX1_cut 139 = .ok (.ifCond .le 5, 3) := dk_158 0 5 (dk_at dksX1_cut_5 21 rfl rfl)
theorem dX1_cut_142 : decode cX1_cut 142 = .ok (.iload_n 1, 1) := dk_27 (dk_at dksX1_cut_6 0 rfl rfl)
theorem dX1_cut_143 : decode cX1_cut 143 = .ok (.ireturn, 1) := dk_172 (dk_at dksX1_cut_6 1 rfl rfl)
theorem dX1_cut_144 : decode cX1_cut 144 = .ok (.iinc 1 1, 3) := dk_132 1 1 (dk_at dksX1_cut_6 2 rfl rfl)
theorem dX1_cut_147 : decode cX1_cut 147 = .ok (.goto (-145), 3) := dk_167 255 111 (dk_at dksX1_cut_6 5 rfl rfl)
theorem dX1_cut_150 : decode cX1_cut 150 = .ok (.bipush (-5), 2) := dk_16 251 (dk_at dksX1_cut_6 8 rfl rfl)
theorem dX1_cut_152 : decode cX1_cut 152 = .ok (.ireturn, 1) := dk_172 (dk_at dksX1_cut_6 10 rfl rfl)
abbrev cX1_cheapest : ByteArray := prog_6_method_11_code
def yX1_cheapest : MethodName := ⟨RX1, "cheapest", "(II)I"⟩
def dkwX1_cheapest_3 : List UInt8 := [29, 182, 0, 87, 148, 156, 0, 6, 21, 4, 62, 132, 4, 1, 167, 255, 177, 29, 172]
abbrev dktX1_cheapest_3 : List UInt8 := dkwX1_cheapest_3 ++ []
def dkwX1_cheapest_2 : List UInt8 := [167, 0, 4, 3, 54, 5, 21, 5, 153, 0, 27, 29, 16, 251, 159, 0, 18, 42, 21, 4, 182, 0, 87, 42]
abbrev dktX1_cheapest_2 : List UInt8 := dkwX1_cheapest_2 ++ dktX1_cheapest_3
def dkwX1_cheapest_1 : List UInt8 := [160, 0, 26, 42, 21, 4, 182, 0, 81, 28, 160, 0, 16, 42, 21, 4, 182, 0, 84, 158, 0, 7, 4]
abbrev dktX1_cheapest_1 : List UInt8 := dkwX1_cheapest_1 ++ dktX1_cheapest_2
def dkwX1_cheapest_0 : List UInt8 := [16, 251, 62, 3, 54, 4, 21, 4, 5, 42, 180, 0, 69, 104, 162, 0, 74, 42, 21, 4, 182, 0, 77, 27]
abbrev dktX1_cheapest_0 : List UInt8 := dkwX1_cheapest_0 ++ dktX1_cheapest_1
theorem dksX1_cheapest_0 : cX1_cheapest.data.toList.drop 0 = dktX1_cheapest_0 := by decide +kernel
theorem dksX1_cheapest_1 : cX1_cheapest.data.toList.drop 24 = dktX1_cheapest_1 := dk_seg dksX1_cheapest_0 24 rfl rfl
theorem dksX1_cheapest_2 : cX1_cheapest.data.toList.drop 47 = dktX1_cheapest_2 := dk_seg dksX1_cheapest_1 23 rfl rfl
theorem dksX1_cheapest_3 : cX1_cheapest.data.toList.drop 71 = dktX1_cheapest_3 := dk_seg dksX1_cheapest_2 24 rfl rfl
theorem dX1_cheapest_0 : decode cX1_cheapest 0 = .ok (.bipush (-5), 2) := dk_16 251 (dk_at dksX1_cheapest_0 0 rfl rfl)
theorem dX1_cheapest_2 : decode cX1_cheapest 2 = .ok (.istore_n 3, 1) := dk_62 (dk_at dksX1_cheapest_0 2 rfl rfl)
theorem dX1_cheapest_3 : decode cX1_cheapest 3 = .ok (.iconst 0, 1) := dk_3 (dk_at dksX1_cheapest_0 3 rfl rfl)
theorem dX1_cheapest_4 : decode cX1_cheapest 4 = .ok (.istore 4, 2) := dk_54 4 (dk_at dksX1_cheapest_0 4 rfl rfl)
theorem dX1_cheapest_6 : decode cX1_cheapest 6 = .ok (.iload 4, 2) := dk_21 4 (dk_at dksX1_cheapest_0 6 rfl rfl)
theorem dX1_cheapest_8 : decode cX1_cheapest 8 = .ok (.iconst 2, 1) := dk_5 (dk_at dksX1_cheapest_0 8 rfl rfl)
theorem dX1_cheapest_9 : decode cX1_cheapest 9 = .ok (.aload_n 0, 1) := dk_42 (dk_at dksX1_cheapest_0 9 rfl rfl)
theorem dX1_cheapest_10 : decode cX1_cheapest 10 = .ok (.getfield 69, 3) := dk_180 0 69 (dk_at dksX1_cheapest_0 10 rfl rfl)
theorem dX1_cheapest_13 : decode cX1_cheapest 13 = .ok (.imul, 1) := dk_104 (dk_at dksX1_cheapest_0 13 rfl rfl)
theorem dX1_cheapest_14 : decode cX1_cheapest 14 = .ok (.if_icmp .ge 74, 3) := dk_162 0 74 (dk_at dksX1_cheapest_0 14 rfl rfl)
theorem dX1_cheapest_17 : decode cX1_cheapest 17 = .ok (.aload_n 0, 1) := dk_42 (dk_at dksX1_cheapest_0 17 rfl rfl)
theorem dX1_cheapest_18 : decode cX1_cheapest 18 = .ok (.iload 4, 2) := dk_21 4 (dk_at dksX1_cheapest_0 18 rfl rfl)
theorem dX1_cheapest_20 : decode cX1_cheapest 20 = .ok (.invokevirtual 77, 3) := dk_182 0 77 (dk_at dksX1_cheapest_0 20 rfl rfl)
theorem dX1_cheapest_23 : decode cX1_cheapest 23 = .ok (.iload_n 1, 1) := dk_27 (dk_at dksX1_cheapest_0 23 rfl rfl)
theorem dX1_cheapest_24 : decode cX1_cheapest 24 = .ok (.if_icmp .ne 26, 3) := dk_160 0 26 (dk_at dksX1_cheapest_1 0 rfl rfl)
theorem dX1_cheapest_27 : decode cX1_cheapest 27 = .ok (.aload_n 0, 1) := dk_42 (dk_at dksX1_cheapest_1 3 rfl rfl)
theorem dX1_cheapest_28 : decode cX1_cheapest 28 = .ok (.iload 4, 2) := dk_21 4 (dk_at dksX1_cheapest_1 4 rfl rfl)
theorem dX1_cheapest_30 : decode cX1_cheapest 30 = .ok (.invokevirtual 81, 3) := dk_182 0 81 (dk_at dksX1_cheapest_1 6 rfl rfl)
theorem dX1_cheapest_33 : decode cX1_cheapest 33 = .ok (.iload_n 2, 1) := dk_28 (dk_at dksX1_cheapest_1 9 rfl rfl)
theorem dX1_cheapest_34 : decode cX1_cheapest 34 = .ok (.if_icmp .ne 16, 3) := dk_160 0 16 (dk_at dksX1_cheapest_1 10 rfl rfl)
theorem dX1_cheapest_37 : decode cX1_cheapest 37 = .ok (.aload_n 0, 1) := dk_42 (dk_at dksX1_cheapest_1 13 rfl rfl)
theorem dX1_cheapest_38 : decode cX1_cheapest 38 = .ok (.iload 4, 2) := dk_21 4 (dk_at dksX1_cheapest_1 14 rfl rfl)
theorem dX1_cheapest_40 : decode cX1_cheapest 40 = .ok (.invokevirtual 84, 3) := dk_182 0 84 (dk_at dksX1_cheapest_1 16 rfl rfl)
theorem dX1_cheapest_43 : decode cX1_cheapest 43 = .ok (.ifCond .le 7, 3) := dk_158 0 7 (dk_at dksX1_cheapest_1 19 rfl rfl)
theorem dX1_cheapest_46 : decode cX1_cheapest 46 = .ok (.iconst 1, 1) := dk_4 (dk_at dksX1_cheapest_1 22 rfl rfl)
theorem dX1_cheapest_47 : decode cX1_cheapest 47 = .ok (.goto 4, 3) := dk_167 0 4 (dk_at dksX1_cheapest_2 0 rfl rfl)
theorem dX1_cheapest_50 : decode cX1_cheapest 50 = .ok (.iconst 0, 1) := dk_3 (dk_at dksX1_cheapest_2 3 rfl rfl)
theorem dX1_cheapest_51 : decode cX1_cheapest 51 = .ok (.istore 5, 2) := dk_54 5 (dk_at dksX1_cheapest_2 4 rfl rfl)
theorem dX1_cheapest_53 : decode cX1_cheapest 53 = .ok (.iload 5, 2) := dk_21 5 (dk_at dksX1_cheapest_2 6 rfl rfl)
theorem dX1_cheapest_55 : decode cX1_cheapest 55 = .ok (.ifCond .eq 27, 3) := dk_153 0 27 (dk_at dksX1_cheapest_2 8 rfl rfl)
theorem dX1_cheapest_58 : decode cX1_cheapest 58 = .ok (.iload_n 3, 1) := dk_29 (dk_at dksX1_cheapest_2 11 rfl rfl)
theorem dX1_cheapest_59 : decode cX1_cheapest 59 = .ok (.bipush (-5), 2) := dk_16 251 (dk_at dksX1_cheapest_2 12 rfl rfl)
theorem dX1_cheapest_61 : decode cX1_cheapest 61 = .ok (.if_icmp .eq 18, 3) := dk_159 0 18 (dk_at dksX1_cheapest_2 14 rfl rfl)
theorem dX1_cheapest_64 : decode cX1_cheapest 64 = .ok (.aload_n 0, 1) := dk_42 (dk_at dksX1_cheapest_2 17 rfl rfl)
theorem dX1_cheapest_65 : decode cX1_cheapest 65 = .ok (.iload 4, 2) := dk_21 4 (dk_at dksX1_cheapest_2 18 rfl rfl)
theorem dX1_cheapest_67 : decode cX1_cheapest 67 = .ok (.invokevirtual 87, 3) := dk_182 0 87 (dk_at dksX1_cheapest_2 20 rfl rfl)
theorem dX1_cheapest_70 : decode cX1_cheapest 70 = .ok (.aload_n 0, 1) := dk_42 (dk_at dksX1_cheapest_2 23 rfl rfl)
theorem dX1_cheapest_71 : decode cX1_cheapest 71 = .ok (.iload_n 3, 1) := dk_29 (dk_at dksX1_cheapest_3 0 rfl rfl)
theorem dX1_cheapest_72 : decode cX1_cheapest 72 = .ok (.invokevirtual 87, 3) := dk_182 0 87 (dk_at dksX1_cheapest_3 1 rfl rfl)
theorem dX1_cheapest_75 : decode cX1_cheapest 75 = .ok (.lcmp, 1) := dk_148 (dk_at dksX1_cheapest_3 4 rfl rfl)
theorem dX1_cheapest_76 : decode cX1_cheapest 76 = .ok (.ifCond .ge 6, 3) := dk_156 0 6 (dk_at dksX1_cheapest_3 5 rfl rfl)
theorem dX1_cheapest_79 : decode cX1_cheapest 79 = .ok (.iload 4, 2) := dk_21 4 (dk_at dksX1_cheapest_3 8 rfl rfl)
theorem dX1_cheapest_81 : decode cX1_cheapest 81 = .ok (.istore_n 3, 1) := dk_62 (dk_at dksX1_cheapest_3 10 rfl rfl)
theorem dX1_cheapest_82 : decode cX1_cheapest 82 = .ok (.iinc 4 1, 3) := dk_132 4 1 (dk_at dksX1_cheapest_3 11 rfl rfl)
theorem dX1_cheapest_85 : decode cX1_cheapest 85 = .ok (.goto (-79), 3) := dk_167 255 177 (dk_at dksX1_cheapest_3 14 rfl rfl)
theorem dX1_cheapest_88 : decode cX1_cheapest 88 = .ok (.iload_n 3, 1) := dk_29 (dk_at dksX1_cheapest_3 17 rfl rfl)
theorem dX1_cheapest_89 : decode cX1_cheapest 89 = .ok (.ireturn, 1) := dk_172 (dk_at dksX1_cheapest_3 18 rfl rfl)
abbrev cX1_removes : ByteArray := prog_6_method_4_code
def yX1_removes : MethodName := ⟨RX1, "removes", "(I)V"⟩
def dkwX1_removes_4 : List UInt8 := [177]
abbrev dktX1_removes_4 : List UInt8 := dkwX1_removes_4 ++ []
def dkwX1_removes_3 : List UInt8 := [4, 96, 46, 79, 42, 180, 0, 24, 28, 42, 180, 0, 24, 28, 4, 96, 47, 80, 132, 2, 1, 167, 255, 175]
abbrev dktX1_removes_3 : List UInt8 := dkwX1_removes_3 ++ dktX1_removes_4
def dkwX1_removes_2 : List UInt8 := [42, 180, 0, 18, 28, 42, 180, 0, 18, 28, 4, 96, 46, 79, 42, 180, 0, 21, 28, 42, 180, 0, 21, 28]
abbrev dktX1_removes_2 : List UInt8 := dkwX1_removes_2 ++ dktX1_removes_3
def dkwX1_removes_1 : List UInt8 := [28, 42, 180, 0, 9, 28, 4, 96, 46, 79, 42, 180, 0, 15, 28, 42, 180, 0, 15, 28, 4, 96, 46, 79]
abbrev dktX1_removes_1 : List UInt8 := dkwX1_removes_1 ++ dktX1_removes_2
def dkwX1_removes_0 : List UInt8 := [42, 89, 180, 0, 69, 4, 100, 181, 0, 69, 27, 61, 28, 42, 180, 0, 69, 162, 0, 79, 42, 180, 0, 9]
abbrev dktX1_removes_0 : List UInt8 := dkwX1_removes_0 ++ dktX1_removes_1
theorem dksX1_removes_0 : cX1_removes.data.toList.drop 0 = dktX1_removes_0 := by decide +kernel
theorem dksX1_removes_1 : cX1_removes.data.toList.drop 24 = dktX1_removes_1 := dk_seg dksX1_removes_0 24 rfl rfl
theorem dksX1_removes_2 : cX1_removes.data.toList.drop 48 = dktX1_removes_2 := dk_seg dksX1_removes_1 24 rfl rfl
theorem dksX1_removes_3 : cX1_removes.data.toList.drop 72 = dktX1_removes_3 := dk_seg dksX1_removes_2 24 rfl rfl
theorem dksX1_removes_4 : cX1_removes.data.toList.drop 96 = dktX1_removes_4 := dk_seg dksX1_removes_3 24 rfl rfl
theorem dX1_removes_0 : decode cX1_removes 0 = .ok (.aload_n 0, 1) := dk_42 (dk_at dksX1_removes_0 0 rfl rfl)
theorem dX1_removes_1 : decode cX1_removes 1 = .ok (.dup, 1) := dk_89 (dk_at dksX1_removes_0 1 rfl rfl)
theorem dX1_removes_2 : decode cX1_removes 2 = .ok (.getfield 69, 3) := dk_180 0 69 (dk_at dksX1_removes_0 2 rfl rfl)
theorem dX1_removes_5 : decode cX1_removes 5 = .ok (.iconst 1, 1) := dk_4 (dk_at dksX1_removes_0 5 rfl rfl)
theorem dX1_removes_6 : decode cX1_removes 6 = .ok (.isub, 1) := dk_100 (dk_at dksX1_removes_0 6 rfl rfl)
theorem dX1_removes_7 : decode cX1_removes 7 = .ok (.putfield 69, 3) := dk_181 0 69 (dk_at dksX1_removes_0 7 rfl rfl)
theorem dX1_removes_10 : decode cX1_removes 10 = .ok (.iload_n 1, 1) := dk_27 (dk_at dksX1_removes_0 10 rfl rfl)
theorem dX1_removes_11 : decode cX1_removes 11 = .ok (.istore_n 2, 1) := dk_61 (dk_at dksX1_removes_0 11 rfl rfl)
theorem dX1_removes_12 : decode cX1_removes 12 = .ok (.iload_n 2, 1) := dk_28 (dk_at dksX1_removes_0 12 rfl rfl)
theorem dX1_removes_13 : decode cX1_removes 13 = .ok (.aload_n 0, 1) := dk_42 (dk_at dksX1_removes_0 13 rfl rfl)
theorem dX1_removes_14 : decode cX1_removes 14 = .ok (.getfield 69, 3) := dk_180 0 69 (dk_at dksX1_removes_0 14 rfl rfl)
theorem dX1_removes_17 : decode cX1_removes 17 = .ok (.if_icmp .ge 79, 3) := dk_162 0 79 (dk_at dksX1_removes_0 17 rfl rfl)
theorem dX1_removes_20 : decode cX1_removes 20 = .ok (.aload_n 0, 1) := dk_42 (dk_at dksX1_removes_0 20 rfl rfl)
theorem dX1_removes_21 : decode cX1_removes 21 = .ok (.getfield 9, 3) := dk_180 0 9 (dk_at dksX1_removes_0 21 rfl rfl)
theorem dX1_removes_24 : decode cX1_removes 24 = .ok (.iload_n 2, 1) := dk_28 (dk_at dksX1_removes_1 0 rfl rfl)
theorem dX1_removes_25 : decode cX1_removes 25 = .ok (.aload_n 0, 1) := dk_42 (dk_at dksX1_removes_1 1 rfl rfl)
theorem dX1_removes_26 : decode cX1_removes 26 = .ok (.getfield 9, 3) := dk_180 0 9 (dk_at dksX1_removes_1 2 rfl rfl)
theorem dX1_removes_29 : decode cX1_removes 29 = .ok (.iload_n 2, 1) := dk_28 (dk_at dksX1_removes_1 5 rfl rfl)
theorem dX1_removes_30 : decode cX1_removes 30 = .ok (.iconst 1, 1) := dk_4 (dk_at dksX1_removes_1 6 rfl rfl)
theorem dX1_removes_31 : decode cX1_removes 31 = .ok (.iadd, 1) := dk_96 (dk_at dksX1_removes_1 7 rfl rfl)
theorem dX1_removes_32 : decode cX1_removes 32 = .ok (.iaload, 1) := dk_46 (dk_at dksX1_removes_1 8 rfl rfl)
theorem dX1_removes_33 : decode cX1_removes 33 = .ok (.iastore, 1) := dk_79 (dk_at dksX1_removes_1 9 rfl rfl)
theorem dX1_removes_34 : decode cX1_removes 34 = .ok (.aload_n 0, 1) := dk_42 (dk_at dksX1_removes_1 10 rfl rfl)
theorem dX1_removes_35 : decode cX1_removes 35 = .ok (.getfield 15, 3) := dk_180 0 15 (dk_at dksX1_removes_1 11 rfl rfl)
theorem dX1_removes_38 : decode cX1_removes 38 = .ok (.iload_n 2, 1) := dk_28 (dk_at dksX1_removes_1 14 rfl rfl)
theorem dX1_removes_39 : decode cX1_removes 39 = .ok (.aload_n 0, 1) := dk_42 (dk_at dksX1_removes_1 15 rfl rfl)
theorem dX1_removes_40 : decode cX1_removes 40 = .ok (.getfield 15, 3) := dk_180 0 15 (dk_at dksX1_removes_1 16 rfl rfl)
theorem dX1_removes_43 : decode cX1_removes 43 = .ok (.iload_n 2, 1) := dk_28 (dk_at dksX1_removes_1 19 rfl rfl)
theorem dX1_removes_44 : decode cX1_removes 44 = .ok (.iconst 1, 1) := dk_4 (dk_at dksX1_removes_1 20 rfl rfl)
theorem dX1_removes_45 : decode cX1_removes 45 = .ok (.iadd, 1) := dk_96 (dk_at dksX1_removes_1 21 rfl rfl)
theorem dX1_removes_46 : decode cX1_removes 46 = .ok (.iaload, 1) := dk_46 (dk_at dksX1_removes_1 22 rfl rfl)
theorem dX1_removes_47 : decode cX1_removes 47 = .ok (.iastore, 1) := dk_79 (dk_at dksX1_removes_1 23 rfl rfl)
theorem dX1_removes_48 : decode cX1_removes 48 = .ok (.aload_n 0, 1) := dk_42 (dk_at dksX1_removes_2 0 rfl rfl)
theorem dX1_removes_49 : decode cX1_removes 49 = .ok (.getfield 18, 3) := dk_180 0 18 (dk_at dksX1_removes_2 1 rfl rfl)
theorem dX1_removes_52 : decode cX1_removes 52 = .ok (.iload_n 2, 1) := dk_28 (dk_at dksX1_removes_2 4 rfl rfl)
theorem dX1_removes_53 : decode cX1_removes 53 = .ok (.aload_n 0, 1) := dk_42 (dk_at dksX1_removes_2 5 rfl rfl)
theorem dX1_removes_54 : decode cX1_removes 54 = .ok (.getfield 18, 3) := dk_180 0 18 (dk_at dksX1_removes_2 6 rfl rfl)
theorem dX1_removes_57 : decode cX1_removes 57 = .ok (.iload_n 2, 1) := dk_28 (dk_at dksX1_removes_2 9 rfl rfl)
theorem dX1_removes_58 : decode cX1_removes 58 = .ok (.iconst 1, 1) := dk_4 (dk_at dksX1_removes_2 10 rfl rfl)
theorem dX1_removes_59 : decode cX1_removes 59 = .ok (.iadd, 1) := dk_96 (dk_at dksX1_removes_2 11 rfl rfl)
theorem dX1_removes_60 : decode cX1_removes 60 = .ok (.iaload, 1) := dk_46 (dk_at dksX1_removes_2 12 rfl rfl)
theorem dX1_removes_61 : decode cX1_removes 61 = .ok (.iastore, 1) := dk_79 (dk_at dksX1_removes_2 13 rfl rfl)
theorem dX1_removes_62 : decode cX1_removes 62 = .ok (.aload_n 0, 1) := dk_42 (dk_at dksX1_removes_2 14 rfl rfl)
theorem dX1_removes_63 : decode cX1_removes 63 = .ok (.getfield 21, 3) := dk_180 0 21 (dk_at dksX1_removes_2 15 rfl rfl)
theorem dX1_removes_66 : decode cX1_removes 66 = .ok (.iload_n 2, 1) := dk_28 (dk_at dksX1_removes_2 18 rfl rfl)
theorem dX1_removes_67 : decode cX1_removes 67 = .ok (.aload_n 0, 1) := dk_42 (dk_at dksX1_removes_2 19 rfl rfl)
theorem dX1_removes_68 : decode cX1_removes 68 = .ok (.getfield 21, 3) := dk_180 0 21 (dk_at dksX1_removes_2 20 rfl rfl)
theorem dX1_removes_71 : decode cX1_removes 71 = .ok (.iload_n 2, 1) := dk_28 (dk_at dksX1_removes_2 23 rfl rfl)
theorem dX1_removes_72 : decode cX1_removes 72 = .ok (.iconst 1, 1) := dk_4 (dk_at dksX1_removes_3 0 rfl rfl)
theorem dX1_removes_73 : decode cX1_removes 73 = .ok (.iadd, 1) := dk_96 (dk_at dksX1_removes_3 1 rfl rfl)
theorem dX1_removes_74 : decode cX1_removes 74 = .ok (.iaload, 1) := dk_46 (dk_at dksX1_removes_3 2 rfl rfl)
theorem dX1_removes_75 : decode cX1_removes 75 = .ok (.iastore, 1) := dk_79 (dk_at dksX1_removes_3 3 rfl rfl)
theorem dX1_removes_76 : decode cX1_removes 76 = .ok (.aload_n 0, 1) := dk_42 (dk_at dksX1_removes_3 4 rfl rfl)
theorem dX1_removes_77 : decode cX1_removes 77 = .ok (.getfield 24, 3) := dk_180 0 24 (dk_at dksX1_removes_3 5 rfl rfl)
theorem dX1_removes_80 : decode cX1_removes 80 = .ok (.iload_n 2, 1) := dk_28 (dk_at dksX1_removes_3 8 rfl rfl)
theorem dX1_removes_81 : decode cX1_removes 81 = .ok (.aload_n 0, 1) := dk_42 (dk_at dksX1_removes_3 9 rfl rfl)
theorem dX1_removes_82 : decode cX1_removes 82 = .ok (.getfield 24, 3) := dk_180 0 24 (dk_at dksX1_removes_3 10 rfl rfl)
theorem dX1_removes_85 : decode cX1_removes 85 = .ok (.iload_n 2, 1) := dk_28 (dk_at dksX1_removes_3 13 rfl rfl)
theorem dX1_removes_86 : decode cX1_removes 86 = .ok (.iconst 1, 1) := dk_4 (dk_at dksX1_removes_3 14 rfl rfl)
theorem dX1_removes_87 : decode cX1_removes 87 = .ok (.iadd, 1) := dk_96 (dk_at dksX1_removes_3 15 rfl rfl)
theorem dX1_removes_88 : decode cX1_removes 88 = .ok (.laload, 1) := dk_47 (dk_at dksX1_removes_3 16 rfl rfl)
theorem dX1_removes_89 : decode cX1_removes 89 = .ok (.lastore, 1) := dk_80 (dk_at dksX1_removes_3 17 rfl rfl)
theorem dX1_removes_90 : decode cX1_removes 90 = .ok (.iinc 2 1, 3) := dk_132 2 1 (dk_at dksX1_removes_3 18 rfl rfl)
theorem dX1_removes_93 : decode cX1_removes 93 = .ok (.goto (-81), 3) := dk_167 255 175 (dk_at dksX1_removes_3 21 rfl rfl)
theorem dX1_removes_96 : decode cX1_removes 96 = .ok (.return_, 1) := dk_177 (dk_at dksX1_removes_4 0 rfl rfl)
abbrev cX1_sendsMore : ByteArray := prog_6_method_20_code
def yX1_sendsMore : MethodName := ⟨RX1, "sendsMore", "(III)I"⟩
def dkwX1_sendsMore_2 : List UInt8 := [172]
abbrev dktX1_sendsMore_2 : List UInt8 := dkwX1_sendsMore_2 ++ []
def dkwX1_sendsMore_1 : List UInt8 := [42, 42, 180, 0, 37, 28, 47, 42, 180, 0, 37, 27, 47, 101, 181, 0, 178, 42, 27, 28, 29, 182, 0, 174]
abbrev dktX1_sendsMore_1 : List UInt8 := dkwX1_sendsMore_1 ++ dktX1_sendsMore_2
def dkwX1_sendsMore_0 : List UInt8 := [42, 27, 182, 0, 165, 42, 180, 0, 45, 28, 50, 180, 0, 93, 154, 0, 5, 3, 172, 42, 28, 182, 0, 172]
abbrev dktX1_sendsMore_0 : List UInt8 := dkwX1_sendsMore_0 ++ dktX1_sendsMore_1
theorem dksX1_sendsMore_0 : cX1_sendsMore.data.toList.drop 0 = dktX1_sendsMore_0 := by decide +kernel
theorem dksX1_sendsMore_1 : cX1_sendsMore.data.toList.drop 24 = dktX1_sendsMore_1 := dk_seg dksX1_sendsMore_0 24 rfl rfl
theorem dksX1_sendsMore_2 : cX1_sendsMore.data.toList.drop 48 = dktX1_sendsMore_2 := dk_seg dksX1_sendsMore_1 24 rfl rfl
theorem dX1_sendsMore_0 : decode cX1_sendsMore 0 = .ok (.aload_n 0, 1) := dk_42 (dk_at dksX1_sendsMore_0 0 rfl rfl)
theorem dX1_sendsMore_1 : decode cX1_sendsMore 1 = .ok (.iload_n 1, 1) := dk_27 (dk_at dksX1_sendsMore_0 1 rfl rfl)
theorem dX1_sendsMore_2 : decode cX1_sendsMore 2 = .ok (.invokevirtual 165, 3) := dk_182 0 165 (dk_at dksX1_sendsMore_0 2 rfl rfl)
theorem dX1_sendsMore_5 : decode cX1_sendsMore 5 = .ok (.aload_n 0, 1) := dk_42 (dk_at dksX1_sendsMore_0 5 rfl rfl)
theorem dX1_sendsMore_6 : decode cX1_sendsMore 6 = .ok (.getfield 45, 3) := dk_180 0 45 (dk_at dksX1_sendsMore_0 6 rfl rfl)
theorem dX1_sendsMore_9 : decode cX1_sendsMore 9 = .ok (.iload_n 2, 1) := dk_28 (dk_at dksX1_sendsMore_0 9 rfl rfl)
theorem dX1_sendsMore_10 : decode cX1_sendsMore 10 = .ok (.aaload, 1) := dk_50 (dk_at dksX1_sendsMore_0 10 rfl rfl)
theorem dX1_sendsMore_11 : decode cX1_sendsMore 11 = .ok (.getfield 93, 3) := dk_180 0 93 (dk_at dksX1_sendsMore_0 11 rfl rfl)
theorem dX1_sendsMore_14 : decode cX1_sendsMore 14 = .ok (.ifCond .ne 5, 3) := dk_154 0 5 (dk_at dksX1_sendsMore_0 14 rfl rfl)
theorem dX1_sendsMore_17 : decode cX1_sendsMore 17 = .ok (.iconst 0, 1) := dk_3 (dk_at dksX1_sendsMore_0 17 rfl rfl)
theorem dX1_sendsMore_18 : decode cX1_sendsMore 18 = .ok (.ireturn, 1) := dk_172 (dk_at dksX1_sendsMore_0 18 rfl rfl)
theorem dX1_sendsMore_19 : decode cX1_sendsMore 19 = .ok (.aload_n 0, 1) := dk_42 (dk_at dksX1_sendsMore_0 19 rfl rfl)
theorem dX1_sendsMore_20 : decode cX1_sendsMore 20 = .ok (.iload_n 2, 1) := dk_28 (dk_at dksX1_sendsMore_0 20 rfl rfl)
theorem dX1_sendsMore_21 : decode cX1_sendsMore 21 = .ok (.invokevirtual 172, 3) := dk_182 0 172 (dk_at dksX1_sendsMore_0 21 rfl rfl)
theorem dX1_sendsMore_24 : decode cX1_sendsMore 24 = .ok (.aload_n 0, 1) := dk_42 (dk_at dksX1_sendsMore_1 0 rfl rfl)
theorem dX1_sendsMore_25 : decode cX1_sendsMore 25 = .ok (.aload_n 0, 1) := dk_42 (dk_at dksX1_sendsMore_1 1 rfl rfl)
theorem dX1_sendsMore_26 : decode cX1_sendsMore 26 = .ok (.getfield 37, 3) := dk_180 0 37 (dk_at dksX1_sendsMore_1 2 rfl rfl)
theorem dX1_sendsMore_29 : decode cX1_sendsMore 29 = .ok (.iload_n 2, 1) := dk_28 (dk_at dksX1_sendsMore_1 5 rfl rfl)
theorem dX1_sendsMore_30 : decode cX1_sendsMore 30 = .ok (.laload, 1) := dk_47 (dk_at dksX1_sendsMore_1 6 rfl rfl)
theorem dX1_sendsMore_31 : decode cX1_sendsMore 31 = .ok (.aload_n 0, 1) := dk_42 (dk_at dksX1_sendsMore_1 7 rfl rfl)
theorem dX1_sendsMore_32 : decode cX1_sendsMore 32 = .ok (.getfield 37, 3) := dk_180 0 37 (dk_at dksX1_sendsMore_1 8 rfl rfl)
theorem dX1_sendsMore_35 : decode cX1_sendsMore 35 = .ok (.iload_n 1, 1) := dk_27 (dk_at dksX1_sendsMore_1 11 rfl rfl)
theorem dX1_sendsMore_36 : decode cX1_sendsMore 36 = .ok (.laload, 1) := dk_47 (dk_at dksX1_sendsMore_1 12 rfl rfl)
theorem dX1_sendsMore_37 : decode cX1_sendsMore 37 = .ok (.lsub, 1) := dk_101 (dk_at dksX1_sendsMore_1 13 rfl rfl)
theorem dX1_sendsMore_38 : decode cX1_sendsMore 38 = .ok (.putfield 178, 3) := dk_181 0 178 (dk_at dksX1_sendsMore_1 14 rfl rfl)
theorem dX1_sendsMore_41 : decode cX1_sendsMore 41 = .ok (.aload_n 0, 1) := dk_42 (dk_at dksX1_sendsMore_1 17 rfl rfl)
theorem dX1_sendsMore_42 : decode cX1_sendsMore 42 = .ok (.iload_n 1, 1) := dk_27 (dk_at dksX1_sendsMore_1 18 rfl rfl)
theorem dX1_sendsMore_43 : decode cX1_sendsMore 43 = .ok (.iload_n 2, 1) := dk_28 (dk_at dksX1_sendsMore_1 19 rfl rfl)
theorem dX1_sendsMore_44 : decode cX1_sendsMore 44 = .ok (.iload_n 3, 1) := dk_29 (dk_at dksX1_sendsMore_1 20 rfl rfl)
theorem dX1_sendsMore_45 : decode cX1_sendsMore 45 = .ok (.invokevirtual 174, 3) := dk_182 0 174 (dk_at dksX1_sendsMore_1 21 rfl rfl)
theorem dX1_sendsMore_48 : decode cX1_sendsMore 48 = .ok (.ireturn, 1) := dk_172 (dk_at dksX1_sendsMore_2 0 rfl rfl)
theorem q132 : (Jvm.Cond.initialized "FreightRoads$Net") ∈ lw_all := lw_g (lw_at lw_m1 6 rfl) rfl
theorem q241 : (Jvm.Cond.instantiable "FreightRoads$Net" (18 : Nat)) ∈ lw_all := lw_g (lw_at lw_m1 115 rfl) rfl
theorem q243 : (Jvm.Cond.instanceMethod ({ cls := "FreightRoads$Net", name := "<init>", desc := "()V" } : Jvm.MethodName)) ∈ lw_all := lw_g (lw_at lw_m1 117 rfl) rfl
theorem q244 : (Jvm.Cond.code ({ cls := "FreightRoads$Net", name := "<init>", desc := "()V" } : Jvm.MethodName) prog_6_method_1_code (2 : Nat) (Option.none : Option Jvm.ClassFile.FieldType)) ∈ lw_all := lw_g (lw_at lw_m1 118 rfl) rfl
theorem q245 : (Jvm.Cond.methodLink "FreightRoads$Net" (3 : Nat) ({ cls := "java/lang/Object", name := "<init>", desc := "()V" } : Jvm.MethodName)) ∈ lw_all := lw_g (lw_at lw_m1 119 rfl) rfl
theorem q246 : (Jvm.Cond.classLink "FreightRoads$Net" (43 : Nat) "FreightRoads$Place") ∈ lw_all := lw_g (lw_at lw_m1 120 rfl) rfl
theorem q248 : (Jvm.Cond.classLink "FreightRoads$Net" (49 : Nat) "java/util/PriorityQueue") ∈ lw_all := lw_g (lw_at lw_m1 122 rfl) rfl
theorem q250 : (Jvm.Cond.methodLink "FreightRoads$Net" (51 : Nat) ({ cls := "java/util/PriorityQueue", name := "<init>", desc := "(I)V" } : Jvm.MethodName)) ∈ lw_all := lw_g (lw_at lw_m1 124 rfl) rfl
theorem q279 : (Jvm.Cond.classLink "FreightRoads$Net" (61 : Nat) "java/util/BitSet") ∈ lw_all := lw_g (lw_at lw_m1 153 rfl) rfl
theorem q281 : (Jvm.Cond.methodLink "FreightRoads$Net" (63 : Nat) ({ cls := "java/util/BitSet", name := "<init>", desc := "(I)V" } : Jvm.MethodName)) ∈ lw_all := lw_g (lw_at lw_m1 155 rfl) rfl
theorem q636 : (Jvm.Cond.methodLink "FreightRoads$Net" (68 : Nat) ({ cls := "FreightRoads$Place", name := "<init>", desc := "(I)V" } : Jvm.MethodName)) ∈ lw_all := lw_g (lw_at lw_m3 30 rfl) rfl
theorem q641 : (Jvm.Cond.fieldLinkNest "FreightRoads$Net" (112 : Nat) "FreightRoads$Place" "town" "I" "FreightRoads") ∈ lw_tbl := lw_at lw_m3 35 rfl
theorem q643 : (Jvm.Cond.fieldLinkNest "FreightRoads$Net" (118 : Nat) "FreightRoads$Place" "cost" "J" "FreightRoads") ∈ lw_tbl := lw_at lw_m3 37 rfl
theorem q645 : (Jvm.Cond.fieldLinkNest "FreightRoads$Net" (121 : Nat) "FreightRoads$Place" "weight" "J" "FreightRoads") ∈ lw_tbl := lw_at lw_m3 39 rfl
theorem q646 : (Jvm.Cond.fieldLinkNest "FreightRoads$Net" (93 : Nat) "FreightRoads$Place" "isReached" "Z" "FreightRoads") ∈ lw_tbl := lw_at lw_m3 40 rfl
theorem q647 : (Jvm.Cond.fieldLinkNest "FreightRoads$Net" (97 : Nat) "FreightRoads$Place" "isDone" "Z" "FreightRoads") ∈ lw_tbl := lw_at lw_m3 41 rfl
theorem q648 : (Jvm.Cond.fieldLinkNest "FreightRoads$Net" (132 : Nat) "FreightRoads$Place" "by" "I" "FreightRoads") ∈ lw_tbl := lw_at lw_m3 42 rfl
theorem q662 : (Jvm.Cond.fieldLink "FreightRoads$Net" (9 : Nat) "FreightRoads$Net" "from" "[I") ∈ lw_all := lw_g (lw_at lw_m3 56 rfl) rfl
theorem q664 : (Jvm.Cond.fieldLink "FreightRoads$Net" (15 : Nat) "FreightRoads$Net" "to" "[I") ∈ lw_all := lw_g (lw_at lw_m3 58 rfl) rfl
theorem q666 : (Jvm.Cond.fieldLink "FreightRoads$Net" (18 : Nat) "FreightRoads$Net" "low" "[I") ∈ lw_all := lw_g (lw_at lw_m3 60 rfl) rfl
theorem q668 : (Jvm.Cond.fieldLink "FreightRoads$Net" (21 : Nat) "FreightRoads$Net" "most" "[I") ∈ lw_all := lw_g (lw_at lw_m3 62 rfl) rfl
theorem q670 : (Jvm.Cond.fieldLink "FreightRoads$Net" (24 : Nat) "FreightRoads$Net" "cost" "[J") ∈ lw_all := lw_g (lw_at lw_m3 64 rfl) rfl
theorem q672 : (Jvm.Cond.fieldLink "FreightRoads$Net" (28 : Nat) "FreightRoads$Net" "amount" "[I") ∈ lw_all := lw_g (lw_at lw_m3 66 rfl) rfl
theorem q674 : (Jvm.Cond.fieldLink "FreightRoads$Net" (31 : Nat) "FreightRoads$Net" "supply" "[I") ∈ lw_all := lw_g (lw_at lw_m3 68 rfl) rfl
theorem q676 : (Jvm.Cond.fieldLink "FreightRoads$Net" (34 : Nat) "FreightRoads$Net" "left" "[I") ∈ lw_all := lw_g (lw_at lw_m3 70 rfl) rfl
theorem q678 : (Jvm.Cond.fieldLink "FreightRoads$Net" (37 : Nat) "FreightRoads$Net" "costPrices" "[J") ∈ lw_all := lw_g (lw_at lw_m3 72 rfl) rfl
theorem q679 : (Jvm.Cond.fieldLink "FreightRoads$Net" (40 : Nat) "FreightRoads$Net" "weightPrices" "[J") ∈ lw_all := lw_g (lw_at lw_m3 73 rfl) rfl
theorem q680 : (Jvm.Cond.fieldLink "FreightRoads$Net" (45 : Nat) "FreightRoads$Net" "places" "[LFreightRoads$Place;") ∈ lw_all := lw_g (lw_at lw_m3 74 rfl) rfl
theorem q681 : (Jvm.Cond.fieldLink "FreightRoads$Net" (54 : Nat) "FreightRoads$Net" "queue" "Ljava/util/PriorityQueue;") ∈ lw_all := lw_g (lw_at lw_m3 75 rfl) rfl
theorem q683 : (Jvm.Cond.fieldLink "FreightRoads$Net" (138 : Nat) "FreightRoads$Net" "towns" "I") ∈ lw_all := lw_g (lw_at lw_m3 77 rfl) rfl
theorem q684 : (Jvm.Cond.fieldLink "FreightRoads$Net" (69 : Nat) "FreightRoads$Net" "roads" "I") ∈ lw_all := lw_g (lw_at lw_m3 78 rfl) rfl
theorem q687 : (Jvm.Cond.fieldLink "FreightRoads$Net" (158 : Nat) "FreightRoads$Net" "isFlow" "Z") ∈ lw_all := lw_g (lw_at lw_m3 81 rfl) rfl
theorem q688 : (Jvm.Cond.fieldLink "FreightRoads$Net" (178 : Nat) "FreightRoads$Net" "each" "J") ∈ lw_all := lw_g (lw_at lw_m3 82 rfl) rfl
theorem q690 : (Jvm.Cond.fieldLink "FreightRoads$Net" (58 : Nat) "FreightRoads$Net" "prices" "[J") ∈ lw_all := lw_g (lw_at lw_m3 84 rfl) rfl
theorem q693 : (Jvm.Cond.fieldLink "FreightRoads$Net" (64 : Nat) "FreightRoads$Net" "priced" "Ljava/util/BitSet;") ∈ lw_all := lw_g (lw_at lw_m3 87 rfl) rfl
theorem q696 : (Jvm.Cond.laysFinal "FreightRoads$Net" "FreightRoads$Net" "from" "[I") ∈ lw_all := lw_g (lw_at lw_m3 90 rfl) rfl
theorem q697 : (Jvm.Cond.soleField "FreightRoads$Net" "from") ∈ lw_all := lw_g (lw_at lw_m3 91 rfl) rfl
theorem q698 : (Jvm.Cond.laysFinal "FreightRoads$Net" "FreightRoads$Net" "to" "[I") ∈ lw_all := lw_g (lw_at lw_m3 92 rfl) rfl
theorem q699 : (Jvm.Cond.soleField "FreightRoads$Net" "to") ∈ lw_all := lw_g (lw_at lw_m3 93 rfl) rfl
theorem q700 : (Jvm.Cond.laysFinal "FreightRoads$Net" "FreightRoads$Net" "low" "[I") ∈ lw_all := lw_g (lw_at lw_m3 94 rfl) rfl
theorem q701 : (Jvm.Cond.soleField "FreightRoads$Net" "low") ∈ lw_all := lw_g (lw_at lw_m3 95 rfl) rfl
theorem q702 : (Jvm.Cond.laysFinal "FreightRoads$Net" "FreightRoads$Net" "most" "[I") ∈ lw_all := lw_g (lw_at lw_m3 96 rfl) rfl
theorem q703 : (Jvm.Cond.soleField "FreightRoads$Net" "most") ∈ lw_all := lw_g (lw_at lw_m3 97 rfl) rfl
theorem q704 : (Jvm.Cond.laysFinal "FreightRoads$Net" "FreightRoads$Net" "cost" "[J") ∈ lw_all := lw_g (lw_at lw_m3 98 rfl) rfl
theorem q705 : (Jvm.Cond.soleField "FreightRoads$Net" "cost") ∈ lw_all := lw_g (lw_at lw_m3 99 rfl) rfl
theorem q706 : (Jvm.Cond.laysFinal "FreightRoads$Net" "FreightRoads$Net" "amount" "[I") ∈ lw_all := lw_g (lw_at lw_m3 100 rfl) rfl
theorem q707 : (Jvm.Cond.soleField "FreightRoads$Net" "amount") ∈ lw_all := lw_g (lw_at lw_m3 101 rfl) rfl
theorem q708 : (Jvm.Cond.laysFinal "FreightRoads$Net" "FreightRoads$Net" "supply" "[I") ∈ lw_all := lw_g (lw_at lw_m3 102 rfl) rfl
theorem q709 : (Jvm.Cond.soleField "FreightRoads$Net" "supply") ∈ lw_all := lw_g (lw_at lw_m3 103 rfl) rfl
theorem q710 : (Jvm.Cond.laysFinal "FreightRoads$Net" "FreightRoads$Net" "left" "[I") ∈ lw_all := lw_g (lw_at lw_m3 104 rfl) rfl
theorem q711 : (Jvm.Cond.soleField "FreightRoads$Net" "left") ∈ lw_all := lw_g (lw_at lw_m3 105 rfl) rfl
theorem q712 : (Jvm.Cond.laysFinal "FreightRoads$Net" "FreightRoads$Net" "costPrices" "[J") ∈ lw_all := lw_g (lw_at lw_m3 106 rfl) rfl
theorem q713 : (Jvm.Cond.soleField "FreightRoads$Net" "costPrices") ∈ lw_all := lw_g (lw_at lw_m3 107 rfl) rfl
theorem q714 : (Jvm.Cond.laysFinal "FreightRoads$Net" "FreightRoads$Net" "weightPrices" "[J") ∈ lw_all := lw_g (lw_at lw_m3 108 rfl) rfl
theorem q715 : (Jvm.Cond.soleField "FreightRoads$Net" "weightPrices") ∈ lw_all := lw_g (lw_at lw_m3 109 rfl) rfl
theorem q716 : (Jvm.Cond.laysFinal "FreightRoads$Net" "FreightRoads$Net" "places" "[LFreightRoads$Place;") ∈ lw_all := lw_g (lw_at lw_m3 110 rfl) rfl
theorem q717 : (Jvm.Cond.soleField "FreightRoads$Net" "places") ∈ lw_all := lw_g (lw_at lw_m3 111 rfl) rfl
theorem q718 : (Jvm.Cond.laysFinal "FreightRoads$Net" "FreightRoads$Net" "queue" "Ljava/util/PriorityQueue;") ∈ lw_all := lw_g (lw_at lw_m3 112 rfl) rfl
theorem q719 : (Jvm.Cond.soleField "FreightRoads$Net" "queue") ∈ lw_all := lw_g (lw_at lw_m3 113 rfl) rfl
theorem q720 : (Jvm.Cond.lays "FreightRoads$Net" "FreightRoads$Net" "towns" "I") ∈ lw_all := lw_g (lw_at lw_m3 114 rfl) rfl
theorem q721 : (Jvm.Cond.soleField "FreightRoads$Net" "towns") ∈ lw_all := lw_g (lw_at lw_m3 115 rfl) rfl
theorem q722 : (Jvm.Cond.lays "FreightRoads$Net" "FreightRoads$Net" "roads" "I") ∈ lw_all := lw_g (lw_at lw_m3 116 rfl) rfl
theorem q723 : (Jvm.Cond.soleField "FreightRoads$Net" "roads") ∈ lw_all := lw_g (lw_at lw_m3 117 rfl) rfl
theorem q724 : (Jvm.Cond.lays "FreightRoads$Net" "FreightRoads$Net" "isFlow" "Z") ∈ lw_all := lw_g (lw_at lw_m3 118 rfl) rfl
theorem q725 : (Jvm.Cond.soleField "FreightRoads$Net" "isFlow") ∈ lw_all := lw_g (lw_at lw_m3 119 rfl) rfl
theorem q726 : (Jvm.Cond.lays "FreightRoads$Net" "FreightRoads$Net" "each" "J") ∈ lw_all := lw_g (lw_at lw_m3 120 rfl) rfl
theorem q727 : (Jvm.Cond.soleField "FreightRoads$Net" "each") ∈ lw_all := lw_g (lw_at lw_m3 121 rfl) rfl
theorem q728 : (Jvm.Cond.laysFinal "FreightRoads$Net" "FreightRoads$Net" "prices" "[J") ∈ lw_all := lw_g (lw_at lw_m3 122 rfl) rfl
theorem q729 : (Jvm.Cond.soleField "FreightRoads$Net" "prices") ∈ lw_all := lw_g (lw_at lw_m3 123 rfl) rfl
theorem q730 : (Jvm.Cond.laysFinal "FreightRoads$Net" "FreightRoads$Net" "priced" "Ljava/util/BitSet;") ∈ lw_all := lw_g (lw_at lw_m3 124 rfl) rfl
theorem q731 : (Jvm.Cond.soleField "FreightRoads$Net" "priced") ∈ lw_all := lw_g (lw_at lw_m3 125 rfl) rfl
theorem q732 : (Jvm.Cond.superclass "FreightRoads$Net" "java/lang/Object") ∈ lw_all := lw_g (lw_at lw_m3 126 rfl) rfl
theorem q985 : (Jvm.Cond.selects "FreightRoads$Net" ({ cls := "java/lang/Object", name := "getClass", desc := "()Ljava/lang/Class;" } : Jvm.MethodName) ({ cls := "java/lang/Object", name := "getClass", desc := "()Ljava/lang/Class;" } : Jvm.MethodName)) ∈ lw_all := lw_g (lw_at lw_m4 139 rfl) rfl
theorem q2080 : (Jvm.Cond.instanceMethod ({ cls := "FreightRoads$Net", name := "adds", desc := "(IIIIJ)V" } : Jvm.MethodName)) ∈ lw_all := lw_g (lw_at lw_m9 34 rfl) rfl
theorem q2081 : (Jvm.Cond.selects "FreightRoads$Net" ({ cls := "FreightRoads$Net", name := "adds", desc := "(IIIIJ)V" } : Jvm.MethodName) ({ cls := "FreightRoads$Net", name := "adds", desc := "(IIIIJ)V" } : Jvm.MethodName)) ∈ lw_all := lw_g (lw_at lw_m9 35 rfl) rfl
theorem q2082 : (Jvm.Cond.code ({ cls := "FreightRoads$Net", name := "adds", desc := "(IIIIJ)V" } : Jvm.MethodName) prog_6_method_3_code (7 : Nat) (Option.none : Option Jvm.ClassFile.FieldType)) ∈ lw_all := lw_g (lw_at lw_m9 36 rfl) rfl
theorem q2084 : (Jvm.Cond.instanceMethod ({ cls := "FreightRoads$Net", name := "solve", desc := "()Z" } : Jvm.MethodName)) ∈ lw_all := lw_g (lw_at lw_m9 38 rfl) rfl
theorem q2085 : (Jvm.Cond.selects "FreightRoads$Net" ({ cls := "FreightRoads$Net", name := "solve", desc := "()Z" } : Jvm.MethodName) ({ cls := "FreightRoads$Net", name := "solve", desc := "()Z" } : Jvm.MethodName)) ∈ lw_all := lw_g (lw_at lw_m9 39 rfl) rfl
theorem q2086 : (Jvm.Cond.code ({ cls := "FreightRoads$Net", name := "solve", desc := "()Z" } : Jvm.MethodName) prog_6_method_17_code (2 : Nat) (Option.some Jvm.ClassFile.FieldType.boolean)) ∈ lw_all := lw_g (lw_at lw_m9 40 rfl) rfl
theorem q2087 : (Jvm.Cond.methodLink "FreightRoads$Net" (155 : Nat) ({ cls := "FreightRoads$Net", name := "isBalanced", desc := "()Z" } : Jvm.MethodName)) ∈ lw_all := lw_g (lw_at lw_m9 41 rfl) rfl
theorem q2088 : (Jvm.Cond.privateMethod ({ cls := "FreightRoads$Net", name := "isBalanced", desc := "()Z" } : Jvm.MethodName)) ∈ lw_tbl := lw_at lw_m9 42 rfl
theorem q2089 : (Jvm.Cond.instanceMethod ({ cls := "FreightRoads$Net", name := "isBalanced", desc := "()Z" } : Jvm.MethodName)) ∈ lw_all := lw_g (lw_at lw_m9 43 rfl) rfl
theorem q2090 : (Jvm.Cond.code ({ cls := "FreightRoads$Net", name := "isBalanced", desc := "()Z" } : Jvm.MethodName) prog_6_method_18_code (3 : Nat) (Option.some Jvm.ClassFile.FieldType.boolean)) ∈ lw_all := lw_g (lw_at lw_m9 44 rfl) rfl
theorem q2091 : (Jvm.Cond.methodLink "FreightRoads$Net" (161 : Nat) ({ cls := "FreightRoads$Net", name := "isSent", desc := "(I)Z" } : Jvm.MethodName)) ∈ lw_all := lw_g (lw_at lw_m9 45 rfl) rfl
theorem q2092 : (Jvm.Cond.privateMethod ({ cls := "FreightRoads$Net", name := "isSent", desc := "(I)Z" } : Jvm.MethodName)) ∈ lw_tbl := lw_at lw_m9 46 rfl
theorem q2093 : (Jvm.Cond.instanceMethod ({ cls := "FreightRoads$Net", name := "isSent", desc := "(I)Z" } : Jvm.MethodName)) ∈ lw_all := lw_g (lw_at lw_m9 47 rfl) rfl
theorem q2094 : (Jvm.Cond.code ({ cls := "FreightRoads$Net", name := "isSent", desc := "(I)Z" } : Jvm.MethodName) prog_6_method_19_code (4 : Nat) (Option.some Jvm.ClassFile.FieldType.boolean)) ∈ lw_all := lw_g (lw_at lw_m9 48 rfl) rfl
theorem q2095 : (Jvm.Cond.methodLink "FreightRoads$Net" (165 : Nat) ({ cls := "FreightRoads$Net", name := "reaches", desc := "(I)V" } : Jvm.MethodName)) ∈ lw_all := lw_g (lw_at lw_m9 49 rfl) rfl
theorem q2096 : (Jvm.Cond.privateMethod ({ cls := "FreightRoads$Net", name := "reaches", desc := "(I)V" } : Jvm.MethodName)) ∈ lw_tbl := lw_at lw_m9 50 rfl
theorem q2097 : (Jvm.Cond.instanceMethod ({ cls := "FreightRoads$Net", name := "reaches", desc := "(I)V" } : Jvm.MethodName)) ∈ lw_all := lw_g (lw_at lw_m9 51 rfl) rfl
theorem q2098 : (Jvm.Cond.code ({ cls := "FreightRoads$Net", name := "reaches", desc := "(I)V" } : Jvm.MethodName) prog_6_method_12_code (9 : Nat) (Option.none : Option Jvm.ClassFile.FieldType)) ∈ lw_all := lw_g (lw_at lw_m9 52 rfl) rfl
theorem q2099 : (Jvm.Cond.methodLink "FreightRoads$Net" (90 : Nat) ({ cls := "java/util/PriorityQueue", name := "clear", desc := "()V" } : Jvm.MethodName)) ∈ lw_all := lw_g (lw_at lw_m9 53 rfl) rfl
theorem q2103 : (Jvm.Cond.methodLink "FreightRoads$Net" (100 : Nat) ({ cls := "FreightRoads$Net", name := "near", desc := "(IJJI)V" } : Jvm.MethodName)) ∈ lw_all := lw_g (lw_at lw_m9 57 rfl) rfl
theorem q2104 : (Jvm.Cond.privateMethod ({ cls := "FreightRoads$Net", name := "near", desc := "(IJJI)V" } : Jvm.MethodName)) ∈ lw_tbl := lw_at lw_m9 58 rfl
theorem q2105 : (Jvm.Cond.instanceMethod ({ cls := "FreightRoads$Net", name := "near", desc := "(IJJI)V" } : Jvm.MethodName)) ∈ lw_all := lw_g (lw_at lw_m9 59 rfl) rfl
theorem q2106 : (Jvm.Cond.code ({ cls := "FreightRoads$Net", name := "near", desc := "(IJJI)V" } : Jvm.MethodName) prog_6_method_13_code (8 : Nat) (Option.none : Option Jvm.ClassFile.FieldType)) ∈ lw_all := lw_g (lw_at lw_m9 60 rfl) rfl
theorem q2107 : (Jvm.Cond.methodLink "FreightRoads$Net" (124 : Nat) ({ cls := "FreightRoads$Place", name := "isNearer", desc := "(JJ)Z" } : Jvm.MethodName)) ∈ lw_all := lw_g (lw_at lw_m9 61 rfl) rfl
theorem q2111 : (Jvm.Cond.methodLink "FreightRoads$Net" (128 : Nat) ({ cls := "java/util/PriorityQueue", name := "remove", desc := "(Ljava/lang/Object;)Z" } : Jvm.MethodName)) ∈ lw_all := lw_g (lw_at lw_m9 65 rfl) rfl
theorem q2127 : (Jvm.Cond.selects "FreightRoads$Net" ({ cls := "java/lang/Object", name := "equals", desc := "(Ljava/lang/Object;)Z" } : Jvm.MethodName) ({ cls := "java/lang/Object", name := "equals", desc := "(Ljava/lang/Object;)Z" } : Jvm.MethodName)) ∈ lw_all := lw_g (lw_at lw_m9 81 rfl) rfl
theorem q2153 : (Jvm.Cond.methodLink "FreightRoads$Net" (135 : Nat) ({ cls := "java/util/PriorityQueue", name := "add", desc := "(Ljava/lang/Object;)Z" } : Jvm.MethodName)) ∈ lw_all := lw_g (lw_at lw_m9 107 rfl) rfl
theorem q2169 : (Jvm.Cond.methodLink "FreightRoads$Net" (104 : Nat) ({ cls := "java/util/PriorityQueue", name := "isEmpty", desc := "()Z" } : Jvm.MethodName)) ∈ lw_all := lw_g (lw_at lw_m9 123 rfl) rfl
theorem q2199 : (Jvm.Cond.methodLink "FreightRoads$Net" (108 : Nat) ({ cls := "java/util/PriorityQueue", name := "poll", desc := "()Ljava/lang/Object;" } : Jvm.MethodName)) ∈ lw_all := lw_g (lw_at lw_m9 153 rfl) rfl
theorem q2203 : (Jvm.Cond.methodLink "FreightRoads$Net" (77 : Nat) ({ cls := "FreightRoads$Net", name := "stepFrom", desc := "(I)I" } : Jvm.MethodName)) ∈ lw_all := lw_g (lw_at lw_m9 157 rfl) rfl
theorem q2204 : (Jvm.Cond.instanceMethod ({ cls := "FreightRoads$Net", name := "stepFrom", desc := "(I)I" } : Jvm.MethodName)) ∈ lw_all := lw_g (lw_at lw_m9 158 rfl) rfl
theorem q2205 : (Jvm.Cond.selects "FreightRoads$Net" ({ cls := "FreightRoads$Net", name := "stepFrom", desc := "(I)I" } : Jvm.MethodName) ({ cls := "FreightRoads$Net", name := "stepFrom", desc := "(I)I" } : Jvm.MethodName)) ∈ lw_all := lw_g (lw_at lw_m9 159 rfl) rfl
theorem q2206 : (Jvm.Cond.code ({ cls := "FreightRoads$Net", name := "stepFrom", desc := "(I)I" } : Jvm.MethodName) prog_6_method_5_code (2 : Nat) (Option.some Jvm.ClassFile.FieldType.int)) ∈ lw_all := lw_g (lw_at lw_m9 160 rfl) rfl
theorem q2207 : (Jvm.Cond.methodLink "FreightRoads$Net" (84 : Nat) ({ cls := "FreightRoads$Net", name := "room", desc := "(I)I" } : Jvm.MethodName)) ∈ lw_all := lw_g (lw_at lw_m9 161 rfl) rfl
theorem q2208 : (Jvm.Cond.instanceMethod ({ cls := "FreightRoads$Net", name := "room", desc := "(I)I" } : Jvm.MethodName)) ∈ lw_all := lw_g (lw_at lw_m9 162 rfl) rfl
theorem q2209 : (Jvm.Cond.selects "FreightRoads$Net" ({ cls := "FreightRoads$Net", name := "room", desc := "(I)I" } : Jvm.MethodName) ({ cls := "FreightRoads$Net", name := "room", desc := "(I)I" } : Jvm.MethodName)) ∈ lw_all := lw_g (lw_at lw_m9 163 rfl) rfl
theorem q2210 : (Jvm.Cond.code ({ cls := "FreightRoads$Net", name := "room", desc := "(I)I" } : Jvm.MethodName) prog_6_method_9_code (3 : Nat) (Option.some Jvm.ClassFile.FieldType.int)) ∈ lw_all := lw_g (lw_at lw_m9 164 rfl) rfl
theorem q2211 : (Jvm.Cond.methodLink "FreightRoads$Net" (81 : Nat) ({ cls := "FreightRoads$Net", name := "stepTo", desc := "(I)I" } : Jvm.MethodName)) ∈ lw_all := lw_g (lw_at lw_m9 165 rfl) rfl
theorem q2212 : (Jvm.Cond.instanceMethod ({ cls := "FreightRoads$Net", name := "stepTo", desc := "(I)I" } : Jvm.MethodName)) ∈ lw_all := lw_g (lw_at lw_m9 166 rfl) rfl
theorem q2213 : (Jvm.Cond.selects "FreightRoads$Net" ({ cls := "FreightRoads$Net", name := "stepTo", desc := "(I)I" } : Jvm.MethodName) ({ cls := "FreightRoads$Net", name := "stepTo", desc := "(I)I" } : Jvm.MethodName)) ∈ lw_all := lw_g (lw_at lw_m9 167 rfl) rfl
theorem q2214 : (Jvm.Cond.code ({ cls := "FreightRoads$Net", name := "stepTo", desc := "(I)I" } : Jvm.MethodName) prog_6_method_6_code (2 : Nat) (Option.some Jvm.ClassFile.FieldType.int)) ∈ lw_all := lw_g (lw_at lw_m9 168 rfl) rfl
theorem q2215 : (Jvm.Cond.methodLink "FreightRoads$Net" (87 : Nat) ({ cls := "FreightRoads$Net", name := "stepCost", desc := "(I)J" } : Jvm.MethodName)) ∈ lw_all := lw_g (lw_at lw_m9 169 rfl) rfl
theorem q2216 : (Jvm.Cond.instanceMethod ({ cls := "FreightRoads$Net", name := "stepCost", desc := "(I)J" } : Jvm.MethodName)) ∈ lw_all := lw_g (lw_at lw_m9 170 rfl) rfl
theorem q2217 : (Jvm.Cond.selects "FreightRoads$Net" ({ cls := "FreightRoads$Net", name := "stepCost", desc := "(I)J" } : Jvm.MethodName) ({ cls := "FreightRoads$Net", name := "stepCost", desc := "(I)J" } : Jvm.MethodName)) ∈ lw_all := lw_g (lw_at lw_m9 171 rfl) rfl
theorem q2218 : (Jvm.Cond.code ({ cls := "FreightRoads$Net", name := "stepCost", desc := "(I)J" } : Jvm.MethodName) prog_6_method_7_code (2 : Nat) (Option.some Jvm.ClassFile.FieldType.long)) ∈ lw_all := lw_g (lw_at lw_m9 172 rfl) rfl
theorem q2219 : (Jvm.Cond.methodLink "FreightRoads$Net" (115 : Nat) ({ cls := "FreightRoads$Net", name := "stepWeight", desc := "(I)J" } : Jvm.MethodName)) ∈ lw_all := lw_g (lw_at lw_m9 173 rfl) rfl
theorem q2220 : (Jvm.Cond.privateMethod ({ cls := "FreightRoads$Net", name := "stepWeight", desc := "(I)J" } : Jvm.MethodName)) ∈ lw_tbl := lw_at lw_m9 174 rfl
theorem q2221 : (Jvm.Cond.instanceMethod ({ cls := "FreightRoads$Net", name := "stepWeight", desc := "(I)J" } : Jvm.MethodName)) ∈ lw_all := lw_g (lw_at lw_m9 175 rfl) rfl
theorem q2222 : (Jvm.Cond.code ({ cls := "FreightRoads$Net", name := "stepWeight", desc := "(I)J" } : Jvm.MethodName) prog_6_method_8_code (2 : Nat) (Option.some Jvm.ClassFile.FieldType.long)) ∈ lw_all := lw_g (lw_at lw_m9 176 rfl) rfl
theorem q2223 : (Jvm.Cond.methodLink "FreightRoads$Net" (73 : Nat) ({ cls := "FreightRoads$Net", name := "weightOf", desc := "(I)J" } : Jvm.MethodName)) ∈ lw_all := lw_g (lw_at lw_m9 177 rfl) rfl
theorem q2224 : (Jvm.Cond.static ({ cls := "FreightRoads$Net", name := "weightOf", desc := "(I)J" } : Jvm.MethodName)) ∈ lw_all := lw_g (lw_at lw_m9 178 rfl) rfl
theorem q2225 : (Jvm.Cond.code ({ cls := "FreightRoads$Net", name := "weightOf", desc := "(I)J" } : Jvm.MethodName) prog_6_method_2_code (1 : Nat) (Option.some Jvm.ClassFile.FieldType.long)) ∈ lw_all := lw_g (lw_at lw_m9 179 rfl) rfl
theorem q2226 : (Jvm.Cond.methodLink "FreightRoads$Net" (168 : Nat) ({ cls := "FreightRoads$Net", name := "nearestWanting", desc := "()I" } : Jvm.MethodName)) ∈ lw_all := lw_g (lw_at lw_m9 180 rfl) rfl
theorem q2227 : (Jvm.Cond.privateMethod ({ cls := "FreightRoads$Net", name := "nearestWanting", desc := "()I" } : Jvm.MethodName)) ∈ lw_tbl := lw_at lw_m9 181 rfl
theorem q2228 : (Jvm.Cond.instanceMethod ({ cls := "FreightRoads$Net", name := "nearestWanting", desc := "()I" } : Jvm.MethodName)) ∈ lw_all := lw_g (lw_at lw_m9 182 rfl) rfl
theorem q2229 : (Jvm.Cond.code ({ cls := "FreightRoads$Net", name := "nearestWanting", desc := "()I" } : Jvm.MethodName) prog_6_method_14_code (4 : Nat) (Option.some Jvm.ClassFile.FieldType.int)) ∈ lw_all := lw_g (lw_at lw_m9 183 rfl) rfl
theorem q2230 : (Jvm.Cond.methodLink "FreightRoads$Net" (141 : Nat) ({ cls := "FreightRoads$Place", name := "compareTo", desc := "(LFreightRoads$Place;)I" } : Jvm.MethodName)) ∈ lw_all := lw_g (lw_at lw_m9 184 rfl) rfl
theorem q2231 : (Jvm.Cond.methodLink "FreightRoads$Net" (172 : Nat) ({ cls := "FreightRoads$Net", name := "prices", desc := "(I)V" } : Jvm.MethodName)) ∈ lw_all := lw_g (lw_at lw_m9 185 rfl) rfl
theorem q2232 : (Jvm.Cond.privateMethod ({ cls := "FreightRoads$Net", name := "prices", desc := "(I)V" } : Jvm.MethodName)) ∈ lw_tbl := lw_at lw_m9 186 rfl
theorem q2233 : (Jvm.Cond.instanceMethod ({ cls := "FreightRoads$Net", name := "prices", desc := "(I)V" } : Jvm.MethodName)) ∈ lw_all := lw_g (lw_at lw_m9 187 rfl) rfl
theorem q2234 : (Jvm.Cond.code ({ cls := "FreightRoads$Net", name := "prices", desc := "(I)V" } : Jvm.MethodName) prog_6_method_15_code (9 : Nat) (Option.none : Option Jvm.ClassFile.FieldType)) ∈ lw_all := lw_g (lw_at lw_m9 188 rfl) rfl
theorem q2235 : (Jvm.Cond.methodLink "FreightRoads$Net" (145 : Nat) ({ cls := "java/lang/Math", name := "min", desc := "(II)I" } : Jvm.MethodName)) ∈ lw_all := lw_g (lw_at lw_m9 189 rfl) rfl
theorem q2236 : (Jvm.Cond.methodLink "FreightRoads$Net" (174 : Nat) ({ cls := "FreightRoads$Net", name := "sends", desc := "(III)I" } : Jvm.MethodName)) ∈ lw_all := lw_g (lw_at lw_m9 190 rfl) rfl
theorem q2237 : (Jvm.Cond.privateMethod ({ cls := "FreightRoads$Net", name := "sends", desc := "(III)I" } : Jvm.MethodName)) ∈ lw_tbl := lw_at lw_m9 191 rfl
theorem q2238 : (Jvm.Cond.instanceMethod ({ cls := "FreightRoads$Net", name := "sends", desc := "(III)I" } : Jvm.MethodName)) ∈ lw_all := lw_g (lw_at lw_m9 192 rfl) rfl
theorem q2239 : (Jvm.Cond.code ({ cls := "FreightRoads$Net", name := "sends", desc := "(III)I" } : Jvm.MethodName) prog_6_method_16_code (6 : Nat) (Option.some Jvm.ClassFile.FieldType.int)) ∈ lw_all := lw_g (lw_at lw_m9 193 rfl) rfl
theorem q2240 : (Jvm.Cond.methodLink "FreightRoads$Net" (151 : Nat) ({ cls := "FreightRoads$Net", name := "goes", desc := "(II)V" } : Jvm.MethodName)) ∈ lw_all := lw_g (lw_at lw_m9 194 rfl) rfl
theorem q2241 : (Jvm.Cond.instanceMethod ({ cls := "FreightRoads$Net", name := "goes", desc := "(II)V" } : Jvm.MethodName)) ∈ lw_all := lw_g (lw_at lw_m9 195 rfl) rfl
theorem q2242 : (Jvm.Cond.selects "FreightRoads$Net" ({ cls := "FreightRoads$Net", name := "goes", desc := "(II)V" } : Jvm.MethodName) ({ cls := "FreightRoads$Net", name := "goes", desc := "(II)V" } : Jvm.MethodName)) ∈ lw_all := lw_g (lw_at lw_m9 196 rfl) rfl
theorem q2243 : (Jvm.Cond.code ({ cls := "FreightRoads$Net", name := "goes", desc := "(II)V" } : Jvm.MethodName) prog_6_method_10_code (3 : Nat) (Option.none : Option Jvm.ClassFile.FieldType)) ∈ lw_all := lw_g (lw_at lw_m9 197 rfl) rfl
theorem q2245 : (Jvm.Cond.instanceMethod ({ cls := "FreightRoads$Net", name := "total", desc := "()J" } : Jvm.MethodName)) ∈ lw_all := lw_g (lw_at lw_m9 199 rfl) rfl
theorem q2246 : (Jvm.Cond.selects "FreightRoads$Net" ({ cls := "FreightRoads$Net", name := "total", desc := "()J" } : Jvm.MethodName) ({ cls := "FreightRoads$Net", name := "total", desc := "()J" } : Jvm.MethodName)) ∈ lw_all := lw_g (lw_at lw_m9 200 rfl) rfl
theorem q2247 : (Jvm.Cond.code ({ cls := "FreightRoads$Net", name := "total", desc := "()J" } : Jvm.MethodName) prog_6_method_21_code (4 : Nat) (Option.some Jvm.ClassFile.FieldType.long)) ∈ lw_all := lw_g (lw_at lw_m9 201 rfl) rfl
theorem q2248 : (Jvm.Cond.methodLink "FreightRoads$Net" (181 : Nat) ({ cls := "java/lang/Math", name := "multiplyExact", desc := "(JJ)J" } : Jvm.MethodName)) ∈ lw_all := lw_g (lw_at lw_m9 202 rfl) rfl
theorem q2259 : (Jvm.Cond.methodLink "FreightRoads$Net" (185 : Nat) ({ cls := "java/lang/Math", name := "addExact", desc := "(JJ)J" } : Jvm.MethodName)) ∈ lw_all := lw_g (lw_at lw_m9 213 rfl) rfl
theorem q2279 : (Jvm.Cond.instanceMethod ({ cls := "FreightRoads$Net", name := "pricesAll", desc := "()V" } : Jvm.MethodName)) ∈ lw_all := lw_g (lw_at lw_m9 233 rfl) rfl
theorem q2280 : (Jvm.Cond.selects "FreightRoads$Net" ({ cls := "FreightRoads$Net", name := "pricesAll", desc := "()V" } : Jvm.MethodName) ({ cls := "FreightRoads$Net", name := "pricesAll", desc := "()V" } : Jvm.MethodName)) ∈ lw_all := lw_g (lw_at lw_m9 234 rfl) rfl
theorem q2281 : (Jvm.Cond.code ({ cls := "FreightRoads$Net", name := "pricesAll", desc := "()V" } : Jvm.MethodName) prog_6_method_22_code (3 : Nat) (Option.none : Option Jvm.ClassFile.FieldType)) ∈ lw_all := lw_g (lw_at lw_m9 235 rfl) rfl
theorem q2282 : (Jvm.Cond.methodLink "FreightRoads$Net" (188 : Nat) ({ cls := "java/util/BitSet", name := "clear", desc := "()V" } : Jvm.MethodName)) ∈ lw_all := lw_g (lw_at lw_m9 236 rfl) rfl
theorem q2286 : (Jvm.Cond.methodLink "FreightRoads$Net" (189 : Nat) ({ cls := "java/util/BitSet", name := "set", desc := "(I)V" } : Jvm.MethodName)) ∈ lw_all := lw_g (lw_at lw_m10 0 rfl) rfl
theorem q2307 : (Jvm.Cond.methodLink "FreightRoads$Net" (192 : Nat) ({ cls := "java/util/BitSet", name := "get", desc := "(I)Z" } : Jvm.MethodName)) ∈ lw_all := lw_g (lw_at lw_m10 21 rfl) rfl
theorem q2308 : (Jvm.Cond.methodLink "FreightRoads$Net" (195 : Nat) ({ cls := "FreightRoads$Net", name := "isBettered", desc := "(IJ)Z" } : Jvm.MethodName)) ∈ lw_all := lw_g (lw_at lw_m10 22 rfl) rfl
theorem q2309 : (Jvm.Cond.privateMethod ({ cls := "FreightRoads$Net", name := "isBettered", desc := "(IJ)Z" } : Jvm.MethodName)) ∈ lw_tbl := lw_at lw_m10 23 rfl
theorem q2310 : (Jvm.Cond.instanceMethod ({ cls := "FreightRoads$Net", name := "isBettered", desc := "(IJ)Z" } : Jvm.MethodName)) ∈ lw_all := lw_g (lw_at lw_m10 24 rfl) rfl
theorem q2311 : (Jvm.Cond.code ({ cls := "FreightRoads$Net", name := "isBettered", desc := "(IJ)Z" } : Jvm.MethodName) prog_6_method_23_code (4 : Nat) (Option.some Jvm.ClassFile.FieldType.boolean)) ∈ lw_all := lw_g (lw_at lw_m10 25 rfl) rfl
theorem q2545 : (Jvm.Cond.instanceMethod ({ cls := "FreightRoads$Net", name := "cut", desc := "()I" } : Jvm.MethodName)) ∈ lw_all := lw_g (lw_at lw_m11 19 rfl) rfl
theorem q2546 : (Jvm.Cond.selects "FreightRoads$Net" ({ cls := "FreightRoads$Net", name := "cut", desc := "()I" } : Jvm.MethodName) ({ cls := "FreightRoads$Net", name := "cut", desc := "()I" } : Jvm.MethodName)) ∈ lw_all := lw_g (lw_at lw_m11 20 rfl) rfl
theorem q2547 : (Jvm.Cond.code ({ cls := "FreightRoads$Net", name := "cut", desc := "()I" } : Jvm.MethodName) prog_6_method_24_code (6 : Nat) (Option.some Jvm.ClassFile.FieldType.int)) ∈ lw_all := lw_g (lw_at lw_m11 21 rfl) rfl
theorem q2553 : (Jvm.Cond.instanceMethod ({ cls := "FreightRoads$Net", name := "cheapest", desc := "(II)I" } : Jvm.MethodName)) ∈ lw_all := lw_g (lw_at lw_m11 27 rfl) rfl
theorem q2554 : (Jvm.Cond.selects "FreightRoads$Net" ({ cls := "FreightRoads$Net", name := "cheapest", desc := "(II)I" } : Jvm.MethodName) ({ cls := "FreightRoads$Net", name := "cheapest", desc := "(II)I" } : Jvm.MethodName)) ∈ lw_all := lw_g (lw_at lw_m11 28 rfl) rfl
theorem q2555 : (Jvm.Cond.code ({ cls := "FreightRoads$Net", name := "cheapest", desc := "(II)I" } : Jvm.MethodName) prog_6_method_11_code (6 : Nat) (Option.some Jvm.ClassFile.FieldType.int)) ∈ lw_all := lw_g (lw_at lw_m11 29 rfl) rfl
theorem q2586 : (Jvm.Cond.instanceMethod ({ cls := "FreightRoads$Net", name := "removes", desc := "(I)V" } : Jvm.MethodName)) ∈ lw_all := lw_g (lw_at lw_m11 60 rfl) rfl
theorem q2587 : (Jvm.Cond.selects "FreightRoads$Net" ({ cls := "FreightRoads$Net", name := "removes", desc := "(I)V" } : Jvm.MethodName) ({ cls := "FreightRoads$Net", name := "removes", desc := "(I)V" } : Jvm.MethodName)) ∈ lw_all := lw_g (lw_at lw_m11 61 rfl) rfl
theorem q2588 : (Jvm.Cond.code ({ cls := "FreightRoads$Net", name := "removes", desc := "(I)V" } : Jvm.MethodName) prog_6_method_4_code (3 : Nat) (Option.none : Option Jvm.ClassFile.FieldType)) ∈ lw_all := lw_g (lw_at lw_m11 62 rfl) rfl
theorem q2619 : (Jvm.Cond.instanceMethod ({ cls := "FreightRoads$Net", name := "sendsMore", desc := "(III)I" } : Jvm.MethodName)) ∈ lw_all := lw_g (lw_at lw_m11 93 rfl) rfl
theorem q2620 : (Jvm.Cond.selects "FreightRoads$Net" ({ cls := "FreightRoads$Net", name := "sendsMore", desc := "(III)I" } : Jvm.MethodName) ({ cls := "FreightRoads$Net", name := "sendsMore", desc := "(III)I" } : Jvm.MethodName)) ∈ lw_all := lw_g (lw_at lw_m11 94 rfl) rfl
theorem q2621 : (Jvm.Cond.code ({ cls := "FreightRoads$Net", name := "sendsMore", desc := "(III)I" } : Jvm.MethodName) prog_6_method_20_code (4 : Nat) (Option.some Jvm.ClassFile.FieldType.int)) ∈ lw_all := lw_g (lw_at lw_m11 95 rfl) rfl
theorem q3606 : (Jvm.Cond.castable "FreightRoads$Net" "java/lang/Object") ∈ lw_tbl := lw_at lw_m15 120 rfl
set_option maxRecDepth 100000
abbrev cX2_init : ByteArray := prog_8_method_1_code
def yX2_init : MethodName := ⟨RX2, "<init>", "(I)V"⟩
def dkwX2_init_0 : List UInt8 := [42, 183, 0, 1, 42, 27, 181, 0, 7, 177]
abbrev dktX2_init_0 : List UInt8 := dkwX2_init_0 ++ []
theorem dksX2_init_0 : cX2_init.data.toList.drop 0 = dktX2_init_0 := by decide +kernel
theorem dX2_init_0 : decode cX2_init 0 = .ok (.aload_n 0, 1) := dk_42 (dk_at dksX2_init_0 0 rfl rfl)
theorem dX2_init_1 : decode cX2_init 1 = .ok (.invokespecial 1, 3) := dk_183 0 1 (dk_at dksX2_init_0 1 rfl rfl)
theorem dX2_init_4 : decode cX2_init 4 = .ok (.aload_n 0, 1) := dk_42 (dk_at dksX2_init_0 4 rfl rfl)
theorem dX2_init_5 : decode cX2_init 5 = .ok (.iload_n 1, 1) := dk_27 (dk_at dksX2_init_0 5 rfl rfl)
theorem dX2_init_6 : decode cX2_init 6 = .ok (.putfield 7, 3) := dk_181 0 7 (dk_at dksX2_init_0 6 rfl rfl)
theorem dX2_init_9 : decode cX2_init 9 = .ok (.return_, 1) := dk_177 (dk_at dksX2_init_0 9 rfl rfl)
abbrev cX2_compareTo : ByteArray := prog_8_method_4_code
def yX2_compareTo : MethodName := ⟨RX2, "compareTo", "(Ljava/lang/Object;)I"⟩
def dkwX2_compareTo_0 : List UInt8 := [42, 43, 192, 0, 8, 182, 0, 20, 172]
abbrev dktX2_compareTo_0 : List UInt8 := dkwX2_compareTo_0 ++ []
theorem dksX2_compareTo_0 : cX2_compareTo.data.toList.drop 0 = dktX2_compareTo_0 := by decide +kernel
theorem dX2_compareTo_0 : decode cX2_compareTo 0 = .ok (.aload_n 0, 1) := dk_42 (dk_at dksX2_compareTo_0 0 rfl rfl)
theorem dX2_compareTo_1 : decode cX2_compareTo 1 = .ok (.aload_n 1, 1) := dk_43 (dk_at dksX2_compareTo_0 1 rfl rfl)
theorem dX2_compareTo_2 : decode cX2_compareTo 2 = .ok (.checkcast 8, 3) := dk_192 0 8 (dk_at dksX2_compareTo_0 2 rfl rfl)
theorem dX2_compareTo_5 : decode cX2_compareTo 5 = .ok (.invokevirtual 20, 3) := dk_182 0 20 (dk_at dksX2_compareTo_0 5 rfl rfl)
theorem dX2_compareTo_8 : decode cX2_compareTo 8 = .ok (.ireturn, 1) := dk_172 (dk_at dksX2_compareTo_0 8 rfl rfl)
abbrev cX2_compareTo_2 : ByteArray := prog_8_method_3_code
def yX2_compareTo_2 : MethodName := ⟨RX2, "compareTo", "(LFreightRoads$Place;)I"⟩
def dkwX2_compareTo_2_3 : List UInt8 := [172]
abbrev dktX2_compareTo_2_3 : List UInt8 := dkwX2_compareTo_2_3 ++ []
def dkwX2_compareTo_2_2 : List UInt8 := [180, 0, 7, 100, 167, 0, 20, 42, 180, 0, 17, 43, 180, 0, 17, 148, 156, 0, 7, 2, 167, 0, 4, 4]
abbrev dktX2_compareTo_2_2 : List UInt8 := dkwX2_compareTo_2_2 ++ dktX2_compareTo_2_3
def dkwX2_compareTo_2_1 : List UInt8 := [2, 167, 0, 4, 4, 172, 42, 180, 0, 17, 43, 180, 0, 17, 148, 154, 0, 15, 42, 180, 0, 7, 43]
abbrev dktX2_compareTo_2_1 : List UInt8 := dkwX2_compareTo_2_1 ++ dktX2_compareTo_2_2
def dkwX2_compareTo_2_0 : List UInt8 := [42, 180, 0, 13, 43, 180, 0, 13, 148, 153, 0, 21, 42, 180, 0, 13, 43, 180, 0, 13, 148, 156, 0, 7]
abbrev dktX2_compareTo_2_0 : List UInt8 := dkwX2_compareTo_2_0 ++ dktX2_compareTo_2_1
theorem dksX2_compareTo_2_0 : cX2_compareTo_2.data.toList.drop 0 = dktX2_compareTo_2_0 := by decide +kernel
theorem dksX2_compareTo_2_1 : cX2_compareTo_2.data.toList.drop 24 = dktX2_compareTo_2_1 := dk_seg dksX2_compareTo_2_0 24 rfl rfl
theorem dksX2_compareTo_2_2 : cX2_compareTo_2.data.toList.drop 47 = dktX2_compareTo_2_2 := dk_seg dksX2_compareTo_2_1 23 rfl rfl
theorem dksX2_compareTo_2_3 : cX2_compareTo_2.data.toList.drop 71 = dktX2_compareTo_2_3 := dk_seg dksX2_compareTo_2_2 24 rfl rfl
theorem dX2_compareTo_2_0 : decode cX2_compareTo_2 0 = .ok (.aload_n 0, 1) := dk_42 (dk_at dksX2_compareTo_2_0 0 rfl rfl)
theorem dX2_compareTo_2_1 : decode cX2_compareTo_2 1 = .ok (.getfield 13, 3) := dk_180 0 13 (dk_at dksX2_compareTo_2_0 1 rfl rfl)
theorem dX2_compareTo_2_4 : decode cX2_compareTo_2 4 = .ok (.aload_n 1, 1) := dk_43 (dk_at dksX2_compareTo_2_0 4 rfl rfl)
theorem dX2_compareTo_2_5 : decode cX2_compareTo_2 5 = .ok (.getfield 13, 3) := dk_180 0 13 (dk_at dksX2_compareTo_2_0 5 rfl rfl)
theorem dX2_compareTo_2_8 : decode cX2_compareTo_2 8 = .ok (.lcmp, 1) := dk_148 (dk_at dksX2_compareTo_2_0 8 rfl rfl)
theorem dX2_compareTo_2_9 : decode cX2_compareTo_2 9 = .ok (.ifCond .eq 21, 3) := dk_153 0 21 (dk_at dksX2_compareTo_2_0 9 rfl rfl)
theorem dX2_compareTo_2_12 : decode cX2_compareTo_2 12 = .ok (.aload_n 0, 1) := dk_42 (dk_at dksX2_compareTo_2_0 12 rfl rfl)
theorem dX2_compareTo_2_13 : decode cX2_compareTo_2 13 = .ok (.getfield 13, 3) := dk_180 0 13 (dk_at dksX2_compareTo_2_0 13 rfl rfl)
theorem dX2_compareTo_2_16 : decode cX2_compareTo_2 16 = .ok (.aload_n 1, 1) := dk_43 (dk_at dksX2_compareTo_2_0 16 rfl rfl)
theorem dX2_compareTo_2_17 : decode cX2_compareTo_2 17 = .ok (.getfield 13, 3) := dk_180 0 13 (dk_at dksX2_compareTo_2_0 17 rfl rfl)
theorem dX2_compareTo_2_20 : decode cX2_compareTo_2 20 = .ok (.lcmp, 1) := dk_148 (dk_at dksX2_compareTo_2_0 20 rfl rfl)
theorem dX2_compareTo_2_21 : decode cX2_compareTo_2 21 = .ok (.ifCond .ge 7, 3) := dk_156 0 7 (dk_at dksX2_compareTo_2_0 21 rfl rfl)
theorem dX2_compareTo_2_24 : decode cX2_compareTo_2 24 = .ok (.iconst (-1), 1) := dk_2 (dk_at dksX2_compareTo_2_1 0 rfl rfl)
theorem dX2_compareTo_2_25 : decode cX2_compareTo_2 25 = .ok (.goto 4, 3) := dk_167 0 4 (dk_at dksX2_compareTo_2_1 1 rfl rfl)
theorem dX2_compareTo_2_28 : decode cX2_compareTo_2 28 = .ok (.iconst 1, 1) := dk_4 (dk_at dksX2_compareTo_2_1 4 rfl rfl)
theorem dX2_compareTo_2_29 : decode cX2_compareTo_2 29 = .ok (.ireturn, 1) := dk_172 (dk_at dksX2_compareTo_2_1 5 rfl rfl)
theorem dX2_compareTo_2_30 : decode cX2_compareTo_2 30 = .ok (.aload_n 0, 1) := dk_42 (dk_at dksX2_compareTo_2_1 6 rfl rfl)
theorem dX2_compareTo_2_31 : decode cX2_compareTo_2 31 = .ok (.getfield 17, 3) := dk_180 0 17 (dk_at dksX2_compareTo_2_1 7 rfl rfl)
theorem dX2_compareTo_2_34 : decode cX2_compareTo_2 34 = .ok (.aload_n 1, 1) := dk_43 (dk_at dksX2_compareTo_2_1 10 rfl rfl)
theorem dX2_compareTo_2_35 : decode cX2_compareTo_2 35 = .ok (.getfield 17, 3) := dk_180 0 17 (dk_at dksX2_compareTo_2_1 11 rfl rfl)
theorem dX2_compareTo_2_38 : decode cX2_compareTo_2 38 = .ok (.lcmp, 1) := dk_148 (dk_at dksX2_compareTo_2_1 14 rfl rfl)
theorem dX2_compareTo_2_39 : decode cX2_compareTo_2 39 = .ok (.ifCond .ne 15, 3) := dk_154 0 15 (dk_at dksX2_compareTo_2_1 15 rfl rfl)
theorem dX2_compareTo_2_42 : decode cX2_compareTo_2 42 = .ok (.aload_n 0, 1) := dk_42 (dk_at dksX2_compareTo_2_1 18 rfl rfl)
theorem dX2_compareTo_2_43 : decode cX2_compareTo_2 43 = .ok (.getfield 7, 3) := dk_180 0 7 (dk_at dksX2_compareTo_2_1 19 rfl rfl)
theorem dX2_compareTo_2_46 : decode cX2_compareTo_2 46 = .ok (.aload_n 1, 1) := dk_43 (dk_at dksX2_compareTo_2_1 22 rfl rfl)
theorem dX2_compareTo_2_47 : decode cX2_compareTo_2 47 = .ok (.getfield 7, 3) := dk_180 0 7 (dk_at dksX2_compareTo_2_2 0 rfl rfl)
theorem dX2_compareTo_2_50 : decode cX2_compareTo_2 50 = .ok (.isub, 1) := dk_100 (dk_at dksX2_compareTo_2_2 3 rfl rfl)
theorem dX2_compareTo_2_51 : decode cX2_compareTo_2 51 = .ok (.goto 20, 3) := dk_167 0 20 (dk_at dksX2_compareTo_2_2 4 rfl rfl)
theorem dX2_compareTo_2_54 : decode cX2_compareTo_2 54 = .ok (.aload_n 0, 1) := dk_42 (dk_at dksX2_compareTo_2_2 7 rfl rfl)
theorem dX2_compareTo_2_55 : decode cX2_compareTo_2 55 = .ok (.getfield 17, 3) := dk_180 0 17 (dk_at dksX2_compareTo_2_2 8 rfl rfl)
theorem dX2_compareTo_2_58 : decode cX2_compareTo_2 58 = .ok (.aload_n 1, 1) := dk_43 (dk_at dksX2_compareTo_2_2 11 rfl rfl)
theorem dX2_compareTo_2_59 : decode cX2_compareTo_2 59 = .ok (.getfield 17, 3) := dk_180 0 17 (dk_at dksX2_compareTo_2_2 12 rfl rfl)
theorem dX2_compareTo_2_62 : decode cX2_compareTo_2 62 = .ok (.lcmp, 1) := dk_148 (dk_at dksX2_compareTo_2_2 15 rfl rfl)
theorem dX2_compareTo_2_63 : decode cX2_compareTo_2 63 = .ok (.ifCond .ge 7, 3) := dk_156 0 7 (dk_at dksX2_compareTo_2_2 16 rfl rfl)
theorem dX2_compareTo_2_66 : decode cX2_compareTo_2 66 = .ok (.iconst (-1), 1) := dk_2 (dk_at dksX2_compareTo_2_2 19 rfl rfl)
theorem dX2_compareTo_2_67 : decode cX2_compareTo_2 67 = .ok (.goto 4, 3) := dk_167 0 4 (dk_at dksX2_compareTo_2_2 20 rfl rfl)
theorem dX2_compareTo_2_70 : decode cX2_compareTo_2 70 = .ok (.iconst 1, 1) := dk_4 (dk_at dksX2_compareTo_2_2 23 rfl rfl)
theorem dX2_compareTo_2_71 : decode cX2_compareTo_2 71 = .ok (.ireturn, 1) := dk_172 (dk_at dksX2_compareTo_2_3 0 rfl rfl)
abbrev cX2_isNearer : ByteArray := prog_8_method_2_code
def yX2_isNearer : MethodName := ⟨RX2, "isNearer", "(JJ)Z"⟩
def dkwX2_isNearer_1 : List UInt8 := [156, 0, 7, 4, 167, 0, 4, 3, 172]
abbrev dktX2_isNearer_1 : List UInt8 := dkwX2_isNearer_1 ++ []
def dkwX2_isNearer_0 : List UInt8 := [31, 42, 180, 0, 13, 148, 155, 0, 21, 31, 42, 180, 0, 13, 148, 154, 0, 16, 33, 42, 180, 0, 17, 148]
abbrev dktX2_isNearer_0 : List UInt8 := dkwX2_isNearer_0 ++ dktX2_isNearer_1
theorem dksX2_isNearer_0 : cX2_isNearer.data.toList.drop 0 = dktX2_isNearer_0 := by decide +kernel
theorem dksX2_isNearer_1 : cX2_isNearer.data.toList.drop 24 = dktX2_isNearer_1 := dk_seg dksX2_isNearer_0 24 rfl rfl
theorem dX2_isNearer_0 : decode cX2_isNearer 0 = .ok (.lload_n 1, 1) := dk_31 (dk_at dksX2_isNearer_0 0 rfl rfl)
theorem dX2_isNearer_1 : decode cX2_isNearer 1 = .ok (.aload_n 0, 1) := dk_42 (dk_at dksX2_isNearer_0 1 rfl rfl)
theorem dX2_isNearer_2 : decode cX2_isNearer 2 = .ok (.getfield 13, 3) := dk_180 0 13 (dk_at dksX2_isNearer_0 2 rfl rfl)
theorem dX2_isNearer_5 : decode cX2_isNearer 5 = .ok (.lcmp, 1) := dk_148 (dk_at dksX2_isNearer_0 5 rfl rfl)
theorem dX2_isNearer_6 : decode cX2_isNearer 6 = .ok (.ifCond .lt 21, 3) := dk_155 0 21 (dk_at dksX2_isNearer_0 6 rfl rfl)
theorem dX2_isNearer_9 : decode cX2_isNearer 9 = .ok (.lload_n 1, 1) := dk_31 (dk_at dksX2_isNearer_0 9 rfl rfl)
theorem dX2_isNearer_10 : decode cX2_isNearer 10 = .ok (.aload_n 0, 1) := dk_42 (dk_at dksX2_isNearer_0 10 rfl rfl)
theorem dX2_isNearer_11 : decode cX2_isNearer 11 = .ok (.getfield 13, 3) := dk_180 0 13 (dk_at dksX2_isNearer_0 11 rfl rfl)
theorem dX2_isNearer_14 : decode cX2_isNearer 14 = .ok (.lcmp, 1) := dk_148 (dk_at dksX2_isNearer_0 14 rfl rfl)
theorem dX2_isNearer_15 : decode cX2_isNearer 15 = .ok (.ifCond .ne 16, 3) := dk_154 0 16 (dk_at dksX2_isNearer_0 15 rfl rfl)
theorem dX2_isNearer_18 : decode cX2_isNearer 18 = .ok (.lload_n 3, 1) := dk_33 (dk_at dksX2_isNearer_0 18 rfl rfl)
theorem dX2_isNearer_19 : decode cX2_isNearer 19 = .ok (.aload_n 0, 1) := dk_42 (dk_at dksX2_isNearer_0 19 rfl rfl)
theorem dX2_isNearer_20 : decode cX2_isNearer 20 = .ok (.getfield 17, 3) := dk_180 0 17 (dk_at dksX2_isNearer_0 20 rfl rfl)
theorem dX2_isNearer_23 : decode cX2_isNearer 23 = .ok (.lcmp, 1) := dk_148 (dk_at dksX2_isNearer_0 23 rfl rfl)
theorem dX2_isNearer_24 : decode cX2_isNearer 24 = .ok (.ifCond .ge 7, 3) := dk_156 0 7 (dk_at dksX2_isNearer_1 0 rfl rfl)
theorem dX2_isNearer_27 : decode cX2_isNearer 27 = .ok (.iconst 1, 1) := dk_4 (dk_at dksX2_isNearer_1 3 rfl rfl)
theorem dX2_isNearer_28 : decode cX2_isNearer 28 = .ok (.goto 4, 3) := dk_167 0 4 (dk_at dksX2_isNearer_1 4 rfl rfl)
theorem dX2_isNearer_31 : decode cX2_isNearer 31 = .ok (.iconst 0, 1) := dk_3 (dk_at dksX2_isNearer_1 7 rfl rfl)
theorem dX2_isNearer_32 : decode cX2_isNearer 32 = .ok (.ireturn, 1) := dk_172 (dk_at dksX2_isNearer_1 8 rfl rfl)
theorem q152 : (Jvm.Cond.initialized "FreightRoads$Place") ∈ lw_all := lw_g (lw_at lw_m1 26 rfl) rfl
theorem q635 : (Jvm.Cond.instantiable "FreightRoads$Place" (6 : Nat)) ∈ lw_all := lw_g (lw_at lw_m3 29 rfl) rfl
theorem q637 : (Jvm.Cond.instanceMethod ({ cls := "FreightRoads$Place", name := "<init>", desc := "(I)V" } : Jvm.MethodName)) ∈ lw_all := lw_g (lw_at lw_m3 31 rfl) rfl
theorem q638 : (Jvm.Cond.code ({ cls := "FreightRoads$Place", name := "<init>", desc := "(I)V" } : Jvm.MethodName) prog_8_method_1_code (2 : Nat) (Option.none : Option Jvm.ClassFile.FieldType)) ∈ lw_all := lw_g (lw_at lw_m3 32 rfl) rfl
theorem q639 : (Jvm.Cond.methodLink "FreightRoads$Place" (1 : Nat) ({ cls := "java/lang/Object", name := "<init>", desc := "()V" } : Jvm.MethodName)) ∈ lw_all := lw_g (lw_at lw_m3 33 rfl) rfl
theorem q640 : (Jvm.Cond.fieldLink "FreightRoads$Place" (7 : Nat) "FreightRoads$Place" "town" "I") ∈ lw_all := lw_g (lw_at lw_m3 34 rfl) rfl
theorem q642 : (Jvm.Cond.fieldLink "FreightRoads$Place" (13 : Nat) "FreightRoads$Place" "cost" "J") ∈ lw_all := lw_g (lw_at lw_m3 36 rfl) rfl
theorem q644 : (Jvm.Cond.fieldLink "FreightRoads$Place" (17 : Nat) "FreightRoads$Place" "weight" "J") ∈ lw_all := lw_g (lw_at lw_m3 38 rfl) rfl
theorem q649 : (Jvm.Cond.laysFinal "FreightRoads$Place" "FreightRoads$Place" "town" "I") ∈ lw_all := lw_g (lw_at lw_m3 43 rfl) rfl
theorem q650 : (Jvm.Cond.soleField "FreightRoads$Place" "town") ∈ lw_all := lw_g (lw_at lw_m3 44 rfl) rfl
theorem q651 : (Jvm.Cond.lays "FreightRoads$Place" "FreightRoads$Place" "cost" "J") ∈ lw_all := lw_g (lw_at lw_m3 45 rfl) rfl
theorem q652 : (Jvm.Cond.soleField "FreightRoads$Place" "cost") ∈ lw_all := lw_g (lw_at lw_m3 46 rfl) rfl
theorem q653 : (Jvm.Cond.lays "FreightRoads$Place" "FreightRoads$Place" "weight" "J") ∈ lw_all := lw_g (lw_at lw_m3 47 rfl) rfl
theorem q654 : (Jvm.Cond.soleField "FreightRoads$Place" "weight") ∈ lw_all := lw_g (lw_at lw_m3 48 rfl) rfl
theorem q655 : (Jvm.Cond.lays "FreightRoads$Place" "FreightRoads$Place" "isReached" "Z") ∈ lw_all := lw_g (lw_at lw_m3 49 rfl) rfl
theorem q656 : (Jvm.Cond.soleField "FreightRoads$Place" "isReached") ∈ lw_all := lw_g (lw_at lw_m3 50 rfl) rfl
theorem q657 : (Jvm.Cond.lays "FreightRoads$Place" "FreightRoads$Place" "isDone" "Z") ∈ lw_all := lw_g (lw_at lw_m3 51 rfl) rfl
theorem q658 : (Jvm.Cond.soleField "FreightRoads$Place" "isDone") ∈ lw_all := lw_g (lw_at lw_m3 52 rfl) rfl
theorem q659 : (Jvm.Cond.lays "FreightRoads$Place" "FreightRoads$Place" "by" "I") ∈ lw_all := lw_g (lw_at lw_m3 53 rfl) rfl
theorem q660 : (Jvm.Cond.soleField "FreightRoads$Place" "by") ∈ lw_all := lw_g (lw_at lw_m3 54 rfl) rfl
theorem q661 : (Jvm.Cond.superclass "FreightRoads$Place" "java/lang/Object") ∈ lw_all := lw_g (lw_at lw_m3 55 rfl) rfl
theorem q986 : (Jvm.Cond.selects "FreightRoads$Place" ({ cls := "java/lang/Object", name := "getClass", desc := "()Ljava/lang/Class;" } : Jvm.MethodName) ({ cls := "java/lang/Object", name := "getClass", desc := "()Ljava/lang/Class;" } : Jvm.MethodName)) ∈ lw_all := lw_g (lw_at lw_m4 140 rfl) rfl
theorem q1666 : (Jvm.Cond.castable "FreightRoads$Place" "java/lang/Comparable") ∈ lw_tbl := lw_at lw_m7 100 rfl
theorem q1667 : (Jvm.Cond.selects "FreightRoads$Place" ({ cls := "java/lang/Comparable", name := "compareTo", desc := "(Ljava/lang/Object;)I" } : Jvm.MethodName) ({ cls := "FreightRoads$Place", name := "compareTo", desc := "(Ljava/lang/Object;)I" } : Jvm.MethodName)) ∈ lw_all := lw_g (lw_at lw_m7 101 rfl) rfl
theorem q1668 : (Jvm.Cond.unhidden "FreightRoads$Place" "compareTo" "(Ljava/lang/Object;)I") ∈ lw_tbl := lw_at lw_m7 102 rfl
theorem q1669 : (Jvm.Cond.instanceMethod ({ cls := "FreightRoads$Place", name := "compareTo", desc := "(Ljava/lang/Object;)I" } : Jvm.MethodName)) ∈ lw_all := lw_g (lw_at lw_m7 103 rfl) rfl
theorem q1670 : (Jvm.Cond.publicMethod ({ cls := "FreightRoads$Place", name := "compareTo", desc := "(Ljava/lang/Object;)I" } : Jvm.MethodName)) ∈ lw_tbl := lw_at lw_m7 104 rfl
theorem q1671 : (Jvm.Cond.code ({ cls := "FreightRoads$Place", name := "compareTo", desc := "(Ljava/lang/Object;)I" } : Jvm.MethodName) prog_8_method_4_code (2 : Nat) (Option.some Jvm.ClassFile.FieldType.int)) ∈ lw_all := lw_g (lw_at lw_m7 105 rfl) rfl
theorem q1672 : (Jvm.Cond.classLink "FreightRoads$Place" (8 : Nat) "FreightRoads$Place") ∈ lw_all := lw_g (lw_at lw_m7 106 rfl) rfl
theorem q1673 : (Jvm.Cond.methodLink "FreightRoads$Place" (20 : Nat) ({ cls := "FreightRoads$Place", name := "compareTo", desc := "(LFreightRoads$Place;)I" } : Jvm.MethodName)) ∈ lw_all := lw_g (lw_at lw_m7 107 rfl) rfl
theorem q1674 : (Jvm.Cond.instanceMethod ({ cls := "FreightRoads$Place", name := "compareTo", desc := "(LFreightRoads$Place;)I" } : Jvm.MethodName)) ∈ lw_all := lw_g (lw_at lw_m7 108 rfl) rfl
theorem q1675 : (Jvm.Cond.selects "FreightRoads$Place" ({ cls := "FreightRoads$Place", name := "compareTo", desc := "(LFreightRoads$Place;)I" } : Jvm.MethodName) ({ cls := "FreightRoads$Place", name := "compareTo", desc := "(LFreightRoads$Place;)I" } : Jvm.MethodName)) ∈ lw_all := lw_g (lw_at lw_m7 109 rfl) rfl
theorem q1676 : (Jvm.Cond.code ({ cls := "FreightRoads$Place", name := "compareTo", desc := "(LFreightRoads$Place;)I" } : Jvm.MethodName) prog_8_method_3_code (2 : Nat) (Option.some Jvm.ClassFile.FieldType.int)) ∈ lw_all := lw_g (lw_at lw_m7 110 rfl) rfl
theorem q2108 : (Jvm.Cond.instanceMethod ({ cls := "FreightRoads$Place", name := "isNearer", desc := "(JJ)Z" } : Jvm.MethodName)) ∈ lw_all := lw_g (lw_at lw_m9 62 rfl) rfl
theorem q2109 : (Jvm.Cond.selects "FreightRoads$Place" ({ cls := "FreightRoads$Place", name := "isNearer", desc := "(JJ)Z" } : Jvm.MethodName) ({ cls := "FreightRoads$Place", name := "isNearer", desc := "(JJ)Z" } : Jvm.MethodName)) ∈ lw_all := lw_g (lw_at lw_m9 63 rfl) rfl
theorem q2110 : (Jvm.Cond.code ({ cls := "FreightRoads$Place", name := "isNearer", desc := "(JJ)Z" } : Jvm.MethodName) prog_8_method_2_code (5 : Nat) (Option.some Jvm.ClassFile.FieldType.boolean)) ∈ lw_all := lw_g (lw_at lw_m9 64 rfl) rfl
theorem q2128 : (Jvm.Cond.selects "FreightRoads$Place" ({ cls := "java/lang/Object", name := "equals", desc := "(Ljava/lang/Object;)Z" } : Jvm.MethodName) ({ cls := "java/lang/Object", name := "equals", desc := "(Ljava/lang/Object;)Z" } : Jvm.MethodName)) ∈ lw_all := lw_g (lw_at lw_m9 82 rfl) rfl
theorem q3602 : (Jvm.Cond.castable "FreightRoads$Place" "java/lang/Object") ∈ lw_tbl := lw_at lw_m15 116 rfl
set_option maxRecDepth 100000
abbrev cX3_init : ByteArray := prog_2_method_1_code
def yX3_init : MethodName := ⟨RX3, "<init>", "(LFreightRoads;)V"⟩
def dkwX3_init_0 : List UInt8 := [42, 43, 181, 0, 1, 42, 183, 0, 7, 177]
abbrev dktX3_init_0 : List UInt8 := dkwX3_init_0 ++ []
theorem dksX3_init_0 : cX3_init.data.toList.drop 0 = dktX3_init_0 := by decide +kernel
theorem dX3_init_0 : decode cX3_init 0 = .ok (.aload_n 0, 1) := dk_42 (dk_at dksX3_init_0 0 rfl rfl)
theorem dX3_init_1 : decode cX3_init 1 = .ok (.aload_n 1, 1) := dk_43 (dk_at dksX3_init_0 1 rfl rfl)
theorem dX3_init_2 : decode cX3_init 2 = .ok (.putfield 1, 3) := dk_181 0 1 (dk_at dksX3_init_0 2 rfl rfl)
theorem dX3_init_5 : decode cX3_init 5 = .ok (.aload_n 0, 1) := dk_42 (dk_at dksX3_init_0 5 rfl rfl)
theorem dX3_init_6 : decode cX3_init 6 = .ok (.invokespecial 7, 3) := dk_183 0 7 (dk_at dksX3_init_0 6 rfl rfl)
theorem dX3_init_9 : decode cX3_init 9 = .ok (.return_, 1) := dk_177 (dk_at dksX3_init_0 9 rfl rfl)
abbrev cX3_compare : ByteArray := prog_2_method_3_code
def yX3_compare : MethodName := ⟨RX3, "compare", "(Ljava/lang/Object;Ljava/lang/Object;)I"⟩
def dkwX3_compare_0 : List UInt8 := [42, 43, 192, 0, 26, 44, 192, 0, 26, 182, 0, 41, 172]
abbrev dktX3_compare_0 : List UInt8 := dkwX3_compare_0 ++ []
theorem dksX3_compare_0 : cX3_compare.data.toList.drop 0 = dktX3_compare_0 := by decide +kernel
theorem dX3_compare_0 : decode cX3_compare 0 = .ok (.aload_n 0, 1) := dk_42 (dk_at dksX3_compare_0 0 rfl rfl)
theorem dX3_compare_1 : decode cX3_compare 1 = .ok (.aload_n 1, 1) := dk_43 (dk_at dksX3_compare_0 1 rfl rfl)
theorem dX3_compare_2 : decode cX3_compare 2 = .ok (.checkcast 26, 3) := dk_192 0 26 (dk_at dksX3_compare_0 2 rfl rfl)
theorem dX3_compare_5 : decode cX3_compare 5 = .ok (.aload_n 2, 1) := dk_44 (dk_at dksX3_compare_0 5 rfl rfl)
theorem dX3_compare_6 : decode cX3_compare 6 = .ok (.checkcast 26, 3) := dk_192 0 26 (dk_at dksX3_compare_0 6 rfl rfl)
theorem dX3_compare_9 : decode cX3_compare 9 = .ok (.invokevirtual 41, 3) := dk_182 0 41 (dk_at dksX3_compare_0 9 rfl rfl)
theorem dX3_compare_12 : decode cX3_compare 12 = .ok (.ireturn, 1) := dk_172 (dk_at dksX3_compare_0 12 rfl rfl)
abbrev cX3_compare_2 : ByteArray := prog_2_method_2_code
def yX3_compare_2 : MethodName := ⟨RX3, "compare", "(Ljava/lang/Integer;Ljava/lang/Integer;)I"⟩
def dkwX3_compare_2_5 : List UInt8 := [182, 0, 25, 47, 148, 156, 0, 7, 2, 167, 0, 4, 4, 172, 43, 182, 0, 25, 44, 182, 0, 25, 100, 172]
abbrev dktX3_compare_2_5 : List UInt8 := dkwX3_compare_2_5 ++ []
def dkwX3_compare_2_4 : List UInt8 := [180, 0, 13, 180, 0, 37, 43, 182, 0, 25, 47, 42, 180, 0, 1, 180, 0, 13, 180, 0, 37, 44]
abbrev dktX3_compare_2_4 : List UInt8 := dkwX3_compare_2_4 ++ dktX3_compare_2_5
def dkwX3_compare_2_3 : List UInt8 := [180, 0, 1, 180, 0, 13, 180, 0, 37, 44, 182, 0, 25, 47, 148, 153, 0, 43, 42, 180, 0, 1]
abbrev dktX3_compare_2_3 : List UInt8 := dkwX3_compare_2_3 ++ dktX3_compare_2_4
def dkwX3_compare_2_2 : List UInt8 := [4, 172, 29, 153, 0, 77, 42, 180, 0, 1, 180, 0, 13, 180, 0, 37, 43, 182, 0, 25, 47, 42]
abbrev dktX3_compare_2_2 : List UInt8 := dkwX3_compare_2_2 ++ dktX3_compare_2_3
def dkwX3_compare_2_1 : List UInt8 := [180, 0, 13, 180, 0, 19, 44, 182, 0, 25, 182, 0, 31, 159, 0, 13, 29, 153, 0, 7, 2, 167, 0, 4]
abbrev dktX3_compare_2_1 : List UInt8 := dkwX3_compare_2_1 ++ dktX3_compare_2_2
def dkwX3_compare_2_0 : List UInt8 := [42, 180, 0, 1, 180, 0, 13, 180, 0, 19, 43, 182, 0, 25, 182, 0, 31, 62, 29, 42, 180, 0, 1]
abbrev dktX3_compare_2_0 : List UInt8 := dkwX3_compare_2_0 ++ dktX3_compare_2_1
theorem dksX3_compare_2_0 : cX3_compare_2.data.toList.drop 0 = dktX3_compare_2_0 := by decide +kernel
theorem dksX3_compare_2_1 : cX3_compare_2.data.toList.drop 23 = dktX3_compare_2_1 := dk_seg dksX3_compare_2_0 23 rfl rfl
theorem dksX3_compare_2_2 : cX3_compare_2.data.toList.drop 47 = dktX3_compare_2_2 := dk_seg dksX3_compare_2_1 24 rfl rfl
theorem dksX3_compare_2_3 : cX3_compare_2.data.toList.drop 69 = dktX3_compare_2_3 := dk_seg dksX3_compare_2_2 22 rfl rfl
theorem dksX3_compare_2_4 : cX3_compare_2.data.toList.drop 91 = dktX3_compare_2_4 := dk_seg dksX3_compare_2_3 22 rfl rfl
theorem dksX3_compare_2_5 : cX3_compare_2.data.toList.drop 113 = dktX3_compare_2_5 := dk_seg dksX3_compare_2_4 22 rfl rfl
theorem dX3_compare_2_0 : decode cX3_compare_2 0 = .ok (.aload_n 0, 1) := dk_42 (dk_at dksX3_compare_2_0 0 rfl rfl)
theorem dX3_compare_2_1 : decode cX3_compare_2 1 = .ok (.getfield 1, 3) := dk_180 0 1 (dk_at dksX3_compare_2_0 1 rfl rfl)
theorem dX3_compare_2_4 : decode cX3_compare_2 4 = .ok (.getfield 13, 3) := dk_180 0 13 (dk_at dksX3_compare_2_0 4 rfl rfl)
theorem dX3_compare_2_7 : decode cX3_compare_2 7 = .ok (.getfield 19, 3) := dk_180 0 19 (dk_at dksX3_compare_2_0 7 rfl rfl)
theorem dX3_compare_2_10 : decode cX3_compare_2 10 = .ok (.aload_n 1, 1) := dk_43 (dk_at dksX3_compare_2_0 10 rfl rfl)
theorem dX3_compare_2_11 : decode cX3_compare_2 11 = .ok (.invokevirtual 25, 3) := dk_182 0 25 (dk_at dksX3_compare_2_0 11 rfl rfl)
theorem dX3_compare_2_14 : decode cX3_compare_2 14 = .ok (.invokevirtual 31, 3) := dk_182 0 31 (dk_at dksX3_compare_2_0 14 rfl rfl)
theorem dX3_compare_2_17 : decode cX3_compare_2 17 = .ok (.istore_n 3, 1) := dk_62 (dk_at dksX3_compare_2_0 17 rfl rfl)
theorem dX3_compare_2_18 : decode cX3_compare_2 18 = .ok (.iload_n 3, 1) := dk_29 (dk_at dksX3_compare_2_0 18 rfl rfl)
theorem dX3_compare_2_19 : decode cX3_compare_2 19 = .ok (.aload_n 0, 1) := dk_42 (dk_at dksX3_compare_2_0 19 rfl rfl)
theorem dX3_compare_2_20 : decode cX3_compare_2 20 = .ok (.getfield 1, 3) := dk_180 0 1 (dk_at dksX3_compare_2_0 20 rfl rfl)
theorem dX3_compare_2_23 : decode cX3_compare_2 23 = .ok (.getfield 13, 3) := dk_180 0 13 (dk_at dksX3_compare_2_1 0 rfl rfl)
theorem dX3_compare_2_26 : decode cX3_compare_2 26 = .ok (.getfield 19, 3) := dk_180 0 19 (dk_at dksX3_compare_2_1 3 rfl rfl)
theorem dX3_compare_2_29 : decode cX3_compare_2 29 = .ok (.aload_n 2, 1) := dk_44 (dk_at dksX3_compare_2_1 6 rfl rfl)
theorem dX3_compare_2_30 : decode cX3_compare_2 30 = .ok (.invokevirtual 25, 3) := dk_182 0 25 (dk_at dksX3_compare_2_1 7 rfl rfl)
theorem dX3_compare_2_33 : decode cX3_compare_2 33 = .ok (.invokevirtual 31, 3) := dk_182 0 31 (dk_at dksX3_compare_2_1 10 rfl rfl)
theorem dX3_compare_2_36 : decode cX3_compare_2 36 = .ok (.if_icmp .eq 13, 3) := dk_159 0 13 (dk_at dksX3_compare_2_1 13 rfl rfl)
theorem dX3_compare_2_39 : decode cX3_compare_2 39 = .ok (.iload_n 3, 1) := dk_29 (dk_at dksX3_compare_2_1 16 rfl rfl)
theorem dX3_compare_2_40 : decode cX3_compare_2 40 = .ok (.ifCond .eq 7, 3) := dk_153 0 7 (dk_at dksX3_compare_2_1 17 rfl rfl)
theorem dX3_compare_2_43 : decode cX3_compare_2 43 = .ok (.iconst (-1), 1) := dk_2 (dk_at dksX3_compare_2_1 20 rfl rfl)
theorem dX3_compare_2_44 : decode cX3_compare_2 44 = .ok (.goto 4, 3) := dk_167 0 4 (dk_at dksX3_compare_2_1 21 rfl rfl)
theorem dX3_compare_2_47 : decode cX3_compare_2 47 = .ok (.iconst 1, 1) := dk_4 (dk_at dksX3_compare_2_2 0 rfl rfl)
theorem dX3_compare_2_48 : decode cX3_compare_2 48 = .ok (.ireturn, 1) := dk_172 (dk_at dksX3_compare_2_2 1 rfl rfl)
theorem dX3_compare_2_49 : decode cX3_compare_2 49 = .ok (.iload_n 3, 1) := dk_29 (dk_at dksX3_compare_2_2 2 rfl rfl)
theorem dX3_compare_2_50 : decode cX3_compare_2 50 = .ok (.ifCond .eq 77, 3) := dk_153 0 77 (dk_at dksX3_compare_2_2 3 rfl rfl)
theorem dX3_compare_2_53 : decode cX3_compare_2 53 = .ok (.aload_n 0, 1) := dk_42 (dk_at dksX3_compare_2_2 6 rfl rfl)
theorem dX3_compare_2_54 : decode cX3_compare_2 54 = .ok (.getfield 1, 3) := dk_180 0 1 (dk_at dksX3_compare_2_2 7 rfl rfl)
theorem dX3_compare_2_57 : decode cX3_compare_2 57 = .ok (.getfield 13, 3) := dk_180 0 13 (dk_at dksX3_compare_2_2 10 rfl rfl)
theorem dX3_compare_2_60 : decode cX3_compare_2 60 = .ok (.getfield 37, 3) := dk_180 0 37 (dk_at dksX3_compare_2_2 13 rfl rfl)
theorem dX3_compare_2_63 : decode cX3_compare_2 63 = .ok (.aload_n 1, 1) := dk_43 (dk_at dksX3_compare_2_2 16 rfl rfl)
theorem dX3_compare_2_64 : decode cX3_compare_2 64 = .ok (.invokevirtual 25, 3) := dk_182 0 25 (dk_at dksX3_compare_2_2 17 rfl rfl)
theorem dX3_compare_2_67 : decode cX3_compare_2 67 = .ok (.laload, 1) := dk_47 (dk_at dksX3_compare_2_2 20 rfl rfl)
theorem dX3_compare_2_68 : decode cX3_compare_2 68 = .ok (.aload_n 0, 1) := dk_42 (dk_at dksX3_compare_2_2 21 rfl rfl)
theorem dX3_compare_2_69 : decode cX3_compare_2 69 = .ok (.getfield 1, 3) := dk_180 0 1 (dk_at dksX3_compare_2_3 0 rfl rfl)
theorem dX3_compare_2_72 : decode cX3_compare_2 72 = .ok (.getfield 13, 3) := dk_180 0 13 (dk_at dksX3_compare_2_3 3 rfl rfl)
theorem dX3_compare_2_75 : decode cX3_compare_2 75 = .ok (.getfield 37, 3) := dk_180 0 37 (dk_at dksX3_compare_2_3 6 rfl rfl)
theorem dX3_compare_2_78 : decode cX3_compare_2 78 = .ok (.aload_n 2, 1) := dk_44 (dk_at dksX3_compare_2_3 9 rfl rfl)
theorem dX3_compare_2_79 : decode cX3_compare_2 79 = .ok (.invokevirtual 25, 3) := dk_182 0 25 (dk_at dksX3_compare_2_3 10 rfl rfl)
theorem dX3_compare_2_82 : decode cX3_compare_2 82 = .ok (.laload, 1) := dk_47 (dk_at dksX3_compare_2_3 13 rfl rfl)
theorem dX3_compare_2_83 : decode cX3_compare_2 83 = .ok (.lcmp, 1) := dk_148 (dk_at dksX3_compare_2_3 14 rfl rfl)
theorem dX3_compare_2_84 : decode cX3_compare_2 84 = .ok (.ifCond .eq 43, 3) := dk_153 0 43 (dk_at dksX3_compare_2_3 15 rfl rfl)
theorem dX3_compare_2_87 : decode cX3_compare_2 87 = .ok (.aload_n 0, 1) := dk_42 (dk_at dksX3_compare_2_3 18 rfl rfl)
theorem dX3_compare_2_88 : decode cX3_compare_2 88 = .ok (.getfield 1, 3) := dk_180 0 1 (dk_at dksX3_compare_2_3 19 rfl rfl)
theorem dX3_compare_2_91 : decode cX3_compare_2 91 = .ok (.getfield 13, 3) := dk_180 0 13 (dk_at dksX3_compare_2_4 0 rfl rfl)
theorem dX3_compare_2_94 : decode cX3_compare_2 94 = .ok (.getfield 37, 3) := dk_180 0 37 (dk_at dksX3_compare_2_4 3 rfl rfl)
theorem dX3_compare_2_97 : decode cX3_compare_2 97 = .ok (.aload_n 1, 1) := dk_43 (dk_at dksX3_compare_2_4 6 rfl rfl)
theorem dX3_compare_2_98 : decode cX3_compare_2 98 = .ok (.invokevirtual 25, 3) := dk_182 0 25 (dk_at dksX3_compare_2_4 7 rfl rfl)
theorem dX3_compare_2_101 : decode cX3_compare_2 101 = .ok (.laload, 1) := dk_47 (dk_at dksX3_compare_2_4 10 rfl rfl)
theorem dX3_compare_2_102 : decode cX3_compare_2 102 = .ok (.aload_n 0, 1) := dk_42 (dk_at dksX3_compare_2_4 11 rfl rfl)
theorem dX3_compare_2_103 : decode cX3_compare_2 103 = .ok (.getfield 1, 3) := dk_180 0 1 (dk_at dksX3_compare_2_4 12 rfl rfl)
theorem dX3_compare_2_106 : decode cX3_compare_2 106 = .ok (.getfield 13, 3) := dk_180 0 13 (dk_at dksX3_compare_2_4 15 rfl rfl)
theorem dX3_compare_2_109 : decode cX3_compare_2 109 = .ok (.getfield 37, 3) := dk_180 0 37 (dk_at dksX3_compare_2_4 18 rfl rfl)
theorem dX3_compare_2_112 : decode cX3_compare_2 112 = .ok (.aload_n 2, 1) := dk_44 (dk_at dksX3_compare_2_4 21 rfl rfl)
theorem dX3_compare_2_113 : decode cX3_compare_2 113 = .ok (.invokevirtual 25, 3) := dk_182 0 25 (dk_at dksX3_compare_2_5 0 rfl rfl)
theorem dX3_compare_2_116 : decode cX3_compare_2 116 = .ok (.laload, 1) := dk_47 (dk_at dksX3_compare_2_5 3 rfl rfl)
theorem dX3_compare_2_117 : decode cX3_compare_2 117 = .ok (.lcmp, 1) := dk_148 (dk_at dksX3_compare_2_5 4 rfl rfl)
theorem dX3_compare_2_118 : decode cX3_compare_2 118 = .ok (.ifCond .ge 7, 3) := dk_156 0 7 (dk_at dksX3_compare_2_5 5 rfl rfl)
theorem dX3_compare_2_121 : decode cX3_compare_2 121 = .ok (.iconst (-1), 1) := dk_2 (dk_at dksX3_compare_2_5 8 rfl rfl)
theorem dX3_compare_2_122 : decode cX3_compare_2 122 = .ok (.goto 4, 3) := dk_167 0 4 (dk_at dksX3_compare_2_5 9 rfl rfl)
theorem dX3_compare_2_125 : decode cX3_compare_2 125 = .ok (.iconst 1, 1) := dk_4 (dk_at dksX3_compare_2_5 12 rfl rfl)
theorem dX3_compare_2_126 : decode cX3_compare_2 126 = .ok (.ireturn, 1) := dk_172 (dk_at dksX3_compare_2_5 13 rfl rfl)
theorem dX3_compare_2_127 : decode cX3_compare_2 127 = .ok (.aload_n 1, 1) := dk_43 (dk_at dksX3_compare_2_5 14 rfl rfl)
theorem dX3_compare_2_128 : decode cX3_compare_2 128 = .ok (.invokevirtual 25, 3) := dk_182 0 25 (dk_at dksX3_compare_2_5 15 rfl rfl)
theorem dX3_compare_2_131 : decode cX3_compare_2 131 = .ok (.aload_n 2, 1) := dk_44 (dk_at dksX3_compare_2_5 18 rfl rfl)
theorem dX3_compare_2_132 : decode cX3_compare_2 132 = .ok (.invokevirtual 25, 3) := dk_182 0 25 (dk_at dksX3_compare_2_5 19 rfl rfl)
theorem dX3_compare_2_135 : decode cX3_compare_2 135 = .ok (.isub, 1) := dk_100 (dk_at dksX3_compare_2_5 22 rfl rfl)
theorem dX3_compare_2_136 : decode cX3_compare_2 136 = .ok (.ireturn, 1) := dk_172 (dk_at dksX3_compare_2_5 23 rfl rfl)
theorem q154 : (Jvm.Cond.initialized "FreightRoads$ByPrice") ∈ lw_all := lw_g (lw_at lw_m1 28 rfl) rfl
theorem q691 : (Jvm.Cond.fieldLinkNest "FreightRoads$ByPrice" (37 : Nat) "FreightRoads$Net" "prices" "[J" "FreightRoads") ∈ lw_tbl := lw_at lw_m3 85 rfl
theorem q694 : (Jvm.Cond.fieldLinkNest "FreightRoads$ByPrice" (19 : Nat) "FreightRoads$Net" "priced" "Ljava/util/BitSet;" "FreightRoads") ∈ lw_tbl := lw_at lw_m3 88 rfl
theorem q755 : (Jvm.Cond.instantiable "FreightRoads$ByPrice" (1 : Nat)) ∈ lw_all := lw_g (lw_at lw_m3 149 rfl) rfl
theorem q757 : (Jvm.Cond.instanceMethod ({ cls := "FreightRoads$ByPrice", name := "<init>", desc := "(LFreightRoads;)V" } : Jvm.MethodName)) ∈ lw_all := lw_g (lw_at lw_m3 151 rfl) rfl
theorem q758 : (Jvm.Cond.code ({ cls := "FreightRoads$ByPrice", name := "<init>", desc := "(LFreightRoads;)V" } : Jvm.MethodName) prog_2_method_1_code (2 : Nat) (Option.none : Option Jvm.ClassFile.FieldType)) ∈ lw_all := lw_g (lw_at lw_m3 152 rfl) rfl
theorem q759 : (Jvm.Cond.methodLink "FreightRoads$ByPrice" (7 : Nat) ({ cls := "java/lang/Object", name := "<init>", desc := "()V" } : Jvm.MethodName)) ∈ lw_all := lw_g (lw_at lw_m3 153 rfl) rfl
theorem q760 : (Jvm.Cond.fieldLink "FreightRoads$ByPrice" (1 : Nat) "FreightRoads$ByPrice" "this$0" "LFreightRoads;") ∈ lw_all := lw_g (lw_at lw_m3 154 rfl) rfl
theorem q761 : (Jvm.Cond.laysFinal "FreightRoads$ByPrice" "FreightRoads$ByPrice" "this$0" "LFreightRoads;") ∈ lw_all := lw_g (lw_at lw_m3 155 rfl) rfl
theorem q762 : (Jvm.Cond.soleField "FreightRoads$ByPrice" "this$0") ∈ lw_all := lw_g (lw_at lw_m3 156 rfl) rfl
theorem q763 : (Jvm.Cond.superclass "FreightRoads$ByPrice" "java/lang/Object") ∈ lw_all := lw_g (lw_at lw_m3 157 rfl) rfl
theorem q982 : (Jvm.Cond.selects "FreightRoads$ByPrice" ({ cls := "java/lang/Object", name := "getClass", desc := "()Ljava/lang/Class;" } : Jvm.MethodName) ({ cls := "java/lang/Object", name := "getClass", desc := "()Ljava/lang/Class;" } : Jvm.MethodName)) ∈ lw_all := lw_g (lw_at lw_m4 136 rfl) rfl
theorem q1227 : (Jvm.Cond.fieldLinkNest "FreightRoads$ByPrice" (13 : Nat) "FreightRoads" "net" "LFreightRoads$Net;" "FreightRoads") ∈ lw_tbl := lw_at lw_m5 141 rfl
theorem q1619 : (Jvm.Cond.castable "FreightRoads$ByPrice" "java/util/Comparator") ∈ lw_tbl := lw_at lw_m7 53 rfl
theorem q1620 : (Jvm.Cond.selects "FreightRoads$ByPrice" ({ cls := "java/util/Comparator", name := "compare", desc := "(Ljava/lang/Object;Ljava/lang/Object;)I" } : Jvm.MethodName) ({ cls := "FreightRoads$ByPrice", name := "compare", desc := "(Ljava/lang/Object;Ljava/lang/Object;)I" } : Jvm.MethodName)) ∈ lw_all := lw_g (lw_at lw_m7 54 rfl) rfl
theorem q1621 : (Jvm.Cond.unhidden "FreightRoads$ByPrice" "compare" "(Ljava/lang/Object;Ljava/lang/Object;)I") ∈ lw_tbl := lw_at lw_m7 55 rfl
theorem q1622 : (Jvm.Cond.instanceMethod ({ cls := "FreightRoads$ByPrice", name := "compare", desc := "(Ljava/lang/Object;Ljava/lang/Object;)I" } : Jvm.MethodName)) ∈ lw_all := lw_g (lw_at lw_m7 56 rfl) rfl
theorem q1623 : (Jvm.Cond.publicMethod ({ cls := "FreightRoads$ByPrice", name := "compare", desc := "(Ljava/lang/Object;Ljava/lang/Object;)I" } : Jvm.MethodName)) ∈ lw_tbl := lw_at lw_m7 57 rfl
theorem q1624 : (Jvm.Cond.code ({ cls := "FreightRoads$ByPrice", name := "compare", desc := "(Ljava/lang/Object;Ljava/lang/Object;)I" } : Jvm.MethodName) prog_2_method_3_code (3 : Nat) (Option.some Jvm.ClassFile.FieldType.int)) ∈ lw_all := lw_g (lw_at lw_m7 58 rfl) rfl
theorem q1625 : (Jvm.Cond.classLink "FreightRoads$ByPrice" (26 : Nat) "java/lang/Integer") ∈ lw_all := lw_g (lw_at lw_m7 59 rfl) rfl
theorem q1626 : (Jvm.Cond.methodLink "FreightRoads$ByPrice" (41 : Nat) ({ cls := "FreightRoads$ByPrice", name := "compare", desc := "(Ljava/lang/Integer;Ljava/lang/Integer;)I" } : Jvm.MethodName)) ∈ lw_all := lw_g (lw_at lw_m7 60 rfl) rfl
theorem q1627 : (Jvm.Cond.instanceMethod ({ cls := "FreightRoads$ByPrice", name := "compare", desc := "(Ljava/lang/Integer;Ljava/lang/Integer;)I" } : Jvm.MethodName)) ∈ lw_all := lw_g (lw_at lw_m7 61 rfl) rfl
theorem q1628 : (Jvm.Cond.selects "FreightRoads$ByPrice" ({ cls := "FreightRoads$ByPrice", name := "compare", desc := "(Ljava/lang/Integer;Ljava/lang/Integer;)I" } : Jvm.MethodName) ({ cls := "FreightRoads$ByPrice", name := "compare", desc := "(Ljava/lang/Integer;Ljava/lang/Integer;)I" } : Jvm.MethodName)) ∈ lw_all := lw_g (lw_at lw_m7 62 rfl) rfl
theorem q1629 : (Jvm.Cond.code ({ cls := "FreightRoads$ByPrice", name := "compare", desc := "(Ljava/lang/Integer;Ljava/lang/Integer;)I" } : Jvm.MethodName) prog_2_method_2_code (4 : Nat) (Option.some Jvm.ClassFile.FieldType.int)) ∈ lw_all := lw_g (lw_at lw_m7 63 rfl) rfl
theorem q1630 : (Jvm.Cond.methodLink "FreightRoads$ByPrice" (25 : Nat) ({ cls := "java/lang/Integer", name := "intValue", desc := "()I" } : Jvm.MethodName)) ∈ lw_all := lw_g (lw_at lw_m7 64 rfl) rfl
theorem q1634 : (Jvm.Cond.methodLink "FreightRoads$ByPrice" (31 : Nat) ({ cls := "java/util/BitSet", name := "get", desc := "(I)Z" } : Jvm.MethodName)) ∈ lw_all := lw_g (lw_at lw_m7 68 rfl) rfl
theorem q2124 : (Jvm.Cond.selects "FreightRoads$ByPrice" ({ cls := "java/lang/Object", name := "equals", desc := "(Ljava/lang/Object;)Z" } : Jvm.MethodName) ({ cls := "java/lang/Object", name := "equals", desc := "(Ljava/lang/Object;)Z" } : Jvm.MethodName)) ∈ lw_all := lw_g (lw_at lw_m9 78 rfl) rfl
theorem q3613 : (Jvm.Cond.castable "FreightRoads$ByPrice" "java/lang/Object") ∈ lw_tbl := lw_at lw_m15 127 rfl
set_option maxRecDepth 100000
abbrev cX4_init : ByteArray := prog_12_method_1_code
def yX4_init : MethodName := ⟨RX4, "<init>", "(LFreightRoads$Tells;)V"⟩
def dkwX4_init_0 : List UInt8 := [42, 183, 0, 1, 42, 43, 181, 0, 7, 177]
abbrev dktX4_init_0 : List UInt8 := dkwX4_init_0 ++ []
theorem dksX4_init_0 : cX4_init.data.toList.drop 0 = dktX4_init_0 := by decide +kernel
theorem dX4_init_0 : decode cX4_init 0 = .ok (.aload_n 0, 1) := dk_42 (dk_at dksX4_init_0 0 rfl rfl)
theorem dX4_init_1 : decode cX4_init 1 = .ok (.invokespecial 1, 3) := dk_183 0 1 (dk_at dksX4_init_0 1 rfl rfl)
theorem dX4_init_4 : decode cX4_init 4 = .ok (.aload_n 0, 1) := dk_42 (dk_at dksX4_init_0 4 rfl rfl)
theorem dX4_init_5 : decode cX4_init 5 = .ok (.aload_n 1, 1) := dk_43 (dk_at dksX4_init_0 5 rfl rfl)
theorem dX4_init_6 : decode cX4_init 6 = .ok (.putfield 7, 3) := dk_181 0 7 (dk_at dksX4_init_0 6 rfl rfl)
theorem dX4_init_9 : decode cX4_init 9 = .ok (.return_, 1) := dk_177 (dk_at dksX4_init_0 9 rfl rfl)
theorem q155 : (Jvm.Cond.initialized "FreightRoads$Teller") ∈ lw_all := lw_g (lw_at lw_m1 29 rfl) rfl
theorem q769 : (Jvm.Cond.instantiable "FreightRoads$Teller" (1 : Nat)) ∈ lw_all := lw_g (lw_at lw_m3 163 rfl) rfl
theorem q774 : (Jvm.Cond.instanceMethod ({ cls := "FreightRoads$Teller", name := "<init>", desc := "(LFreightRoads$Tells;)V" } : Jvm.MethodName)) ∈ lw_all := lw_g (lw_at lw_m3 168 rfl) rfl
theorem q775 : (Jvm.Cond.code ({ cls := "FreightRoads$Teller", name := "<init>", desc := "(LFreightRoads$Tells;)V" } : Jvm.MethodName) prog_12_method_1_code (2 : Nat) (Option.none : Option Jvm.ClassFile.FieldType)) ∈ lw_all := lw_g (lw_at lw_m3 169 rfl) rfl
theorem q776 : (Jvm.Cond.methodLink "FreightRoads$Teller" (1 : Nat) ({ cls := "java/lang/Object", name := "<init>", desc := "()V" } : Jvm.MethodName)) ∈ lw_all := lw_g (lw_at lw_m3 170 rfl) rfl
theorem q777 : (Jvm.Cond.fieldLink "FreightRoads$Teller" (7 : Nat) "FreightRoads$Teller" "tells" "LFreightRoads$Tells;") ∈ lw_all := lw_g (lw_at lw_m3 171 rfl) rfl
theorem q779 : (Jvm.Cond.laysFinal "FreightRoads$Teller" "FreightRoads$Teller" "tells" "LFreightRoads$Tells;") ∈ lw_all := lw_g (lw_at lw_m3 173 rfl) rfl
theorem q780 : (Jvm.Cond.soleField "FreightRoads$Teller" "tells") ∈ lw_all := lw_g (lw_at lw_m3 174 rfl) rfl
theorem q781 : (Jvm.Cond.superclass "FreightRoads$Teller" "java/lang/Object") ∈ lw_all := lw_g (lw_at lw_m3 175 rfl) rfl
theorem q990 : (Jvm.Cond.selects "FreightRoads$Teller" ({ cls := "java/lang/Object", name := "getClass", desc := "()Ljava/lang/Class;" } : Jvm.MethodName) ({ cls := "java/lang/Object", name := "getClass", desc := "()Ljava/lang/Class;" } : Jvm.MethodName)) ∈ lw_all := lw_g (lw_at lw_m4 144 rfl) rfl
theorem q2132 : (Jvm.Cond.selects "FreightRoads$Teller" ({ cls := "java/lang/Object", name := "equals", desc := "(Ljava/lang/Object;)Z" } : Jvm.MethodName) ({ cls := "java/lang/Object", name := "equals", desc := "(Ljava/lang/Object;)Z" } : Jvm.MethodName)) ∈ lw_all := lw_g (lw_at lw_m9 86 rfl) rfl
theorem q3614 : (Jvm.Cond.castable "FreightRoads$Teller" "java/lang/Object") ∈ lw_tbl := lw_at lw_m15 128 rfl
set_option maxRecDepth 100000
abbrev cX6_init : ByteArray := prog_10_method_1_code
def yX6_init : MethodName := ⟨RX6, "<init>", "()V"⟩
def dkwX6_init_0 : List UInt8 := [42, 183, 0, 3, 42, 16, 8, 188, 10, 181, 0, 9, 42, 16, 24, 189, 0, 15, 181, 0, 17, 177]
abbrev dktX6_init_0 : List UInt8 := dkwX6_init_0 ++ []
theorem dksX6_init_0 : cX6_init.data.toList.drop 0 = dktX6_init_0 := by decide +kernel
theorem dX6_init_0 : decode cX6_init 0 = .ok (.aload_n 0, 1) := dk_42 (dk_at dksX6_init_0 0 rfl rfl)
theorem dX6_init_1 : decode cX6_init 1 = .ok (.invokespecial 3, 3) := dk_183 0 3 (dk_at dksX6_init_0 1 rfl rfl)
theorem dX6_init_4 : decode cX6_init 4 = .ok (.aload_n 0, 1) := dk_42 (dk_at dksX6_init_0 4 rfl rfl)
theorem dX6_init_5 : decode cX6_init 5 = .ok (.bipush 8, 2) := dk_16 8 (dk_at dksX6_init_0 5 rfl rfl)
theorem dX6_init_7 : decode cX6_init 7 = .ok (.newarray .int, 2) := dk_188_10 (dk_at dksX6_init_0 7 rfl rfl)
theorem dX6_init_9 : decode cX6_init 9 = .ok (.putfield 9, 3) := dk_181 0 9 (dk_at dksX6_init_0 9 rfl rfl)
theorem dX6_init_12 : decode cX6_init 12 = .ok (.aload_n 0, 1) := dk_42 (dk_at dksX6_init_0 12 rfl rfl)
theorem dX6_init_13 : decode cX6_init 13 = .ok (.bipush 24, 2) := dk_16 24 (dk_at dksX6_init_0 13 rfl rfl)
theorem dX6_init_15 : decode cX6_init 15 = .ok (.anewarray 15, 3) := dk_189 0 15 (dk_at dksX6_init_0 15 rfl rfl)
theorem dX6_init_18 : decode cX6_init 18 = .ok (.putfield 17, 3) := dk_181 0 17 (dk_at dksX6_init_0 18 rfl rfl)
theorem dX6_init_21 : decode cX6_init 21 = .ok (.return_, 1) := dk_177 (dk_at dksX6_init_0 21 rfl rfl)
theorem q171 : (Jvm.Cond.initialized "FreightRoads$Shot") ∈ lw_all := lw_g (lw_at lw_m1 45 rfl) rfl
theorem q988 : (Jvm.Cond.selects "FreightRoads$Shot" ({ cls := "java/lang/Object", name := "getClass", desc := "()Ljava/lang/Class;" } : Jvm.MethodName) ({ cls := "java/lang/Object", name := "getClass", desc := "()Ljava/lang/Class;" } : Jvm.MethodName)) ∈ lw_all := lw_g (lw_at lw_m4 142 rfl) rfl
theorem q1433 : (Jvm.Cond.instantiable "FreightRoads$Shot" (4 : Nat)) ∈ lw_all := lw_g (lw_at lw_m6 107 rfl) rfl
theorem q1435 : (Jvm.Cond.instanceMethod ({ cls := "FreightRoads$Shot", name := "<init>", desc := "()V" } : Jvm.MethodName)) ∈ lw_all := lw_g (lw_at lw_m6 109 rfl) rfl
theorem q1436 : (Jvm.Cond.code ({ cls := "FreightRoads$Shot", name := "<init>", desc := "()V" } : Jvm.MethodName) prog_10_method_1_code (1 : Nat) (Option.none : Option Jvm.ClassFile.FieldType)) ∈ lw_all := lw_g (lw_at lw_m6 110 rfl) rfl
theorem q1437 : (Jvm.Cond.methodLink "FreightRoads$Shot" (3 : Nat) ({ cls := "java/lang/Object", name := "<init>", desc := "()V" } : Jvm.MethodName)) ∈ lw_all := lw_g (lw_at lw_m6 111 rfl) rfl
theorem q1438 : (Jvm.Cond.classLink "FreightRoads$Shot" (15 : Nat) "FreightRoads$Road") ∈ lw_all := lw_g (lw_at lw_m6 112 rfl) rfl
theorem q1440 : (Jvm.Cond.fieldLink "FreightRoads$Shot" (9 : Nat) "FreightRoads$Shot" "supplies" "[I") ∈ lw_all := lw_g (lw_at lw_m6 114 rfl) rfl
theorem q1442 : (Jvm.Cond.fieldLink "FreightRoads$Shot" (17 : Nat) "FreightRoads$Shot" "roads" "[LFreightRoads$Road;") ∈ lw_all := lw_g (lw_at lw_m6 116 rfl) rfl
theorem q1446 : (Jvm.Cond.laysFinal "FreightRoads$Shot" "FreightRoads$Shot" "supplies" "[I") ∈ lw_all := lw_g (lw_at lw_m6 120 rfl) rfl
theorem q1447 : (Jvm.Cond.soleField "FreightRoads$Shot" "supplies") ∈ lw_all := lw_g (lw_at lw_m6 121 rfl) rfl
theorem q1448 : (Jvm.Cond.laysFinal "FreightRoads$Shot" "FreightRoads$Shot" "roads" "[LFreightRoads$Road;") ∈ lw_all := lw_g (lw_at lw_m6 122 rfl) rfl
theorem q1449 : (Jvm.Cond.soleField "FreightRoads$Shot" "roads") ∈ lw_all := lw_g (lw_at lw_m6 123 rfl) rfl
theorem q1450 : (Jvm.Cond.lays "FreightRoads$Shot" "FreightRoads$Shot" "towns" "I") ∈ lw_all := lw_g (lw_at lw_m6 124 rfl) rfl
theorem q1451 : (Jvm.Cond.soleField "FreightRoads$Shot" "towns") ∈ lw_all := lw_g (lw_at lw_m6 125 rfl) rfl
theorem q1452 : (Jvm.Cond.lays "FreightRoads$Shot" "FreightRoads$Shot" "many" "I") ∈ lw_all := lw_g (lw_at lw_m6 126 rfl) rfl
theorem q1453 : (Jvm.Cond.soleField "FreightRoads$Shot" "many") ∈ lw_all := lw_g (lw_at lw_m6 127 rfl) rfl
theorem q1454 : (Jvm.Cond.superclass "FreightRoads$Shot" "java/lang/Object") ∈ lw_all := lw_g (lw_at lw_m6 128 rfl) rfl
theorem q2130 : (Jvm.Cond.selects "FreightRoads$Shot" ({ cls := "java/lang/Object", name := "equals", desc := "(Ljava/lang/Object;)Z" } : Jvm.MethodName) ({ cls := "java/lang/Object", name := "equals", desc := "(Ljava/lang/Object;)Z" } : Jvm.MethodName)) ∈ lw_all := lw_g (lw_at lw_m9 84 rfl) rfl
theorem q3622 : (Jvm.Cond.castable "FreightRoads$Shot" "java/lang/Object") ∈ lw_tbl := lw_at lw_m15 136 rfl
set_option maxRecDepth 100000
abbrev cX7_copy : ByteArray := prog_9_method_4_code
def yX7_copy : MethodName := ⟨RX7, "copy", "()LFreightRoads$Road;"⟩
def dkwX7_copy_1 : List UInt8 := [180, 0, 24, 182, 0, 41, 176]
abbrev dktX7_copy_1 : List UInt8 := dkwX7_copy_1 ++ []
def dkwX7_copy_0 : List UInt8 := [187, 0, 10, 89, 42, 180, 0, 9, 42, 180, 0, 15, 183, 0, 38, 42, 180, 0, 18, 42, 180, 0, 21, 42]
abbrev dktX7_copy_0 : List UInt8 := dkwX7_copy_0 ++ dktX7_copy_1
theorem dksX7_copy_0 : cX7_copy.data.toList.drop 0 = dktX7_copy_0 := by decide +kernel
theorem dksX7_copy_1 : cX7_copy.data.toList.drop 24 = dktX7_copy_1 := dk_seg dksX7_copy_0 24 rfl rfl
theorem dX7_copy_0 : decode cX7_copy 0 = .ok (.new 10, 3) := dk_187 0 10 (dk_at dksX7_copy_0 0 rfl rfl)
theorem dX7_copy_3 : decode cX7_copy 3 = .ok (.dup, 1) := dk_89 (dk_at dksX7_copy_0 3 rfl rfl)
theorem dX7_copy_4 : decode cX7_copy 4 = .ok (.aload_n 0, 1) := dk_42 (dk_at dksX7_copy_0 4 rfl rfl)
theorem dX7_copy_5 : decode cX7_copy 5 = .ok (.getfield 9, 3) := dk_180 0 9 (dk_at dksX7_copy_0 5 rfl rfl)
theorem dX7_copy_8 : decode cX7_copy 8 = .ok (.aload_n 0, 1) := dk_42 (dk_at dksX7_copy_0 8 rfl rfl)
theorem dX7_copy_9 : decode cX7_copy 9 = .ok (.getfield 15, 3) := dk_180 0 15 (dk_at dksX7_copy_0 9 rfl rfl)
theorem dX7_copy_12 : decode cX7_copy 12 = .ok (.invokespecial 38, 3) := dk_183 0 38 (dk_at dksX7_copy_0 12 rfl rfl)
theorem dX7_copy_15 : decode cX7_copy 15 = .ok (.aload_n 0, 1) := dk_42 (dk_at dksX7_copy_0 15 rfl rfl)
theorem dX7_copy_16 : decode cX7_copy 16 = .ok (.getfield 18, 3) := dk_180 0 18 (dk_at dksX7_copy_0 16 rfl rfl)
theorem dX7_copy_19 : decode cX7_copy 19 = .ok (.aload_n 0, 1) := dk_42 (dk_at dksX7_copy_0 19 rfl rfl)
theorem dX7_copy_20 : decode cX7_copy 20 = .ok (.getfield 21, 3) := dk_180 0 21 (dk_at dksX7_copy_0 20 rfl rfl)
theorem dX7_copy_23 : decode cX7_copy 23 = .ok (.aload_n 0, 1) := dk_42 (dk_at dksX7_copy_0 23 rfl rfl)
theorem dX7_copy_24 : decode cX7_copy 24 = .ok (.getfield 24, 3) := dk_180 0 24 (dk_at dksX7_copy_1 0 rfl rfl)
theorem dX7_copy_27 : decode cX7_copy 27 = .ok (.invokevirtual 41, 3) := dk_182 0 41 (dk_at dksX7_copy_1 3 rfl rfl)
theorem dX7_copy_30 : decode cX7_copy 30 = .ok (.areturn, 1) := dk_176 (dk_at dksX7_copy_1 6 rfl rfl)
abbrev cX7_init : ByteArray := prog_9_method_1_code
def yX7_init : MethodName := ⟨RX7, "<init>", "(II)V"⟩
def dkwX7_init_0 : List UInt8 := [42, 183, 0, 3, 42, 27, 181, 0, 9, 42, 28, 181, 0, 15, 177]
abbrev dktX7_init_0 : List UInt8 := dkwX7_init_0 ++ []
theorem dksX7_init_0 : cX7_init.data.toList.drop 0 = dktX7_init_0 := by decide +kernel
theorem dX7_init_0 : decode cX7_init 0 = .ok (.aload_n 0, 1) := dk_42 (dk_at dksX7_init_0 0 rfl rfl)
theorem dX7_init_1 : decode cX7_init 1 = .ok (.invokespecial 3, 3) := dk_183 0 3 (dk_at dksX7_init_0 1 rfl rfl)
theorem dX7_init_4 : decode cX7_init 4 = .ok (.aload_n 0, 1) := dk_42 (dk_at dksX7_init_0 4 rfl rfl)
theorem dX7_init_5 : decode cX7_init 5 = .ok (.iload_n 1, 1) := dk_27 (dk_at dksX7_init_0 5 rfl rfl)
theorem dX7_init_6 : decode cX7_init 6 = .ok (.putfield 9, 3) := dk_181 0 9 (dk_at dksX7_init_0 6 rfl rfl)
theorem dX7_init_9 : decode cX7_init 9 = .ok (.aload_n 0, 1) := dk_42 (dk_at dksX7_init_0 9 rfl rfl)
theorem dX7_init_10 : decode cX7_init 10 = .ok (.iload_n 2, 1) := dk_28 (dk_at dksX7_init_0 10 rfl rfl)
theorem dX7_init_11 : decode cX7_init 11 = .ok (.putfield 15, 3) := dk_181 0 15 (dk_at dksX7_init_0 11 rfl rfl)
theorem dX7_init_14 : decode cX7_init 14 = .ok (.return_, 1) := dk_177 (dk_at dksX7_init_0 14 rfl rfl)
abbrev cX7_bounded : ByteArray := prog_9_method_2_code
def yX7_bounded : MethodName := ⟨RX7, "bounded", "(IIJ)LFreightRoads$Road;"⟩
def dkwX7_bounded_0 : List UInt8 := [42, 27, 181, 0, 18, 42, 28, 181, 0, 21, 42, 33, 181, 0, 24, 42, 176]
abbrev dktX7_bounded_0 : List UInt8 := dkwX7_bounded_0 ++ []
theorem dksX7_bounded_0 : cX7_bounded.data.toList.drop 0 = dktX7_bounded_0 := by decide +kernel
theorem dX7_bounded_0 : decode cX7_bounded 0 = .ok (.aload_n 0, 1) := dk_42 (dk_at dksX7_bounded_0 0 rfl rfl)
theorem dX7_bounded_1 : decode cX7_bounded 1 = .ok (.iload_n 1, 1) := dk_27 (dk_at dksX7_bounded_0 1 rfl rfl)
theorem dX7_bounded_2 : decode cX7_bounded 2 = .ok (.putfield 18, 3) := dk_181 0 18 (dk_at dksX7_bounded_0 2 rfl rfl)
theorem dX7_bounded_5 : decode cX7_bounded 5 = .ok (.aload_n 0, 1) := dk_42 (dk_at dksX7_bounded_0 5 rfl rfl)
theorem dX7_bounded_6 : decode cX7_bounded 6 = .ok (.iload_n 2, 1) := dk_28 (dk_at dksX7_bounded_0 6 rfl rfl)
theorem dX7_bounded_7 : decode cX7_bounded 7 = .ok (.putfield 21, 3) := dk_181 0 21 (dk_at dksX7_bounded_0 7 rfl rfl)
theorem dX7_bounded_10 : decode cX7_bounded 10 = .ok (.aload_n 0, 1) := dk_42 (dk_at dksX7_bounded_0 10 rfl rfl)
theorem dX7_bounded_11 : decode cX7_bounded 11 = .ok (.lload_n 3, 1) := dk_33 (dk_at dksX7_bounded_0 11 rfl rfl)
theorem dX7_bounded_12 : decode cX7_bounded 12 = .ok (.putfield 24, 3) := dk_181 0 24 (dk_at dksX7_bounded_0 12 rfl rfl)
theorem dX7_bounded_15 : decode cX7_bounded 15 = .ok (.aload_n 0, 1) := dk_42 (dk_at dksX7_bounded_0 15 rfl rfl)
theorem dX7_bounded_16 : decode cX7_bounded 16 = .ok (.areturn, 1) := dk_176 (dk_at dksX7_bounded_0 16 rfl rfl)
abbrev cX7_may : ByteArray := prog_9_method_3_code
def yX7_may : MethodName := ⟨RX7, "may", "(IIJ)Z"⟩
def dkwX7_may_1 : List UInt8 := [20, 0, 34, 20, 0, 36, 184, 0, 28, 153, 0, 7, 4, 167, 0, 4, 3, 172]
abbrev dktX7_may_1 : List UInt8 := dkwX7_may_1 ++ []
def dkwX7_may_0 : List UInt8 := [26, 133, 9, 27, 133, 184, 0, 28, 153, 0, 32, 27, 133, 9, 20, 0, 32, 184, 0, 28, 153, 0, 20, 32]
abbrev dktX7_may_0 : List UInt8 := dkwX7_may_0 ++ dktX7_may_1
theorem dksX7_may_0 : cX7_may.data.toList.drop 0 = dktX7_may_0 := by decide +kernel
theorem dksX7_may_1 : cX7_may.data.toList.drop 24 = dktX7_may_1 := dk_seg dksX7_may_0 24 rfl rfl
theorem dX7_may_0 : decode cX7_may 0 = .ok (.iload_n 0, 1) := dk_26 (dk_at dksX7_may_0 0 rfl rfl)
theorem dX7_may_1 : decode cX7_may 1 = .ok (.i2l, 1) := dk_133 (dk_at dksX7_may_0 1 rfl rfl)
theorem dX7_may_2 : decode cX7_may 2 = .ok (.lconst 0, 1) := dk_9 (dk_at dksX7_may_0 2 rfl rfl)
theorem dX7_may_3 : decode cX7_may 3 = .ok (.iload_n 1, 1) := dk_27 (dk_at dksX7_may_0 3 rfl rfl)
theorem dX7_may_4 : decode cX7_may 4 = .ok (.i2l, 1) := dk_133 (dk_at dksX7_may_0 4 rfl rfl)
theorem dX7_may_5 : decode cX7_may 5 = .ok (.invokestatic 28, 3) := dk_184 0 28 (dk_at dksX7_may_0 5 rfl rfl)
theorem dX7_may_8 : decode cX7_may 8 = .ok (.ifCond .eq 32, 3) := dk_153 0 32 (dk_at dksX7_may_0 8 rfl rfl)
theorem dX7_may_11 : decode cX7_may 11 = .ok (.iload_n 1, 1) := dk_27 (dk_at dksX7_may_0 11 rfl rfl)
theorem dX7_may_12 : decode cX7_may 12 = .ok (.i2l, 1) := dk_133 (dk_at dksX7_may_0 12 rfl rfl)
theorem dX7_may_13 : decode cX7_may 13 = .ok (.lconst 0, 1) := dk_9 (dk_at dksX7_may_0 13 rfl rfl)
theorem dX7_may_14 : decode cX7_may 14 = .ok (.ldc2_w 32, 3) := dk_20 0 32 (dk_at dksX7_may_0 14 rfl rfl)
theorem dX7_may_17 : decode cX7_may 17 = .ok (.invokestatic 28, 3) := dk_184 0 28 (dk_at dksX7_may_0 17 rfl rfl)
theorem dX7_may_20 : decode cX7_may 20 = .ok (.ifCond .eq 20, 3) := dk_153 0 20 (dk_at dksX7_may_0 20 rfl rfl)
theorem dX7_may_23 : decode cX7_may 23 = .ok (.lload_n 2, 1) := dk_32 (dk_at dksX7_may_0 23 rfl rfl)
theorem dX7_may_24 : decode cX7_may 24 = .ok (.ldc2_w 34, 3) := dk_20 0 34 (dk_at dksX7_may_1 0 rfl rfl)
theorem dX7_may_27 : decode cX7_may 27 = .ok (.ldc2_w 36, 3) := dk_20 0 36 (dk_at dksX7_may_1 3 rfl rfl)
theorem dX7_may_30 : decode cX7_may 30 = .ok (.invokestatic 28, 3) := dk_184 0 28 (dk_at dksX7_may_1 6 rfl rfl)
theorem dX7_may_33 : decode cX7_may 33 = .ok (.ifCond .eq 7, 3) := dk_153 0 7 (dk_at dksX7_may_1 9 rfl rfl)
theorem dX7_may_36 : decode cX7_may 36 = .ok (.iconst 1, 1) := dk_4 (dk_at dksX7_may_1 12 rfl rfl)
theorem dX7_may_37 : decode cX7_may 37 = .ok (.goto 4, 3) := dk_167 0 4 (dk_at dksX7_may_1 13 rfl rfl)
theorem dX7_may_40 : decode cX7_may 40 = .ok (.iconst 0, 1) := dk_3 (dk_at dksX7_may_1 16 rfl rfl)
theorem dX7_may_41 : decode cX7_may 41 = .ok (.ireturn, 1) := dk_172 (dk_at dksX7_may_1 17 rfl rfl)
abbrev cX7_figure : ByteArray := prog_9_method_5_code
def yX7_figure : MethodName := ⟨RX7, "figure", "(I)J"⟩
def dkwX7_figure_3 : List UInt8 := [42, 180, 0, 21, 133, 167, 0, 7, 42, 180, 0, 24, 173]
abbrev dktX7_figure_3 : List UInt8 := dkwX7_figure_3 ++ []
def dkwX7_figure_2 : List UInt8 := [42, 180, 0, 9, 133, 167, 0, 31, 42, 180, 0, 15, 133, 167, 0, 23, 42, 180, 0, 18, 133, 167, 0, 15]
abbrev dktX7_figure_2 : List UInt8 := dkwX7_figure_2 ++ dktX7_figure_3
def dkwX7_figure_1 : List UInt8 := [170, 0, 0, 0, 0, 0, 63, 0, 0, 0, 0, 0, 0, 0, 3, 0, 0, 0, 31, 0, 0, 0, 39, 0, 0, 0, 47, 0, 0, 0, 55]
abbrev dktX7_figure_1 : List UInt8 := dkwX7_figure_1 ++ dktX7_figure_2
def dkwX7_figure_0 : List UInt8 := [27]
abbrev dktX7_figure_0 : List UInt8 := dkwX7_figure_0 ++ dktX7_figure_1
theorem dksX7_figure_0 : cX7_figure.data.toList.drop 0 = dktX7_figure_0 := by decide +kernel
theorem dksX7_figure_1 : cX7_figure.data.toList.drop 1 = dktX7_figure_1 := dk_seg dksX7_figure_0 1 rfl rfl
theorem dksX7_figure_2 : cX7_figure.data.toList.drop 32 = dktX7_figure_2 := dk_seg dksX7_figure_1 31 rfl rfl
theorem dksX7_figure_3 : cX7_figure.data.toList.drop 56 = dktX7_figure_3 := dk_seg dksX7_figure_2 24 rfl rfl
theorem dX7_figure_0 : decode cX7_figure 0 = .ok (.iload_n 1, 1) := dk_27 (dk_at dksX7_figure_0 0 rfl rfl)
theorem dX7_figure_1 : decode cX7_figure 1 = .ok (.tableswitch 63 0 3 #[31, 39, 47, 55], 31) := by decide +kernel
theorem dX7_figure_32 : decode cX7_figure 32 = .ok (.aload_n 0, 1) := dk_42 (dk_at dksX7_figure_2 0 rfl rfl)
theorem dX7_figure_33 : decode cX7_figure 33 = .ok (.getfield 9, 3) := dk_180 0 9 (dk_at dksX7_figure_2 1 rfl rfl)
theorem dX7_figure_36 : decode cX7_figure 36 = .ok (.i2l, 1) := dk_133 (dk_at dksX7_figure_2 4 rfl rfl)
theorem dX7_figure_37 : decode cX7_figure 37 = .ok (.goto 31, 3) := dk_167 0 31 (dk_at dksX7_figure_2 5 rfl rfl)
theorem dX7_figure_40 : decode cX7_figure 40 = .ok (.aload_n 0, 1) := dk_42 (dk_at dksX7_figure_2 8 rfl rfl)
theorem dX7_figure_41 : decode cX7_figure 41 = .ok (.getfield 15, 3) := dk_180 0 15 (dk_at dksX7_figure_2 9 rfl rfl)
theorem dX7_figure_44 : decode cX7_figure 44 = .ok (.i2l, 1) := dk_133 (dk_at dksX7_figure_2 12 rfl rfl)
theorem dX7_figure_45 : decode cX7_figure 45 = .ok (.goto 23, 3) := dk_167 0 23 (dk_at dksX7_figure_2 13 rfl rfl)
theorem dX7_figure_48 : decode cX7_figure 48 = .ok (.aload_n 0, 1) := dk_42 (dk_at dksX7_figure_2 16 rfl rfl)
theorem dX7_figure_49 : decode cX7_figure 49 = .ok (.getfield 18, 3) := dk_180 0 18 (dk_at dksX7_figure_2 17 rfl rfl)
theorem dX7_figure_52 : decode cX7_figure 52 = .ok (.i2l, 1) := dk_133 (dk_at dksX7_figure_2 20 rfl rfl)
theorem dX7_figure_53 : decode cX7_figure 53 = .ok (.goto 15, 3) := dk_167 0 15 (dk_at dksX7_figure_2 21 rfl rfl)
theorem dX7_figure_56 : decode cX7_figure 56 = .ok (.aload_n 0, 1) := dk_42 (dk_at dksX7_figure_3 0 rfl rfl)
theorem dX7_figure_57 : decode cX7_figure 57 = .ok (.getfield 21, 3) := dk_180 0 21 (dk_at dksX7_figure_3 1 rfl rfl)
theorem dX7_figure_60 : decode cX7_figure 60 = .ok (.i2l, 1) := dk_133 (dk_at dksX7_figure_3 4 rfl rfl)
theorem dX7_figure_61 : decode cX7_figure 61 = .ok (.goto 7, 3) := dk_167 0 7 (dk_at dksX7_figure_3 5 rfl rfl)
theorem dX7_figure_64 : decode cX7_figure 64 = .ok (.aload_n 0, 1) := dk_42 (dk_at dksX7_figure_3 8 rfl rfl)
theorem dX7_figure_65 : decode cX7_figure 65 = .ok (.getfield 24, 3) := dk_180 0 24 (dk_at dksX7_figure_3 9 rfl rfl)
theorem dX7_figure_68 : decode cX7_figure 68 = .ok (.lreturn, 1) := dk_173 (dk_at dksX7_figure_3 12 rfl rfl)
theorem q172 : (Jvm.Cond.initialized "FreightRoads$Road") ∈ lw_all := lw_g (lw_at lw_m1 46 rfl) rfl
theorem q987 : (Jvm.Cond.selects "FreightRoads$Road" ({ cls := "java/lang/Object", name := "getClass", desc := "()Ljava/lang/Class;" } : Jvm.MethodName) ({ cls := "java/lang/Object", name := "getClass", desc := "()Ljava/lang/Class;" } : Jvm.MethodName)) ∈ lw_all := lw_g (lw_at lw_m4 141 rfl) rfl
theorem q1349 : (Jvm.Cond.instanceMethod ({ cls := "FreightRoads$Road", name := "copy", desc := "()LFreightRoads$Road;" } : Jvm.MethodName)) ∈ lw_all := lw_g (lw_at lw_m6 23 rfl) rfl
theorem q1350 : (Jvm.Cond.selects "FreightRoads$Road" ({ cls := "FreightRoads$Road", name := "copy", desc := "()LFreightRoads$Road;" } : Jvm.MethodName) ({ cls := "FreightRoads$Road", name := "copy", desc := "()LFreightRoads$Road;" } : Jvm.MethodName)) ∈ lw_all := lw_g (lw_at lw_m6 24 rfl) rfl
theorem q1351 : (Jvm.Cond.code ({ cls := "FreightRoads$Road", name := "copy", desc := "()LFreightRoads$Road;" } : Jvm.MethodName) prog_9_method_4_code (1 : Nat) (Option.some (Jvm.ClassFile.FieldType.object "FreightRoads$Road"))) ∈ lw_all := lw_g (lw_at lw_m6 25 rfl) rfl
theorem q1352 : (Jvm.Cond.classLink "FreightRoads$Road" (10 : Nat) "FreightRoads$Road") ∈ lw_all := lw_g (lw_at lw_m6 26 rfl) rfl
theorem q1353 : (Jvm.Cond.instantiable "FreightRoads$Road" (5 : Nat)) ∈ lw_all := lw_g (lw_at lw_m6 27 rfl) rfl
theorem q1354 : (Jvm.Cond.methodLink "FreightRoads$Road" (38 : Nat) ({ cls := "FreightRoads$Road", name := "<init>", desc := "(II)V" } : Jvm.MethodName)) ∈ lw_all := lw_g (lw_at lw_m6 28 rfl) rfl
theorem q1355 : (Jvm.Cond.instanceMethod ({ cls := "FreightRoads$Road", name := "<init>", desc := "(II)V" } : Jvm.MethodName)) ∈ lw_all := lw_g (lw_at lw_m6 29 rfl) rfl
theorem q1356 : (Jvm.Cond.code ({ cls := "FreightRoads$Road", name := "<init>", desc := "(II)V" } : Jvm.MethodName) prog_9_method_1_code (3 : Nat) (Option.none : Option Jvm.ClassFile.FieldType)) ∈ lw_all := lw_g (lw_at lw_m6 30 rfl) rfl
theorem q1357 : (Jvm.Cond.methodLink "FreightRoads$Road" (3 : Nat) ({ cls := "java/lang/Object", name := "<init>", desc := "()V" } : Jvm.MethodName)) ∈ lw_all := lw_g (lw_at lw_m6 31 rfl) rfl
theorem q1358 : (Jvm.Cond.fieldLink "FreightRoads$Road" (9 : Nat) "FreightRoads$Road" "from" "I") ∈ lw_all := lw_g (lw_at lw_m6 32 rfl) rfl
theorem q1360 : (Jvm.Cond.fieldLink "FreightRoads$Road" (15 : Nat) "FreightRoads$Road" "to" "I") ∈ lw_all := lw_g (lw_at lw_m6 34 rfl) rfl
theorem q1362 : (Jvm.Cond.fieldLink "FreightRoads$Road" (18 : Nat) "FreightRoads$Road" "low" "I") ∈ lw_all := lw_g (lw_at lw_m6 36 rfl) rfl
theorem q1364 : (Jvm.Cond.fieldLink "FreightRoads$Road" (21 : Nat) "FreightRoads$Road" "most" "I") ∈ lw_all := lw_g (lw_at lw_m6 38 rfl) rfl
theorem q1366 : (Jvm.Cond.fieldLink "FreightRoads$Road" (24 : Nat) "FreightRoads$Road" "cost" "J") ∈ lw_all := lw_g (lw_at lw_m6 40 rfl) rfl
theorem q1368 : (Jvm.Cond.laysFinal "FreightRoads$Road" "FreightRoads$Road" "from" "I") ∈ lw_all := lw_g (lw_at lw_m6 42 rfl) rfl
theorem q1369 : (Jvm.Cond.soleField "FreightRoads$Road" "from") ∈ lw_all := lw_g (lw_at lw_m6 43 rfl) rfl
theorem q1370 : (Jvm.Cond.laysFinal "FreightRoads$Road" "FreightRoads$Road" "to" "I") ∈ lw_all := lw_g (lw_at lw_m6 44 rfl) rfl
theorem q1371 : (Jvm.Cond.soleField "FreightRoads$Road" "to") ∈ lw_all := lw_g (lw_at lw_m6 45 rfl) rfl
theorem q1372 : (Jvm.Cond.lays "FreightRoads$Road" "FreightRoads$Road" "low" "I") ∈ lw_all := lw_g (lw_at lw_m6 46 rfl) rfl
theorem q1373 : (Jvm.Cond.soleField "FreightRoads$Road" "low") ∈ lw_all := lw_g (lw_at lw_m6 47 rfl) rfl
theorem q1374 : (Jvm.Cond.lays "FreightRoads$Road" "FreightRoads$Road" "most" "I") ∈ lw_all := lw_g (lw_at lw_m6 48 rfl) rfl
theorem q1375 : (Jvm.Cond.soleField "FreightRoads$Road" "most") ∈ lw_all := lw_g (lw_at lw_m6 49 rfl) rfl
theorem q1376 : (Jvm.Cond.lays "FreightRoads$Road" "FreightRoads$Road" "cost" "J") ∈ lw_all := lw_g (lw_at lw_m6 50 rfl) rfl
theorem q1377 : (Jvm.Cond.soleField "FreightRoads$Road" "cost") ∈ lw_all := lw_g (lw_at lw_m6 51 rfl) rfl
theorem q1378 : (Jvm.Cond.superclass "FreightRoads$Road" "java/lang/Object") ∈ lw_all := lw_g (lw_at lw_m6 52 rfl) rfl
theorem q1379 : (Jvm.Cond.methodLink "FreightRoads$Road" (41 : Nat) ({ cls := "FreightRoads$Road", name := "bounded", desc := "(IIJ)LFreightRoads$Road;" } : Jvm.MethodName)) ∈ lw_all := lw_g (lw_at lw_m6 53 rfl) rfl
theorem q1380 : (Jvm.Cond.instanceMethod ({ cls := "FreightRoads$Road", name := "bounded", desc := "(IIJ)LFreightRoads$Road;" } : Jvm.MethodName)) ∈ lw_all := lw_g (lw_at lw_m6 54 rfl) rfl
theorem q1381 : (Jvm.Cond.selects "FreightRoads$Road" ({ cls := "FreightRoads$Road", name := "bounded", desc := "(IIJ)LFreightRoads$Road;" } : Jvm.MethodName) ({ cls := "FreightRoads$Road", name := "bounded", desc := "(IIJ)LFreightRoads$Road;" } : Jvm.MethodName)) ∈ lw_all := lw_g (lw_at lw_m6 55 rfl) rfl
theorem q1382 : (Jvm.Cond.code ({ cls := "FreightRoads$Road", name := "bounded", desc := "(IIJ)LFreightRoads$Road;" } : Jvm.MethodName) prog_9_method_2_code (5 : Nat) (Option.some (Jvm.ClassFile.FieldType.object "FreightRoads$Road"))) ∈ lw_all := lw_g (lw_at lw_m6 56 rfl) rfl
theorem q1503 : (Jvm.Cond.static ({ cls := "FreightRoads$Road", name := "may", desc := "(IIJ)Z" } : Jvm.MethodName)) ∈ lw_all := lw_g (lw_at lw_m6 177 rfl) rfl
theorem q1504 : (Jvm.Cond.code ({ cls := "FreightRoads$Road", name := "may", desc := "(IIJ)Z" } : Jvm.MethodName) prog_9_method_3_code (4 : Nat) (Option.some Jvm.ClassFile.FieldType.boolean)) ∈ lw_all := lw_g (lw_at lw_m6 178 rfl) rfl
theorem q1505 : (Jvm.Cond.methodLinkNest "FreightRoads$Road" (28 : Nat) ({ cls := "FreightRoads", name := "isIn", desc := "(JJJ)Z" } : Jvm.MethodName) "FreightRoads") ∈ lw_tbl := lw_at lw_m6 179 rfl
theorem q1506 : (Jvm.Cond.constantLong "FreightRoads$Road" (32 : Nat) (99 : Int64)) ∈ lw_all := lw_g (lw_at lw_m6 180 rfl) rfl
theorem q1507 : (Jvm.Cond.constantLong "FreightRoads$Road" (34 : Nat) (-100000000000000000 : Int64)) ∈ lw_all := lw_g (lw_at lw_m6 181 rfl) rfl
theorem q1508 : (Jvm.Cond.constantLong "FreightRoads$Road" (36 : Nat) (100000000000000000 : Int64)) ∈ lw_all := lw_g (lw_at lw_m6 182 rfl) rfl
theorem q1940 : (Jvm.Cond.instanceMethod ({ cls := "FreightRoads$Road", name := "figure", desc := "(I)J" } : Jvm.MethodName)) ∈ lw_all := lw_g (lw_at lw_m8 134 rfl) rfl
theorem q1941 : (Jvm.Cond.selects "FreightRoads$Road" ({ cls := "FreightRoads$Road", name := "figure", desc := "(I)J" } : Jvm.MethodName) ({ cls := "FreightRoads$Road", name := "figure", desc := "(I)J" } : Jvm.MethodName)) ∈ lw_all := lw_g (lw_at lw_m8 135 rfl) rfl
theorem q1942 : (Jvm.Cond.code ({ cls := "FreightRoads$Road", name := "figure", desc := "(I)J" } : Jvm.MethodName) prog_9_method_5_code (2 : Nat) (Option.some Jvm.ClassFile.FieldType.long)) ∈ lw_all := lw_g (lw_at lw_m8 136 rfl) rfl
theorem q2129 : (Jvm.Cond.selects "FreightRoads$Road" ({ cls := "java/lang/Object", name := "equals", desc := "(Ljava/lang/Object;)Z" } : Jvm.MethodName) ({ cls := "java/lang/Object", name := "equals", desc := "(Ljava/lang/Object;)Z" } : Jvm.MethodName)) ∈ lw_all := lw_g (lw_at lw_m9 83 rfl) rfl
theorem q3603 : (Jvm.Cond.castable "FreightRoads$Road" "java/lang/Object") ∈ lw_tbl := lw_at lw_m15 117 rfl
set_option maxRecDepth 100000
abbrev cX8_init : ByteArray := prog_4_method_1_code
def yX8_init : MethodName := ⟨RX8, "<init>", "(I)V"⟩
def dkwX8_init_0 : List UInt8 := [42, 1, 1, 3, 3, 183, 0, 1, 42, 27, 181, 0, 7, 177]
abbrev dktX8_init_0 : List UInt8 := dkwX8_init_0 ++ []
theorem dksX8_init_0 : cX8_init.data.toList.drop 0 = dktX8_init_0 := by decide +kernel
theorem dX8_init_0 : decode cX8_init 0 = .ok (.aload_n 0, 1) := dk_42 (dk_at dksX8_init_0 0 rfl rfl)
theorem dX8_init_1 : decode cX8_init 1 = .ok (.aconst_null, 1) := dk_1 (dk_at dksX8_init_0 1 rfl rfl)
theorem dX8_init_2 : decode cX8_init 2 = .ok (.aconst_null, 1) := dk_1 (dk_at dksX8_init_0 2 rfl rfl)
theorem dX8_init_3 : decode cX8_init 3 = .ok (.iconst 0, 1) := dk_3 (dk_at dksX8_init_0 3 rfl rfl)
theorem dX8_init_4 : decode cX8_init 4 = .ok (.iconst 0, 1) := dk_3 (dk_at dksX8_init_0 4 rfl rfl)
theorem dX8_init_5 : decode cX8_init 5 = .ok (.invokespecial 1, 3) := dk_183 0 1 (dk_at dksX8_init_0 5 rfl rfl)
theorem dX8_init_8 : decode cX8_init 8 = .ok (.aload_n 0, 1) := dk_42 (dk_at dksX8_init_0 8 rfl rfl)
theorem dX8_init_9 : decode cX8_init 9 = .ok (.iload_n 1, 1) := dk_27 (dk_at dksX8_init_0 9 rfl rfl)
theorem dX8_init_10 : decode cX8_init 10 = .ok (.putfield 7, 3) := dk_181 0 7 (dk_at dksX8_init_0 10 rfl rfl)
theorem dX8_init_13 : decode cX8_init 13 = .ok (.return_, 1) := dk_177 (dk_at dksX8_init_0 13 rfl rfl)
theorem q179 : (Jvm.Cond.initialized "FreightRoads$Fault") ∈ lw_all := lw_g (lw_at lw_m1 53 rfl) rfl
theorem q318 : (Jvm.Cond.selects "FreightRoads$Fault" ({ cls := "java/lang/Throwable", name := "fillInStackTrace", desc := "()Ljava/lang/Throwable;" } : Jvm.MethodName) ({ cls := "java/lang/Throwable", name := "fillInStackTrace", desc := "()Ljava/lang/Throwable;" } : Jvm.MethodName)) ∈ lw_all := lw_g (lw_at lw_m1 192 rfl) rfl
theorem q969 : (Jvm.Cond.selects "FreightRoads$Fault" ({ cls := "java/lang/Throwable", name := "toString", desc := "()Ljava/lang/String;" } : Jvm.MethodName) ({ cls := "java/lang/Throwable", name := "toString", desc := "()Ljava/lang/String;" } : Jvm.MethodName)) ∈ lw_all := lw_g (lw_at lw_m4 123 rfl) rfl
theorem q984 : (Jvm.Cond.selects "FreightRoads$Fault" ({ cls := "java/lang/Object", name := "getClass", desc := "()Ljava/lang/Class;" } : Jvm.MethodName) ({ cls := "java/lang/Object", name := "getClass", desc := "()Ljava/lang/Class;" } : Jvm.MethodName)) ∈ lw_all := lw_g (lw_at lw_m4 138 rfl) rfl
theorem q1027 : (Jvm.Cond.selects "FreightRoads$Fault" ({ cls := "java/lang/Throwable", name := "getLocalizedMessage", desc := "()Ljava/lang/String;" } : Jvm.MethodName) ({ cls := "java/lang/Throwable", name := "getLocalizedMessage", desc := "()Ljava/lang/String;" } : Jvm.MethodName)) ∈ lw_all := lw_g (lw_at lw_m4 181 rfl) rfl
theorem q1039 : (Jvm.Cond.selects "FreightRoads$Fault" ({ cls := "java/lang/Throwable", name := "getMessage", desc := "()Ljava/lang/String;" } : Jvm.MethodName) ({ cls := "java/lang/Throwable", name := "getMessage", desc := "()Ljava/lang/String;" } : Jvm.MethodName)) ∈ lw_all := lw_g (lw_at lw_m4 193 rfl) rfl
theorem q1989 : (Jvm.Cond.instantiable "FreightRoads$Fault" (7 : Nat)) ∈ lw_all := lw_g (lw_at lw_m8 183 rfl) rfl
theorem q1990 : (Jvm.Cond.castable "FreightRoads$Fault" "FreightRoads$Fault") ∈ lw_tbl := lw_at lw_m8 184 rfl
theorem q1991 : (Jvm.Cond.selects "FreightRoads$Fault" ({ cls := "java/lang/Throwable", name := "fillInStackTrace", desc := "(I)Ljava/lang/Throwable;" } : Jvm.MethodName) ({ cls := "java/lang/Throwable", name := "fillInStackTrace", desc := "(I)Ljava/lang/Throwable;" } : Jvm.MethodName)) ∈ lw_all := lw_g (lw_at lw_m8 185 rfl) rfl
theorem q1992 : (Jvm.Cond.lays "FreightRoads$Fault" "java/lang/Throwable" "cause" "Ljava/lang/Throwable;") ∈ lw_all := lw_g (lw_at lw_m8 186 rfl) rfl
theorem q1993 : (Jvm.Cond.lays "FreightRoads$Fault" "java/lang/Throwable" "stackTrace" "[Ljava/lang/StackTraceElement;") ∈ lw_all := lw_g (lw_at lw_m8 187 rfl) rfl
theorem q1994 : (Jvm.Cond.lays "FreightRoads$Fault" "java/lang/Throwable" "suppressedExceptions" "Ljava/util/List;") ∈ lw_all := lw_g (lw_at lw_m8 188 rfl) rfl
theorem q1995 : (Jvm.Cond.lays "FreightRoads$Fault" "java/lang/Throwable" "detailMessage" "Ljava/lang/String;") ∈ lw_all := lw_g (lw_at lw_m8 189 rfl) rfl
theorem q1996 : (Jvm.Cond.lays "FreightRoads$Fault" "java/lang/Throwable" "backtrace" "Ljava/lang/Object;") ∈ lw_all := lw_g (lw_at lw_m8 190 rfl) rfl
theorem q1998 : (Jvm.Cond.instanceMethod ({ cls := "FreightRoads$Fault", name := "<init>", desc := "(I)V" } : Jvm.MethodName)) ∈ lw_all := lw_g (lw_at lw_m8 192 rfl) rfl
theorem q1999 : (Jvm.Cond.code ({ cls := "FreightRoads$Fault", name := "<init>", desc := "(I)V" } : Jvm.MethodName) prog_4_method_1_code (2 : Nat) (Option.none : Option Jvm.ClassFile.FieldType)) ∈ lw_all := lw_g (lw_at lw_m8 193 rfl) rfl
theorem q2000 : (Jvm.Cond.methodLink "FreightRoads$Fault" (1 : Nat) ({ cls := "java/lang/RuntimeException", name := "<init>", desc := "(Ljava/lang/String;Ljava/lang/Throwable;ZZ)V" } : Jvm.MethodName)) ∈ lw_all := lw_g (lw_at lw_m8 194 rfl) rfl
theorem q2009 : (Jvm.Cond.fieldLink "FreightRoads$Fault" (7 : Nat) "FreightRoads$Fault" "place" "I") ∈ lw_all := lw_g (lw_at lw_m8 203 rfl) rfl
theorem q2011 : (Jvm.Cond.laysFinal "FreightRoads$Fault" "FreightRoads$Fault" "place" "I") ∈ lw_all := lw_g (lw_at lw_m8 205 rfl) rfl
theorem q2012 : (Jvm.Cond.soleField "FreightRoads$Fault" "place") ∈ lw_all := lw_g (lw_at lw_m8 206 rfl) rfl
theorem q2013 : (Jvm.Cond.lays "FreightRoads$Fault" "java/lang/Throwable" "depth" "I") ∈ lw_all := lw_g (lw_at lw_m8 207 rfl) rfl
theorem q2014 : (Jvm.Cond.superclass "FreightRoads$Fault" "java/lang/RuntimeException") ∈ lw_all := lw_g (lw_at lw_m8 208 rfl) rfl
theorem q2126 : (Jvm.Cond.selects "FreightRoads$Fault" ({ cls := "java/lang/Object", name := "equals", desc := "(Ljava/lang/Object;)Z" } : Jvm.MethodName) ({ cls := "java/lang/Object", name := "equals", desc := "(Ljava/lang/Object;)Z" } : Jvm.MethodName)) ∈ lw_all := lw_g (lw_at lw_m9 80 rfl) rfl
theorem q3626 : (Jvm.Cond.castable "FreightRoads$Fault" "java/lang/Object") ∈ lw_tbl := lw_at lw_m15 140 rfl
set_option maxRecDepth 100000
abbrev cX9_compareTo : ByteArray := prog_3_method_3_code
def yX9_compareTo : MethodName := ⟨RX9, "compareTo", "(Ljava/lang/Object;)I"⟩
def dkwX9_compareTo_0 : List UInt8 := [42, 43, 192, 0, 8, 182, 0, 19, 172]
abbrev dktX9_compareTo_0 : List UInt8 := dkwX9_compareTo_0 ++ []
theorem dksX9_compareTo_0 : cX9_compareTo.data.toList.drop 0 = dktX9_compareTo_0 := by decide +kernel
theorem dX9_compareTo_0 : decode cX9_compareTo 0 = .ok (.aload_n 0, 1) := dk_42 (dk_at dksX9_compareTo_0 0 rfl rfl)
theorem dX9_compareTo_1 : decode cX9_compareTo 1 = .ok (.aload_n 1, 1) := dk_43 (dk_at dksX9_compareTo_0 1 rfl rfl)
theorem dX9_compareTo_2 : decode cX9_compareTo 2 = .ok (.checkcast 8, 3) := dk_192 0 8 (dk_at dksX9_compareTo_0 2 rfl rfl)
theorem dX9_compareTo_5 : decode cX9_compareTo 5 = .ok (.invokevirtual 19, 3) := dk_182 0 19 (dk_at dksX9_compareTo_0 5 rfl rfl)
theorem dX9_compareTo_8 : decode cX9_compareTo 8 = .ok (.ireturn, 1) := dk_172 (dk_at dksX9_compareTo_0 8 rfl rfl)
abbrev cX9_compareTo_2 : ByteArray := prog_3_method_2_code
def yX9_compareTo_2 : MethodName := ⟨RX9, "compareTo", "(LFreightRoads$Each;)I"⟩
def dkwX9_compareTo_2_0 : List UInt8 := [42, 180, 0, 7, 43, 180, 0, 7, 184, 0, 13, 172]
abbrev dktX9_compareTo_2_0 : List UInt8 := dkwX9_compareTo_2_0 ++ []
theorem dksX9_compareTo_2_0 : cX9_compareTo_2.data.toList.drop 0 = dktX9_compareTo_2_0 := by decide +kernel
theorem dX9_compareTo_2_0 : decode cX9_compareTo_2 0 = .ok (.aload_n 0, 1) := dk_42 (dk_at dksX9_compareTo_2_0 0 rfl rfl)
theorem dX9_compareTo_2_1 : decode cX9_compareTo_2 1 = .ok (.getfield 7, 3) := dk_180 0 7 (dk_at dksX9_compareTo_2_0 1 rfl rfl)
theorem dX9_compareTo_2_4 : decode cX9_compareTo_2 4 = .ok (.aload_n 1, 1) := dk_43 (dk_at dksX9_compareTo_2_0 4 rfl rfl)
theorem dX9_compareTo_2_5 : decode cX9_compareTo_2 5 = .ok (.getfield 7, 3) := dk_180 0 7 (dk_at dksX9_compareTo_2_0 5 rfl rfl)
theorem dX9_compareTo_2_8 : decode cX9_compareTo_2 8 = .ok (.invokestatic 13, 3) := dk_184 0 13 (dk_at dksX9_compareTo_2_0 8 rfl rfl)
theorem dX9_compareTo_2_11 : decode cX9_compareTo_2 11 = .ok (.ireturn, 1) := dk_172 (dk_at dksX9_compareTo_2_0 11 rfl rfl)
abbrev cX9_init : ByteArray := prog_3_method_1_code
def yX9_init : MethodName := ⟨RX9, "<init>", "(J)V"⟩
def dkwX9_init_0 : List UInt8 := [42, 183, 0, 1, 42, 31, 181, 0, 7, 177]
abbrev dktX9_init_0 : List UInt8 := dkwX9_init_0 ++ []
theorem dksX9_init_0 : cX9_init.data.toList.drop 0 = dktX9_init_0 := by decide +kernel
theorem dX9_init_0 : decode cX9_init 0 = .ok (.aload_n 0, 1) := dk_42 (dk_at dksX9_init_0 0 rfl rfl)
theorem dX9_init_1 : decode cX9_init 1 = .ok (.invokespecial 1, 3) := dk_183 0 1 (dk_at dksX9_init_0 1 rfl rfl)
theorem dX9_init_4 : decode cX9_init 4 = .ok (.aload_n 0, 1) := dk_42 (dk_at dksX9_init_0 4 rfl rfl)
theorem dX9_init_5 : decode cX9_init 5 = .ok (.lload_n 1, 1) := dk_31 (dk_at dksX9_init_0 5 rfl rfl)
theorem dX9_init_6 : decode cX9_init 6 = .ok (.putfield 7, 3) := dk_181 0 7 (dk_at dksX9_init_0 6 rfl rfl)
theorem dX9_init_9 : decode cX9_init 9 = .ok (.return_, 1) := dk_177 (dk_at dksX9_init_0 9 rfl rfl)
theorem q188 : (Jvm.Cond.initialized "FreightRoads$Each") ∈ lw_all := lw_g (lw_at lw_m1 62 rfl) rfl
theorem q983 : (Jvm.Cond.selects "FreightRoads$Each" ({ cls := "java/lang/Object", name := "getClass", desc := "()Ljava/lang/Class;" } : Jvm.MethodName) ({ cls := "java/lang/Object", name := "getClass", desc := "()Ljava/lang/Class;" } : Jvm.MethodName)) ∈ lw_all := lw_g (lw_at lw_m4 137 rfl) rfl
theorem q1652 : (Jvm.Cond.castable "FreightRoads$Each" "java/lang/Comparable") ∈ lw_tbl := lw_at lw_m7 86 rfl
theorem q1653 : (Jvm.Cond.selects "FreightRoads$Each" ({ cls := "java/lang/Comparable", name := "compareTo", desc := "(Ljava/lang/Object;)I" } : Jvm.MethodName) ({ cls := "FreightRoads$Each", name := "compareTo", desc := "(Ljava/lang/Object;)I" } : Jvm.MethodName)) ∈ lw_all := lw_g (lw_at lw_m7 87 rfl) rfl
theorem q1654 : (Jvm.Cond.unhidden "FreightRoads$Each" "compareTo" "(Ljava/lang/Object;)I") ∈ lw_tbl := lw_at lw_m7 88 rfl
theorem q1655 : (Jvm.Cond.instanceMethod ({ cls := "FreightRoads$Each", name := "compareTo", desc := "(Ljava/lang/Object;)I" } : Jvm.MethodName)) ∈ lw_all := lw_g (lw_at lw_m7 89 rfl) rfl
theorem q1656 : (Jvm.Cond.publicMethod ({ cls := "FreightRoads$Each", name := "compareTo", desc := "(Ljava/lang/Object;)I" } : Jvm.MethodName)) ∈ lw_tbl := lw_at lw_m7 90 rfl
theorem q1657 : (Jvm.Cond.code ({ cls := "FreightRoads$Each", name := "compareTo", desc := "(Ljava/lang/Object;)I" } : Jvm.MethodName) prog_3_method_3_code (2 : Nat) (Option.some Jvm.ClassFile.FieldType.int)) ∈ lw_all := lw_g (lw_at lw_m7 91 rfl) rfl
theorem q1658 : (Jvm.Cond.classLink "FreightRoads$Each" (8 : Nat) "FreightRoads$Each") ∈ lw_all := lw_g (lw_at lw_m7 92 rfl) rfl
theorem q1659 : (Jvm.Cond.methodLink "FreightRoads$Each" (19 : Nat) ({ cls := "FreightRoads$Each", name := "compareTo", desc := "(LFreightRoads$Each;)I" } : Jvm.MethodName)) ∈ lw_all := lw_g (lw_at lw_m7 93 rfl) rfl
theorem q1660 : (Jvm.Cond.instanceMethod ({ cls := "FreightRoads$Each", name := "compareTo", desc := "(LFreightRoads$Each;)I" } : Jvm.MethodName)) ∈ lw_all := lw_g (lw_at lw_m7 94 rfl) rfl
theorem q1661 : (Jvm.Cond.selects "FreightRoads$Each" ({ cls := "FreightRoads$Each", name := "compareTo", desc := "(LFreightRoads$Each;)I" } : Jvm.MethodName) ({ cls := "FreightRoads$Each", name := "compareTo", desc := "(LFreightRoads$Each;)I" } : Jvm.MethodName)) ∈ lw_all := lw_g (lw_at lw_m7 95 rfl) rfl
theorem q1662 : (Jvm.Cond.code ({ cls := "FreightRoads$Each", name := "compareTo", desc := "(LFreightRoads$Each;)I" } : Jvm.MethodName) prog_3_method_2_code (2 : Nat) (Option.some Jvm.ClassFile.FieldType.int)) ∈ lw_all := lw_g (lw_at lw_m7 96 rfl) rfl
theorem q1663 : (Jvm.Cond.methodLink "FreightRoads$Each" (13 : Nat) ({ cls := "java/lang/Long", name := "compare", desc := "(JJ)I" } : Jvm.MethodName)) ∈ lw_all := lw_g (lw_at lw_m7 97 rfl) rfl
theorem q2125 : (Jvm.Cond.selects "FreightRoads$Each" ({ cls := "java/lang/Object", name := "equals", desc := "(Ljava/lang/Object;)Z" } : Jvm.MethodName) ({ cls := "java/lang/Object", name := "equals", desc := "(Ljava/lang/Object;)Z" } : Jvm.MethodName)) ∈ lw_all := lw_g (lw_at lw_m9 79 rfl) rfl
theorem q2623 : (Jvm.Cond.instantiable "FreightRoads$Each" (1 : Nat)) ∈ lw_all := lw_g (lw_at lw_m11 97 rfl) rfl
theorem q2625 : (Jvm.Cond.instanceMethod ({ cls := "FreightRoads$Each", name := "<init>", desc := "(J)V" } : Jvm.MethodName)) ∈ lw_all := lw_g (lw_at lw_m11 99 rfl) rfl
theorem q2626 : (Jvm.Cond.code ({ cls := "FreightRoads$Each", name := "<init>", desc := "(J)V" } : Jvm.MethodName) prog_3_method_1_code (3 : Nat) (Option.none : Option Jvm.ClassFile.FieldType)) ∈ lw_all := lw_g (lw_at lw_m11 100 rfl) rfl
theorem q2627 : (Jvm.Cond.methodLink "FreightRoads$Each" (1 : Nat) ({ cls := "java/lang/Object", name := "<init>", desc := "()V" } : Jvm.MethodName)) ∈ lw_all := lw_g (lw_at lw_m11 101 rfl) rfl
theorem q2628 : (Jvm.Cond.fieldLink "FreightRoads$Each" (7 : Nat) "FreightRoads$Each" "cost" "J") ∈ lw_all := lw_g (lw_at lw_m11 102 rfl) rfl
theorem q2630 : (Jvm.Cond.laysFinal "FreightRoads$Each" "FreightRoads$Each" "cost" "J") ∈ lw_all := lw_g (lw_at lw_m11 104 rfl) rfl
theorem q2631 : (Jvm.Cond.soleField "FreightRoads$Each" "cost") ∈ lw_all := lw_g (lw_at lw_m11 105 rfl) rfl
theorem q2632 : (Jvm.Cond.superclass "FreightRoads$Each" "java/lang/Object") ∈ lw_all := lw_g (lw_at lw_m11 106 rfl) rfl
theorem q3635 : (Jvm.Cond.castable "FreightRoads$Each" "java/lang/Object") ∈ lw_tbl := lw_at lw_m15 149 rfl
set_option maxRecDepth 100000
abbrev cX10_init : ByteArray := prog_11_method_1_code
def yX10_init : MethodName := ⟨RX10, "<init>", "(LFreightRoads$Each;)V"⟩
def dkwX10_init_0 : List UInt8 := [42, 183, 0, 1, 42, 43, 181, 0, 7, 177]
abbrev dktX10_init_0 : List UInt8 := dkwX10_init_0 ++ []
theorem dksX10_init_0 : cX10_init.data.toList.drop 0 = dktX10_init_0 := by decide +kernel
theorem dX10_init_0 : decode cX10_init 0 = .ok (.aload_n 0, 1) := dk_42 (dk_at dksX10_init_0 0 rfl rfl)
theorem dX10_init_1 : decode cX10_init 1 = .ok (.invokespecial 1, 3) := dk_183 0 1 (dk_at dksX10_init_0 1 rfl rfl)
theorem dX10_init_4 : decode cX10_init 4 = .ok (.aload_n 0, 1) := dk_42 (dk_at dksX10_init_0 4 rfl rfl)
theorem dX10_init_5 : decode cX10_init 5 = .ok (.aload_n 1, 1) := dk_43 (dk_at dksX10_init_0 5 rfl rfl)
theorem dX10_init_6 : decode cX10_init 6 = .ok (.putfield 7, 3) := dk_181 0 7 (dk_at dksX10_init_0 6 rfl rfl)
theorem dX10_init_9 : decode cX10_init 9 = .ok (.return_, 1) := dk_177 (dk_at dksX10_init_0 9 rfl rfl)
theorem q189 : (Jvm.Cond.initialized "FreightRoads$Stretch") ∈ lw_all := lw_g (lw_at lw_m1 63 rfl) rfl
theorem q989 : (Jvm.Cond.selects "FreightRoads$Stretch" ({ cls := "java/lang/Object", name := "getClass", desc := "()Ljava/lang/Class;" } : Jvm.MethodName) ({ cls := "java/lang/Object", name := "getClass", desc := "()Ljava/lang/Class;" } : Jvm.MethodName)) ∈ lw_all := lw_g (lw_at lw_m4 143 rfl) rfl
theorem q2131 : (Jvm.Cond.selects "FreightRoads$Stretch" ({ cls := "java/lang/Object", name := "equals", desc := "(Ljava/lang/Object;)Z" } : Jvm.MethodName) ({ cls := "java/lang/Object", name := "equals", desc := "(Ljava/lang/Object;)Z" } : Jvm.MethodName)) ∈ lw_all := lw_g (lw_at lw_m9 85 rfl) rfl
theorem q2646 : (Jvm.Cond.instantiable "FreightRoads$Stretch" (2 : Nat)) ∈ lw_all := lw_g (lw_at lw_m11 120 rfl) rfl
theorem q2648 : (Jvm.Cond.instanceMethod ({ cls := "FreightRoads$Stretch", name := "<init>", desc := "(LFreightRoads$Each;)V" } : Jvm.MethodName)) ∈ lw_all := lw_g (lw_at lw_m11 122 rfl) rfl
theorem q2649 : (Jvm.Cond.code ({ cls := "FreightRoads$Stretch", name := "<init>", desc := "(LFreightRoads$Each;)V" } : Jvm.MethodName) prog_11_method_1_code (2 : Nat) (Option.none : Option Jvm.ClassFile.FieldType)) ∈ lw_all := lw_g (lw_at lw_m11 123 rfl) rfl
theorem q2650 : (Jvm.Cond.methodLink "FreightRoads$Stretch" (1 : Nat) ({ cls := "java/lang/Object", name := "<init>", desc := "()V" } : Jvm.MethodName)) ∈ lw_all := lw_g (lw_at lw_m11 124 rfl) rfl
theorem q2651 : (Jvm.Cond.fieldLink "FreightRoads$Stretch" (7 : Nat) "FreightRoads$Stretch" "each" "LFreightRoads$Each;") ∈ lw_all := lw_g (lw_at lw_m11 125 rfl) rfl
theorem q2654 : (Jvm.Cond.laysFinal "FreightRoads$Stretch" "FreightRoads$Stretch" "each" "LFreightRoads$Each;") ∈ lw_all := lw_g (lw_at lw_m11 128 rfl) rfl
theorem q2655 : (Jvm.Cond.soleField "FreightRoads$Stretch" "each") ∈ lw_all := lw_g (lw_at lw_m11 129 rfl) rfl
theorem q2656 : (Jvm.Cond.lays "FreightRoads$Stretch" "FreightRoads$Stretch" "many" "I") ∈ lw_all := lw_g (lw_at lw_m11 130 rfl) rfl
theorem q2657 : (Jvm.Cond.soleField "FreightRoads$Stretch" "many") ∈ lw_all := lw_g (lw_at lw_m11 131 rfl) rfl
theorem q2658 : (Jvm.Cond.superclass "FreightRoads$Stretch" "java/lang/Object") ∈ lw_all := lw_g (lw_at lw_m11 132 rfl) rfl
theorem q3636 : (Jvm.Cond.castable "FreightRoads$Stretch" "java/lang/Object") ∈ lw_tbl := lw_at lw_m15 150 rfl
set_option maxRecDepth 100000
abbrev cX11_init : ByteArray := prog_15_method_1_code
def yX11_init : MethodName := ⟨RX11, "<init>", "(I)V"⟩
def dkwX11_init_0 : List UInt8 := [42, 183, 0, 3, 42, 16, 8, 188, 10, 181, 0, 9, 42, 27, 181, 0, 15, 177]
abbrev dktX11_init_0 : List UInt8 := dkwX11_init_0 ++ []
theorem dksX11_init_0 : cX11_init.data.toList.drop 0 = dktX11_init_0 := by decide +kernel
theorem dX11_init_0 : decode cX11_init 0 = .ok (.aload_n 0, 1) := dk_42 (dk_at dksX11_init_0 0 rfl rfl)
theorem dX11_init_1 : decode cX11_init 1 = .ok (.invokespecial 3, 3) := dk_183 0 3 (dk_at dksX11_init_0 1 rfl rfl)
theorem dX11_init_4 : decode cX11_init 4 = .ok (.aload_n 0, 1) := dk_42 (dk_at dksX11_init_0 4 rfl rfl)
theorem dX11_init_5 : decode cX11_init 5 = .ok (.bipush 8, 2) := dk_16 8 (dk_at dksX11_init_0 5 rfl rfl)
theorem dX11_init_7 : decode cX11_init 7 = .ok (.newarray .int, 2) := dk_188_10 (dk_at dksX11_init_0 7 rfl rfl)
theorem dX11_init_9 : decode cX11_init 9 = .ok (.putfield 9, 3) := dk_181 0 9 (dk_at dksX11_init_0 9 rfl rfl)
theorem dX11_init_12 : decode cX11_init 12 = .ok (.aload_n 0, 1) := dk_42 (dk_at dksX11_init_0 12 rfl rfl)
theorem dX11_init_13 : decode cX11_init 13 = .ok (.iload_n 1, 1) := dk_27 (dk_at dksX11_init_0 13 rfl rfl)
theorem dX11_init_14 : decode cX11_init 14 = .ok (.putfield 15, 3) := dk_181 0 15 (dk_at dksX11_init_0 14 rfl rfl)
theorem dX11_init_17 : decode cX11_init 17 = .ok (.return_, 1) := dk_177 (dk_at dksX11_init_0 17 rfl rfl)
theorem q197 : (Jvm.Cond.initialized "FreightRoads$Way") ∈ lw_all := lw_g (lw_at lw_m1 71 rfl) rfl
theorem q991 : (Jvm.Cond.selects "FreightRoads$Way" ({ cls := "java/lang/Object", name := "getClass", desc := "()Ljava/lang/Class;" } : Jvm.MethodName) ({ cls := "java/lang/Object", name := "getClass", desc := "()Ljava/lang/Class;" } : Jvm.MethodName)) ∈ lw_all := lw_g (lw_at lw_m4 145 rfl) rfl
theorem q2133 : (Jvm.Cond.selects "FreightRoads$Way" ({ cls := "java/lang/Object", name := "equals", desc := "(Ljava/lang/Object;)Z" } : Jvm.MethodName) ({ cls := "java/lang/Object", name := "equals", desc := "(Ljava/lang/Object;)Z" } : Jvm.MethodName)) ∈ lw_all := lw_g (lw_at lw_m9 87 rfl) rfl
theorem q2895 : (Jvm.Cond.instantiable "FreightRoads$Way" (5 : Nat)) ∈ lw_all := lw_g (lw_at lw_m12 129 rfl) rfl
theorem q2897 : (Jvm.Cond.instanceMethod ({ cls := "FreightRoads$Way", name := "<init>", desc := "(I)V" } : Jvm.MethodName)) ∈ lw_all := lw_g (lw_at lw_m12 131 rfl) rfl
theorem q2898 : (Jvm.Cond.code ({ cls := "FreightRoads$Way", name := "<init>", desc := "(I)V" } : Jvm.MethodName) prog_15_method_1_code (2 : Nat) (Option.none : Option Jvm.ClassFile.FieldType)) ∈ lw_all := lw_g (lw_at lw_m12 132 rfl) rfl
theorem q2899 : (Jvm.Cond.methodLink "FreightRoads$Way" (3 : Nat) ({ cls := "java/lang/Object", name := "<init>", desc := "()V" } : Jvm.MethodName)) ∈ lw_all := lw_g (lw_at lw_m12 133 rfl) rfl
theorem q2900 : (Jvm.Cond.fieldLink "FreightRoads$Way" (9 : Nat) "FreightRoads$Way" "roads" "[I") ∈ lw_all := lw_g (lw_at lw_m12 134 rfl) rfl
theorem q2902 : (Jvm.Cond.fieldLink "FreightRoads$Way" (15 : Nat) "FreightRoads$Way" "begin" "I") ∈ lw_all := lw_g (lw_at lw_m12 136 rfl) rfl
theorem q2907 : (Jvm.Cond.laysFinal "FreightRoads$Way" "FreightRoads$Way" "roads" "[I") ∈ lw_all := lw_g (lw_at lw_m12 141 rfl) rfl
theorem q2908 : (Jvm.Cond.soleField "FreightRoads$Way" "roads") ∈ lw_all := lw_g (lw_at lw_m12 142 rfl) rfl
theorem q2909 : (Jvm.Cond.laysFinal "FreightRoads$Way" "FreightRoads$Way" "begin" "I") ∈ lw_all := lw_g (lw_at lw_m12 143 rfl) rfl
theorem q2910 : (Jvm.Cond.soleField "FreightRoads$Way" "begin") ∈ lw_all := lw_g (lw_at lw_m12 144 rfl) rfl
theorem q2911 : (Jvm.Cond.lays "FreightRoads$Way" "FreightRoads$Way" "length" "I") ∈ lw_all := lw_g (lw_at lw_m12 145 rfl) rfl
theorem q2912 : (Jvm.Cond.soleField "FreightRoads$Way" "length") ∈ lw_all := lw_g (lw_at lw_m12 146 rfl) rfl
theorem q2913 : (Jvm.Cond.lays "FreightRoads$Way" "FreightRoads$Way" "many" "I") ∈ lw_all := lw_g (lw_at lw_m12 147 rfl) rfl
theorem q2914 : (Jvm.Cond.soleField "FreightRoads$Way" "many") ∈ lw_all := lw_g (lw_at lw_m12 148 rfl) rfl
theorem q2915 : (Jvm.Cond.lays "FreightRoads$Way" "FreightRoads$Way" "isRing" "Z") ∈ lw_all := lw_g (lw_at lw_m12 149 rfl) rfl
theorem q2916 : (Jvm.Cond.soleField "FreightRoads$Way" "isRing") ∈ lw_all := lw_g (lw_at lw_m12 150 rfl) rfl
theorem q2917 : (Jvm.Cond.superclass "FreightRoads$Way" "java/lang/Object") ∈ lw_all := lw_g (lw_at lw_m12 151 rfl) rfl
theorem q3643 : (Jvm.Cond.castable "FreightRoads$Way" "java/lang/Object") ∈ lw_tbl := lw_at lw_m15 157 rfl
