set_option maxRecDepth 100000
abbrev cX5_init : ByteArray := prog_13_method_1_code
def yX5_init : MethodName := ⟨RX5, "<init>", "()V"⟩
def dkwX5_init_8 : List UInt8 := [181, 0, 78, 42, 18, 81, 182, 0, 83, 177]
abbrev dktX5_init_8 : List UInt8 := dkwX5_init_8 ++ []
def dkwX5_init_7 : List UInt8 := [42, 16, 25, 188, 4, 181, 0, 72, 42, 17, 7, 208, 188, 4, 181, 0, 75, 42, 17, 7, 208, 188, 4]
abbrev dktX5_init_7 : List UInt8 := dkwX5_init_7 ++ dktX5_init_8
def dkwX5_init_6 : List UInt8 := [42, 16, 25, 188, 10, 181, 0, 63, 42, 16, 25, 188, 10, 181, 0, 66, 42, 16, 25, 188, 10, 181, 0, 69]
abbrev dktX5_init_6 : List UInt8 := dkwX5_init_6 ++ dktX5_init_7
def dkwX5_init_5 : List UInt8 := [42, 16, 60, 188, 10, 181, 0, 54, 42, 16, 100, 188, 4, 181, 0, 57, 42, 16, 24, 188, 4, 181, 0, 60]
abbrev dktX5_init_5 : List UInt8 := dkwX5_init_5 ++ dktX5_init_6
def dkwX5_init_4 : List UInt8 := [17, 3, 232, 188, 10, 181, 0, 45, 42, 16, 100, 188, 10, 181, 0, 48, 42, 16, 100, 188, 10, 181, 0, 51]
abbrev dktX5_init_4 : List UInt8 := dkwX5_init_4 ++ dktX5_init_5
def dkwX5_init_3 : List UInt8 := [188, 10, 181, 0, 32, 42, 2, 181, 0, 35, 42, 2, 181, 0, 39, 42, 16, 25, 188, 10, 181, 0, 42, 42]
abbrev dktX5_init_3 : List UInt8 := dkwX5_init_3 ++ dktX5_init_4
def dkwX5_init_2 : List UInt8 := [181, 0, 22, 42, 5, 188, 4, 181, 0, 25, 42, 17, 2, 188, 188, 10, 181, 0, 29, 42, 17, 5, 220]
abbrev dktX5_init_2 : List UInt8 := dkwX5_init_2 ++ dktX5_init_3
def dkwX5_init_1 : List UInt8 := [17, 16, 112, 188, 10, 181, 0, 16, 42, 17, 4, 28, 188, 10, 181, 0, 19, 42, 17, 2, 14, 188, 10]
abbrev dktX5_init_1 : List UInt8 := dkwX5_init_1 ++ dktX5_init_2
def dkwX5_init_0 : List UInt8 := [42, 183, 0, 3, 42, 17, 2, 14, 188, 10, 181, 0, 9, 42, 17, 2, 14, 188, 10, 181, 0, 13, 42]
abbrev dktX5_init_0 : List UInt8 := dkwX5_init_0 ++ dktX5_init_1
theorem dksX5_init_0 : cX5_init.data.toList.drop 0 = dktX5_init_0 := by decide +kernel
theorem dksX5_init_1 : cX5_init.data.toList.drop 23 = dktX5_init_1 := dk_seg dksX5_init_0 23 rfl rfl
theorem dksX5_init_2 : cX5_init.data.toList.drop 46 = dktX5_init_2 := dk_seg dksX5_init_1 23 rfl rfl
theorem dksX5_init_3 : cX5_init.data.toList.drop 69 = dktX5_init_3 := dk_seg dksX5_init_2 23 rfl rfl
theorem dksX5_init_4 : cX5_init.data.toList.drop 93 = dktX5_init_4 := dk_seg dksX5_init_3 24 rfl rfl
theorem dksX5_init_5 : cX5_init.data.toList.drop 117 = dktX5_init_5 := dk_seg dksX5_init_4 24 rfl rfl
theorem dksX5_init_6 : cX5_init.data.toList.drop 141 = dktX5_init_6 := dk_seg dksX5_init_5 24 rfl rfl
theorem dksX5_init_7 : cX5_init.data.toList.drop 165 = dktX5_init_7 := dk_seg dksX5_init_6 24 rfl rfl
theorem dksX5_init_8 : cX5_init.data.toList.drop 188 = dktX5_init_8 := dk_seg dksX5_init_7 23 rfl rfl
theorem dX5_init_0 : decode cX5_init 0 = .ok (.aload_n 0, 1) := dk_42 (dk_at dksX5_init_0 0 rfl rfl)
theorem dX5_init_1 : decode cX5_init 1 = .ok (.invokespecial 3, 3) := dk_183 0 3 (dk_at dksX5_init_0 1 rfl rfl)
theorem dX5_init_4 : decode cX5_init 4 = .ok (.aload_n 0, 1) := dk_42 (dk_at dksX5_init_0 4 rfl rfl)
theorem dX5_init_5 : decode cX5_init 5 = .ok (.sipush 526, 3) := dk_17 2 14 (dk_at dksX5_init_0 5 rfl rfl)
theorem dX5_init_8 : decode cX5_init 8 = .ok (.newarray .int, 2) := dk_188_10 (dk_at dksX5_init_0 8 rfl rfl)
theorem dX5_init_10 : decode cX5_init 10 = .ok (.putfield 9, 3) := dk_181 0 9 (dk_at dksX5_init_0 10 rfl rfl)
theorem dX5_init_13 : decode cX5_init 13 = .ok (.aload_n 0, 1) := dk_42 (dk_at dksX5_init_0 13 rfl rfl)
theorem dX5_init_14 : decode cX5_init 14 = .ok (.sipush 526, 3) := dk_17 2 14 (dk_at dksX5_init_0 14 rfl rfl)
theorem dX5_init_17 : decode cX5_init 17 = .ok (.newarray .int, 2) := dk_188_10 (dk_at dksX5_init_0 17 rfl rfl)
theorem dX5_init_19 : decode cX5_init 19 = .ok (.putfield 13, 3) := dk_181 0 13 (dk_at dksX5_init_0 19 rfl rfl)
theorem dX5_init_22 : decode cX5_init 22 = .ok (.aload_n 0, 1) := dk_42 (dk_at dksX5_init_0 22 rfl rfl)
theorem dX5_init_23 : decode cX5_init 23 = .ok (.sipush 4208, 3) := dk_17 16 112 (dk_at dksX5_init_1 0 rfl rfl)
theorem dX5_init_26 : decode cX5_init 26 = .ok (.newarray .int, 2) := dk_188_10 (dk_at dksX5_init_1 3 rfl rfl)
theorem dX5_init_28 : decode cX5_init 28 = .ok (.putfield 16, 3) := dk_181 0 16 (dk_at dksX5_init_1 5 rfl rfl)
theorem dX5_init_31 : decode cX5_init 31 = .ok (.aload_n 0, 1) := dk_42 (dk_at dksX5_init_1 8 rfl rfl)
theorem dX5_init_32 : decode cX5_init 32 = .ok (.sipush 1052, 3) := dk_17 4 28 (dk_at dksX5_init_1 9 rfl rfl)
theorem dX5_init_35 : decode cX5_init 35 = .ok (.newarray .int, 2) := dk_188_10 (dk_at dksX5_init_1 12 rfl rfl)
theorem dX5_init_37 : decode cX5_init 37 = .ok (.putfield 19, 3) := dk_181 0 19 (dk_at dksX5_init_1 14 rfl rfl)
theorem dX5_init_40 : decode cX5_init 40 = .ok (.aload_n 0, 1) := dk_42 (dk_at dksX5_init_1 17 rfl rfl)
theorem dX5_init_41 : decode cX5_init 41 = .ok (.sipush 526, 3) := dk_17 2 14 (dk_at dksX5_init_1 18 rfl rfl)
theorem dX5_init_44 : decode cX5_init 44 = .ok (.newarray .int, 2) := dk_188_10 (dk_at dksX5_init_1 21 rfl rfl)
theorem dX5_init_46 : decode cX5_init 46 = .ok (.putfield 22, 3) := dk_181 0 22 (dk_at dksX5_init_2 0 rfl rfl)
theorem dX5_init_49 : decode cX5_init 49 = .ok (.aload_n 0, 1) := dk_42 (dk_at dksX5_init_2 3 rfl rfl)
theorem dX5_init_50 : decode cX5_init 50 = .ok (.iconst 2, 1) := dk_5 (dk_at dksX5_init_2 4 rfl rfl)
theorem dX5_init_51 : decode cX5_init 51 = .ok (.newarray .boolean, 2) := dk_188_4 (dk_at dksX5_init_2 5 rfl rfl)
theorem dX5_init_53 : decode cX5_init 53 = .ok (.putfield 25, 3) := dk_181 0 25 (dk_at dksX5_init_2 7 rfl rfl)
theorem dX5_init_56 : decode cX5_init 56 = .ok (.aload_n 0, 1) := dk_42 (dk_at dksX5_init_2 10 rfl rfl)
theorem dX5_init_57 : decode cX5_init 57 = .ok (.sipush 700, 3) := dk_17 2 188 (dk_at dksX5_init_2 11 rfl rfl)
theorem dX5_init_60 : decode cX5_init 60 = .ok (.newarray .int, 2) := dk_188_10 (dk_at dksX5_init_2 14 rfl rfl)
theorem dX5_init_62 : decode cX5_init 62 = .ok (.putfield 29, 3) := dk_181 0 29 (dk_at dksX5_init_2 16 rfl rfl)
theorem dX5_init_65 : decode cX5_init 65 = .ok (.aload_n 0, 1) := dk_42 (dk_at dksX5_init_2 19 rfl rfl)
theorem dX5_init_66 : decode cX5_init 66 = .ok (.sipush 1500, 3) := dk_17 5 220 (dk_at dksX5_init_2 20 rfl rfl)
theorem dX5_init_69 : decode cX5_init 69 = .ok (.newarray .int, 2) := dk_188_10 (dk_at dksX5_init_3 0 rfl rfl)
theorem dX5_init_71 : decode cX5_init 71 = .ok (.putfield 32, 3) := dk_181 0 32 (dk_at dksX5_init_3 2 rfl rfl)
theorem dX5_init_74 : decode cX5_init 74 = .ok (.aload_n 0, 1) := dk_42 (dk_at dksX5_init_3 5 rfl rfl)
theorem dX5_init_75 : decode cX5_init 75 = .ok (.iconst (-1), 1) := dk_2 (dk_at dksX5_init_3 6 rfl rfl)
theorem dX5_init_76 : decode cX5_init 76 = .ok (.putfield 35, 3) := dk_181 0 35 (dk_at dksX5_init_3 7 rfl rfl)
theorem dX5_init_79 : decode cX5_init 79 = .ok (.aload_n 0, 1) := dk_42 (dk_at dksX5_init_3 10 rfl rfl)
theorem dX5_init_80 : decode cX5_init 80 = .ok (.iconst (-1), 1) := dk_2 (dk_at dksX5_init_3 11 rfl rfl)
theorem dX5_init_81 : decode cX5_init 81 = .ok (.putfield 39, 3) := dk_181 0 39 (dk_at dksX5_init_3 12 rfl rfl)
theorem dX5_init_84 : decode cX5_init 84 = .ok (.aload_n 0, 1) := dk_42 (dk_at dksX5_init_3 15 rfl rfl)
theorem dX5_init_85 : decode cX5_init 85 = .ok (.bipush 25, 2) := dk_16 25 (dk_at dksX5_init_3 16 rfl rfl)
theorem dX5_init_87 : decode cX5_init 87 = .ok (.newarray .int, 2) := dk_188_10 (dk_at dksX5_init_3 18 rfl rfl)
theorem dX5_init_89 : decode cX5_init 89 = .ok (.putfield 42, 3) := dk_181 0 42 (dk_at dksX5_init_3 20 rfl rfl)
theorem dX5_init_92 : decode cX5_init 92 = .ok (.aload_n 0, 1) := dk_42 (dk_at dksX5_init_3 23 rfl rfl)
theorem dX5_init_93 : decode cX5_init 93 = .ok (.sipush 1000, 3) := dk_17 3 232 (dk_at dksX5_init_4 0 rfl rfl)
theorem dX5_init_96 : decode cX5_init 96 = .ok (.newarray .int, 2) := dk_188_10 (dk_at dksX5_init_4 3 rfl rfl)
theorem dX5_init_98 : decode cX5_init 98 = .ok (.putfield 45, 3) := dk_181 0 45 (dk_at dksX5_init_4 5 rfl rfl)
theorem dX5_init_101 : decode cX5_init 101 = .ok (.aload_n 0, 1) := dk_42 (dk_at dksX5_init_4 8 rfl rfl)
theorem dX5_init_102 : decode cX5_init 102 = .ok (.bipush 100, 2) := dk_16 100 (dk_at dksX5_init_4 9 rfl rfl)
theorem dX5_init_104 : decode cX5_init 104 = .ok (.newarray .int, 2) := dk_188_10 (dk_at dksX5_init_4 11 rfl rfl)
theorem dX5_init_106 : decode cX5_init 106 = .ok (.putfield 48, 3) := dk_181 0 48 (dk_at dksX5_init_4 13 rfl rfl)
theorem dX5_init_109 : decode cX5_init 109 = .ok (.aload_n 0, 1) := dk_42 (dk_at dksX5_init_4 16 rfl rfl)
theorem dX5_init_110 : decode cX5_init 110 = .ok (.bipush 100, 2) := dk_16 100 (dk_at dksX5_init_4 17 rfl rfl)
theorem dX5_init_112 : decode cX5_init 112 = .ok (.newarray .int, 2) := dk_188_10 (dk_at dksX5_init_4 19 rfl rfl)
theorem dX5_init_114 : decode cX5_init 114 = .ok (.putfield 51, 3) := dk_181 0 51 (dk_at dksX5_init_4 21 rfl rfl)
theorem dX5_init_117 : decode cX5_init 117 = .ok (.aload_n 0, 1) := dk_42 (dk_at dksX5_init_5 0 rfl rfl)
theorem dX5_init_118 : decode cX5_init 118 = .ok (.bipush 60, 2) := dk_16 60 (dk_at dksX5_init_5 1 rfl rfl)
theorem dX5_init_120 : decode cX5_init 120 = .ok (.newarray .int, 2) := dk_188_10 (dk_at dksX5_init_5 3 rfl rfl)
theorem dX5_init_122 : decode cX5_init 122 = .ok (.putfield 54, 3) := dk_181 0 54 (dk_at dksX5_init_5 5 rfl rfl)
theorem dX5_init_125 : decode cX5_init 125 = .ok (.aload_n 0, 1) := dk_42 (dk_at dksX5_init_5 8 rfl rfl)
theorem dX5_init_126 : decode cX5_init 126 = .ok (.bipush 100, 2) := dk_16 100 (dk_at dksX5_init_5 9 rfl rfl)
theorem dX5_init_128 : decode cX5_init 128 = .ok (.newarray .boolean, 2) := dk_188_4 (dk_at dksX5_init_5 11 rfl rfl)
theorem dX5_init_130 : decode cX5_init 130 = .ok (.putfield 57, 3) := dk_181 0 57 (dk_at dksX5_init_5 13 rfl rfl)
theorem dX5_init_133 : decode cX5_init 133 = .ok (.aload_n 0, 1) := dk_42 (dk_at dksX5_init_5 16 rfl rfl)
theorem dX5_init_134 : decode cX5_init 134 = .ok (.bipush 24, 2) := dk_16 24 (dk_at dksX5_init_5 17 rfl rfl)
theorem dX5_init_136 : decode cX5_init 136 = .ok (.newarray .boolean, 2) := dk_188_4 (dk_at dksX5_init_5 19 rfl rfl)
theorem dX5_init_138 : decode cX5_init 138 = .ok (.putfield 60, 3) := dk_181 0 60 (dk_at dksX5_init_5 21 rfl rfl)
theorem dX5_init_141 : decode cX5_init 141 = .ok (.aload_n 0, 1) := dk_42 (dk_at dksX5_init_6 0 rfl rfl)
theorem dX5_init_142 : decode cX5_init 142 = .ok (.bipush 25, 2) := dk_16 25 (dk_at dksX5_init_6 1 rfl rfl)
theorem dX5_init_144 : decode cX5_init 144 = .ok (.newarray .int, 2) := dk_188_10 (dk_at dksX5_init_6 3 rfl rfl)
theorem dX5_init_146 : decode cX5_init 146 = .ok (.putfield 63, 3) := dk_181 0 63 (dk_at dksX5_init_6 5 rfl rfl)
theorem dX5_init_149 : decode cX5_init 149 = .ok (.aload_n 0, 1) := dk_42 (dk_at dksX5_init_6 8 rfl rfl)
theorem dX5_init_150 : decode cX5_init 150 = .ok (.bipush 25, 2) := dk_16 25 (dk_at dksX5_init_6 9 rfl rfl)
theorem dX5_init_152 : decode cX5_init 152 = .ok (.newarray .int, 2) := dk_188_10 (dk_at dksX5_init_6 11 rfl rfl)
theorem dX5_init_154 : decode cX5_init 154 = .ok (.putfield 66, 3) := dk_181 0 66 (dk_at dksX5_init_6 13 rfl rfl)
theorem dX5_init_157 : decode cX5_init 157 = .ok (.aload_n 0, 1) := dk_42 (dk_at dksX5_init_6 16 rfl rfl)
theorem dX5_init_158 : decode cX5_init 158 = .ok (.bipush 25, 2) := dk_16 25 (dk_at dksX5_init_6 17 rfl rfl)
theorem dX5_init_160 : decode cX5_init 160 = .ok (.newarray .int, 2) := dk_188_10 (dk_at dksX5_init_6 19 rfl rfl)
theorem dX5_init_162 : decode cX5_init 162 = .ok (.putfield 69, 3) := dk_181 0 69 (dk_at dksX5_init_6 21 rfl rfl)
theorem dX5_init_165 : decode cX5_init 165 = .ok (.aload_n 0, 1) := dk_42 (dk_at dksX5_init_7 0 rfl rfl)
theorem dX5_init_166 : decode cX5_init 166 = .ok (.bipush 25, 2) := dk_16 25 (dk_at dksX5_init_7 1 rfl rfl)
theorem dX5_init_168 : decode cX5_init 168 = .ok (.newarray .boolean, 2) := dk_188_4 (dk_at dksX5_init_7 3 rfl rfl)
theorem dX5_init_170 : decode cX5_init 170 = .ok (.putfield 72, 3) := dk_181 0 72 (dk_at dksX5_init_7 5 rfl rfl)
theorem dX5_init_173 : decode cX5_init 173 = .ok (.aload_n 0, 1) := dk_42 (dk_at dksX5_init_7 8 rfl rfl)
theorem dX5_init_174 : decode cX5_init 174 = .ok (.sipush 2000, 3) := dk_17 7 208 (dk_at dksX5_init_7 9 rfl rfl)
theorem dX5_init_177 : decode cX5_init 177 = .ok (.newarray .boolean, 2) := dk_188_4 (dk_at dksX5_init_7 12 rfl rfl)
theorem dX5_init_179 : decode cX5_init 179 = .ok (.putfield 75, 3) := dk_181 0 75 (dk_at dksX5_init_7 14 rfl rfl)
theorem dX5_init_182 : decode cX5_init 182 = .ok (.aload_n 0, 1) := dk_42 (dk_at dksX5_init_7 17 rfl rfl)
theorem dX5_init_183 : decode cX5_init 183 = .ok (.sipush 2000, 3) := dk_17 7 208 (dk_at dksX5_init_7 18 rfl rfl)
theorem dX5_init_186 : decode cX5_init 186 = .ok (.newarray .boolean, 2) := dk_188_4 (dk_at dksX5_init_7 21 rfl rfl)
theorem dX5_init_188 : decode cX5_init 188 = .ok (.putfield 78, 3) := dk_181 0 78 (dk_at dksX5_init_8 0 rfl rfl)
theorem dX5_init_191 : decode cX5_init 191 = .ok (.aload_n 0, 1) := dk_42 (dk_at dksX5_init_8 3 rfl rfl)
theorem dX5_init_192 : decode cX5_init 192 = .ok (.ldc 81, 2) := dk_18 81 (dk_at dksX5_init_8 4 rfl rfl)
theorem dX5_init_194 : decode cX5_init 194 = .ok (.invokevirtual 83, 3) := dk_182 0 83 (dk_at dksX5_init_8 6 rfl rfl)
theorem dX5_init_197 : decode cX5_init 197 = .ok (.return_, 1) := dk_177 (dk_at dksX5_init_8 9 rfl rfl)
abbrev cX5_meanBits : ByteArray := prog_13_method_108_code
def yX5_meanBits : MethodName := ⟨RX5, "meanBits", "(I)I"⟩
def dkwX5_meanBits_3 : List UInt8 := [110, 184, 1, 218, 172]
abbrev dktX5_meanBits_3 : List UInt8 := dkwX5_meanBits_3 ++ []
def dkwX5_meanBits_2 : List UInt8 := [180, 0, 199, 153, 0, 7, 28, 154, 0, 8, 11, 184, 1, 218, 172, 42, 180, 0, 199, 4, 100, 134, 28, 134]
abbrev dktX5_meanBits_2 : List UInt8 := dkwX5_meanBits_2 ++ dktX5_meanBits_3
def dkwX5_meanBits_1 : List UInt8 := [180, 0, 214, 5, 160, 0, 10, 42, 180, 0, 208, 167, 0, 9, 42, 180, 0, 208, 4, 100, 61, 42]
abbrev dktX5_meanBits_1 : List UInt8 := dkwX5_meanBits_1 ++ dktX5_meanBits_2
def dkwX5_meanBits_0 : List UInt8 := [42, 42, 27, 182, 1, 161, 3, 3, 182, 1, 2, 153, 0, 5, 3, 172, 42, 27, 182, 0, 243, 42]
abbrev dktX5_meanBits_0 : List UInt8 := dkwX5_meanBits_0 ++ dktX5_meanBits_1
theorem dksX5_meanBits_0 : cX5_meanBits.data.toList.drop 0 = dktX5_meanBits_0 := by decide +kernel
theorem dksX5_meanBits_1 : cX5_meanBits.data.toList.drop 22 = dktX5_meanBits_1 := dk_seg dksX5_meanBits_0 22 rfl rfl
theorem dksX5_meanBits_2 : cX5_meanBits.data.toList.drop 44 = dktX5_meanBits_2 := dk_seg dksX5_meanBits_1 22 rfl rfl
theorem dksX5_meanBits_3 : cX5_meanBits.data.toList.drop 68 = dktX5_meanBits_3 := dk_seg dksX5_meanBits_2 24 rfl rfl
theorem dX5_meanBits_0 : decode cX5_meanBits 0 = .ok (.aload_n 0, 1) := dk_42 (dk_at dksX5_meanBits_0 0 rfl rfl)
theorem dX5_meanBits_1 : decode cX5_meanBits 1 = .ok (.aload_n 0, 1) := dk_42 (dk_at dksX5_meanBits_0 1 rfl rfl)
theorem dX5_meanBits_2 : decode cX5_meanBits 2 = .ok (.iload_n 1, 1) := dk_27 (dk_at dksX5_meanBits_0 2 rfl rfl)
theorem dX5_meanBits_3 : decode cX5_meanBits 3 = .ok (.invokevirtual 417, 3) := dk_182 1 161 (dk_at dksX5_meanBits_0 3 rfl rfl)
theorem dX5_meanBits_6 : decode cX5_meanBits 6 = .ok (.iconst 0, 1) := dk_3 (dk_at dksX5_meanBits_0 6 rfl rfl)
theorem dX5_meanBits_7 : decode cX5_meanBits 7 = .ok (.iconst 0, 1) := dk_3 (dk_at dksX5_meanBits_0 7 rfl rfl)
theorem dX5_meanBits_8 : decode cX5_meanBits 8 = .ok (.invokevirtual 258, 3) := dk_182 1 2 (dk_at dksX5_meanBits_0 8 rfl rfl)
theorem dX5_meanBits_11 : decode cX5_meanBits 11 = .ok (.ifCond .eq 5, 3) := dk_153 0 5 (dk_at dksX5_meanBits_0 11 rfl rfl)
theorem dX5_meanBits_14 : decode cX5_meanBits 14 = .ok (.iconst 0, 1) := dk_3 (dk_at dksX5_meanBits_0 14 rfl rfl)
theorem dX5_meanBits_15 : decode cX5_meanBits 15 = .ok (.ireturn, 1) := dk_172 (dk_at dksX5_meanBits_0 15 rfl rfl)
theorem dX5_meanBits_16 : decode cX5_meanBits 16 = .ok (.aload_n 0, 1) := dk_42 (dk_at dksX5_meanBits_0 16 rfl rfl)
theorem dX5_meanBits_17 : decode cX5_meanBits 17 = .ok (.iload_n 1, 1) := dk_27 (dk_at dksX5_meanBits_0 17 rfl rfl)
theorem dX5_meanBits_18 : decode cX5_meanBits 18 = .ok (.invokevirtual 243, 3) := dk_182 0 243 (dk_at dksX5_meanBits_0 18 rfl rfl)
theorem dX5_meanBits_21 : decode cX5_meanBits 21 = .ok (.aload_n 0, 1) := dk_42 (dk_at dksX5_meanBits_0 21 rfl rfl)
theorem dX5_meanBits_22 : decode cX5_meanBits 22 = .ok (.getfield 214, 3) := dk_180 0 214 (dk_at dksX5_meanBits_1 0 rfl rfl)
theorem dX5_meanBits_25 : decode cX5_meanBits 25 = .ok (.iconst 2, 1) := dk_5 (dk_at dksX5_meanBits_1 3 rfl rfl)
theorem dX5_meanBits_26 : decode cX5_meanBits 26 = .ok (.if_icmp .ne 10, 3) := dk_160 0 10 (dk_at dksX5_meanBits_1 4 rfl rfl)
theorem dX5_meanBits_29 : decode cX5_meanBits 29 = .ok (.aload_n 0, 1) := dk_42 (dk_at dksX5_meanBits_1 7 rfl rfl)
theorem dX5_meanBits_30 : decode cX5_meanBits 30 = .ok (.getfield 208, 3) := dk_180 0 208 (dk_at dksX5_meanBits_1 8 rfl rfl)
theorem dX5_meanBits_33 : decode cX5_meanBits 33 = .ok (.goto 9, 3) := dk_167 0 9 (dk_at dksX5_meanBits_1 11 rfl rfl)
theorem dX5_meanBits_36 : decode cX5_meanBits 36 = .ok (.aload_n 0, 1) := dk_42 (dk_at dksX5_meanBits_1 14 rfl rfl)
theorem dX5_meanBits_37 : decode cX5_meanBits 37 = .ok (.getfield 208, 3) := dk_180 0 208 (dk_at dksX5_meanBits_1 15 rfl rfl)
theorem dX5_meanBits_40 : decode cX5_meanBits 40 = .ok (.iconst 1, 1) := dk_4 (dk_at dksX5_meanBits_1 18 rfl rfl)
theorem dX5_meanBits_41 : decode cX5_meanBits 41 = .ok (.isub, 1) := dk_100 (dk_at dksX5_meanBits_1 19 rfl rfl)
theorem dX5_meanBits_42 : decode cX5_meanBits 42 = .ok (.istore_n 2, 1) := dk_61 (dk_at dksX5_meanBits_1 20 rfl rfl)
theorem dX5_meanBits_43 : decode cX5_meanBits 43 = .ok (.aload_n 0, 1) := dk_42 (dk_at dksX5_meanBits_1 21 rfl rfl)
theorem dX5_meanBits_44 : decode cX5_meanBits 44 = .ok (.getfield 199, 3) := dk_180 0 199 (dk_at dksX5_meanBits_2 0 rfl rfl)
theorem dX5_meanBits_47 : decode cX5_meanBits 47 = .ok (.ifCond .eq 7, 3) := dk_153 0 7 (dk_at dksX5_meanBits_2 3 rfl rfl)
theorem dX5_meanBits_50 : decode cX5_meanBits 50 = .ok (.iload_n 2, 1) := dk_28 (dk_at dksX5_meanBits_2 6 rfl rfl)
theorem dX5_meanBits_51 : decode cX5_meanBits 51 = .ok (.ifCond .ne 8, 3) := dk_154 0 8 (dk_at dksX5_meanBits_2 7 rfl rfl)
theorem dX5_meanBits_54 : decode cX5_meanBits 54 = .ok (.fconst 0, 1) := dk_11 (dk_at dksX5_meanBits_2 10 rfl rfl)
theorem dX5_meanBits_55 : decode cX5_meanBits 55 = .ok (.invokestatic 474, 3) := dk_184 1 218 (dk_at dksX5_meanBits_2 11 rfl rfl)
theorem dX5_meanBits_58 : decode cX5_meanBits 58 = .ok (.ireturn, 1) := dk_172 (dk_at dksX5_meanBits_2 14 rfl rfl)
theorem dX5_meanBits_59 : decode cX5_meanBits 59 = .ok (.aload_n 0, 1) := dk_42 (dk_at dksX5_meanBits_2 15 rfl rfl)
theorem dX5_meanBits_60 : decode cX5_meanBits 60 = .ok (.getfield 199, 3) := dk_180 0 199 (dk_at dksX5_meanBits_2 16 rfl rfl)
theorem dX5_meanBits_63 : decode cX5_meanBits 63 = .ok (.iconst 1, 1) := dk_4 (dk_at dksX5_meanBits_2 19 rfl rfl)
theorem dX5_meanBits_64 : decode cX5_meanBits 64 = .ok (.isub, 1) := dk_100 (dk_at dksX5_meanBits_2 20 rfl rfl)
theorem dX5_meanBits_65 : decode cX5_meanBits 65 = .ok (.i2f, 1) := dk_134 (dk_at dksX5_meanBits_2 21 rfl rfl)
theorem dX5_meanBits_66 : decode cX5_meanBits 66 = .ok (.iload_n 2, 1) := dk_28 (dk_at dksX5_meanBits_2 22 rfl rfl)
theorem dX5_meanBits_67 : decode cX5_meanBits 67 = .ok (.i2f, 1) := dk_134 (dk_at dksX5_meanBits_2 23 rfl rfl)
theorem dX5_meanBits_68 : decode cX5_meanBits 68 = .ok (.fdiv, 1) := dk_110 (dk_at dksX5_meanBits_3 0 rfl rfl)
theorem dX5_meanBits_69 : decode cX5_meanBits 69 = .ok (.invokestatic 474, 3) := dk_184 1 218 (dk_at dksX5_meanBits_3 1 rfl rfl)
theorem dX5_meanBits_72 : decode cX5_meanBits 72 = .ok (.ireturn, 1) := dk_172 (dk_at dksX5_meanBits_3 4 rfl rfl)
def RX0 : String := "TrailMarkersLaw"
abbrev cX0_truncate : ByteArray := method_3_code
def yX0_truncate : MethodName := ⟨RX0, "truncate", "(LTrailMarkers;I[J)I"⟩
def dkwX0_truncate_0 : List UInt8 := [44, 3, 42, 27, 182, 0, 7, 133, 80, 167, 0, 6, 78, 4, 172, 3, 172]
abbrev dktX0_truncate_0 : List UInt8 := dkwX0_truncate_0 ++ []
theorem dksX0_truncate_0 : cX0_truncate.data.toList.drop 0 = dktX0_truncate_0 := by decide +kernel
theorem dX0_truncate_0 : decode cX0_truncate 0 = .ok (.aload_n 2, 1) := dk_44 (dk_at dksX0_truncate_0 0 rfl rfl)
theorem dX0_truncate_1 : decode cX0_truncate 1 = .ok (.iconst 0, 1) := dk_3 (dk_at dksX0_truncate_0 1 rfl rfl)
theorem dX0_truncate_2 : decode cX0_truncate 2 = .ok (.aload_n 0, 1) := dk_42 (dk_at dksX0_truncate_0 2 rfl rfl)
theorem dX0_truncate_3 : decode cX0_truncate 3 = .ok (.iload_n 1, 1) := dk_27 (dk_at dksX0_truncate_0 3 rfl rfl)
theorem dX0_truncate_4 : decode cX0_truncate 4 = .ok (.invokevirtual 7, 3) := dk_182 0 7 (dk_at dksX0_truncate_0 4 rfl rfl)
theorem dX0_truncate_7 : decode cX0_truncate 7 = .ok (.i2l, 1) := dk_133 (dk_at dksX0_truncate_0 7 rfl rfl)
theorem dX0_truncate_8 : decode cX0_truncate 8 = .ok (.lastore, 1) := dk_80 (dk_at dksX0_truncate_0 8 rfl rfl)
theorem dX0_truncate_9 : decode cX0_truncate 9 = .ok (.goto 6, 3) := dk_167 0 6 (dk_at dksX0_truncate_0 9 rfl rfl)
theorem dX0_truncate_12 : decode cX0_truncate 12 = .ok (.astore_n 3, 1) := dk_78 (dk_at dksX0_truncate_0 12 rfl rfl)
theorem dX0_truncate_13 : decode cX0_truncate 13 = .ok (.iconst 1, 1) := dk_4 (dk_at dksX0_truncate_0 13 rfl rfl)
theorem dX0_truncate_14 : decode cX0_truncate 14 = .ok (.ireturn, 1) := dk_172 (dk_at dksX0_truncate_0 14 rfl rfl)
theorem dX0_truncate_15 : decode cX0_truncate 15 = .ok (.iconst 0, 1) := dk_3 (dk_at dksX0_truncate_0 15 rfl rfl)
theorem dX0_truncate_16 : decode cX0_truncate 16 = .ok (.ireturn, 1) := dk_172 (dk_at dksX0_truncate_0 16 rfl rfl)
abbrev cX0_error : ByteArray := method_4_code
def yX0_error : MethodName := ⟨RX0, "error", "(LTrailMarkers;I[J)I"⟩
def dkwX0_error_0 : List UInt8 := [44, 3, 42, 27, 182, 0, 15, 133, 80, 167, 0, 6, 78, 4, 172, 3, 172]
abbrev dktX0_error_0 : List UInt8 := dkwX0_error_0 ++ []
theorem dksX0_error_0 : cX0_error.data.toList.drop 0 = dktX0_error_0 := by decide +kernel
theorem dX0_error_0 : decode cX0_error 0 = .ok (.aload_n 2, 1) := dk_44 (dk_at dksX0_error_0 0 rfl rfl)
theorem dX0_error_1 : decode cX0_error 1 = .ok (.iconst 0, 1) := dk_3 (dk_at dksX0_error_0 1 rfl rfl)
theorem dX0_error_2 : decode cX0_error 2 = .ok (.aload_n 0, 1) := dk_42 (dk_at dksX0_error_0 2 rfl rfl)
theorem dX0_error_3 : decode cX0_error 3 = .ok (.iload_n 1, 1) := dk_27 (dk_at dksX0_error_0 3 rfl rfl)
theorem dX0_error_4 : decode cX0_error 4 = .ok (.invokevirtual 15, 3) := dk_182 0 15 (dk_at dksX0_error_0 4 rfl rfl)
theorem dX0_error_7 : decode cX0_error 7 = .ok (.i2l, 1) := dk_133 (dk_at dksX0_error_0 7 rfl rfl)
theorem dX0_error_8 : decode cX0_error 8 = .ok (.lastore, 1) := dk_80 (dk_at dksX0_error_0 8 rfl rfl)
theorem dX0_error_9 : decode cX0_error 9 = .ok (.goto 6, 3) := dk_167 0 6 (dk_at dksX0_error_0 9 rfl rfl)
theorem dX0_error_12 : decode cX0_error 12 = .ok (.astore_n 3, 1) := dk_78 (dk_at dksX0_error_0 12 rfl rfl)
theorem dX0_error_13 : decode cX0_error 13 = .ok (.iconst 1, 1) := dk_4 (dk_at dksX0_error_0 13 rfl rfl)
theorem dX0_error_14 : decode cX0_error 14 = .ok (.ireturn, 1) := dk_172 (dk_at dksX0_error_0 14 rfl rfl)
theorem dX0_error_15 : decode cX0_error 15 = .ok (.iconst 0, 1) := dk_3 (dk_at dksX0_error_0 15 rfl rfl)
theorem dX0_error_16 : decode cX0_error 16 = .ok (.ireturn, 1) := dk_172 (dk_at dksX0_error_0 16 rfl rfl)
abbrev cX0_addPost : ByteArray := method_5_code
def yX0_addPost : MethodName := ⟨RX0, "addPost", "(LTrailMarkers;IIII[J)I"⟩
def dkwX0_addPost_1 : List UInt8 := [172, 58, 6, 6, 172, 3, 172]
abbrev dktX0_addPost_1 : List UInt8 := dkwX0_addPost_1 ++ []
def dkwX0_addPost_0 : List UInt8 := [25, 5, 3, 42, 27, 28, 29, 21, 4, 182, 0, 18, 133, 80, 167, 0, 15, 58, 6, 4, 172, 58, 6, 5]
abbrev dktX0_addPost_0 : List UInt8 := dkwX0_addPost_0 ++ dktX0_addPost_1
theorem dksX0_addPost_0 : cX0_addPost.data.toList.drop 0 = dktX0_addPost_0 := by decide +kernel
theorem dksX0_addPost_1 : cX0_addPost.data.toList.drop 24 = dktX0_addPost_1 := dk_seg dksX0_addPost_0 24 rfl rfl
theorem dX0_addPost_0 : decode cX0_addPost 0 = .ok (.aload 5, 2) := dk_25 5 (dk_at dksX0_addPost_0 0 rfl rfl)
theorem dX0_addPost_2 : decode cX0_addPost 2 = .ok (.iconst 0, 1) := dk_3 (dk_at dksX0_addPost_0 2 rfl rfl)
theorem dX0_addPost_3 : decode cX0_addPost 3 = .ok (.aload_n 0, 1) := dk_42 (dk_at dksX0_addPost_0 3 rfl rfl)
theorem dX0_addPost_4 : decode cX0_addPost 4 = .ok (.iload_n 1, 1) := dk_27 (dk_at dksX0_addPost_0 4 rfl rfl)
theorem dX0_addPost_5 : decode cX0_addPost 5 = .ok (.iload_n 2, 1) := dk_28 (dk_at dksX0_addPost_0 5 rfl rfl)
theorem dX0_addPost_6 : decode cX0_addPost 6 = .ok (.iload_n 3, 1) := dk_29 (dk_at dksX0_addPost_0 6 rfl rfl)
theorem dX0_addPost_7 : decode cX0_addPost 7 = .ok (.iload 4, 2) := dk_21 4 (dk_at dksX0_addPost_0 7 rfl rfl)
theorem dX0_addPost_9 : decode cX0_addPost 9 = .ok (.invokevirtual 18, 3) := dk_182 0 18 (dk_at dksX0_addPost_0 9 rfl rfl)
theorem dX0_addPost_12 : decode cX0_addPost 12 = .ok (.i2l, 1) := dk_133 (dk_at dksX0_addPost_0 12 rfl rfl)
theorem dX0_addPost_13 : decode cX0_addPost 13 = .ok (.lastore, 1) := dk_80 (dk_at dksX0_addPost_0 13 rfl rfl)
theorem dX0_addPost_14 : decode cX0_addPost 14 = .ok (.goto 15, 3) := dk_167 0 15 (dk_at dksX0_addPost_0 14 rfl rfl)
theorem dX0_addPost_17 : decode cX0_addPost 17 = .ok (.astore 6, 2) := dk_58 6 (dk_at dksX0_addPost_0 17 rfl rfl)
theorem dX0_addPost_19 : decode cX0_addPost 19 = .ok (.iconst 1, 1) := dk_4 (dk_at dksX0_addPost_0 19 rfl rfl)
theorem dX0_addPost_20 : decode cX0_addPost 20 = .ok (.ireturn, 1) := dk_172 (dk_at dksX0_addPost_0 20 rfl rfl)
theorem dX0_addPost_21 : decode cX0_addPost 21 = .ok (.astore 6, 2) := dk_58 6 (dk_at dksX0_addPost_0 21 rfl rfl)
theorem dX0_addPost_23 : decode cX0_addPost 23 = .ok (.iconst 2, 1) := dk_5 (dk_at dksX0_addPost_0 23 rfl rfl)
theorem dX0_addPost_24 : decode cX0_addPost 24 = .ok (.ireturn, 1) := dk_172 (dk_at dksX0_addPost_1 0 rfl rfl)
theorem dX0_addPost_25 : decode cX0_addPost 25 = .ok (.astore 6, 2) := dk_58 6 (dk_at dksX0_addPost_1 1 rfl rfl)
theorem dX0_addPost_27 : decode cX0_addPost 27 = .ok (.iconst 3, 1) := dk_6 (dk_at dksX0_addPost_1 3 rfl rfl)
theorem dX0_addPost_28 : decode cX0_addPost 28 = .ok (.ireturn, 1) := dk_172 (dk_at dksX0_addPost_1 4 rfl rfl)
theorem dX0_addPost_29 : decode cX0_addPost 29 = .ok (.iconst 0, 1) := dk_3 (dk_at dksX0_addPost_1 5 rfl rfl)
theorem dX0_addPost_30 : decode cX0_addPost 30 = .ok (.ireturn, 1) := dk_172 (dk_at dksX0_addPost_1 6 rfl rfl)
abbrev cX0_dropPost : ByteArray := method_6_code
def yX0_dropPost : MethodName := ⟨RX0, "dropPost", "(LTrailMarkers;I[J)I"⟩
def dkwX0_dropPost_0 : List UInt8 := [44, 3, 42, 27, 182, 0, 26, 133, 80, 167, 0, 6, 78, 4, 172, 3, 172]
abbrev dktX0_dropPost_0 : List UInt8 := dkwX0_dropPost_0 ++ []
theorem dksX0_dropPost_0 : cX0_dropPost.data.toList.drop 0 = dktX0_dropPost_0 := by decide +kernel
theorem dX0_dropPost_0 : decode cX0_dropPost 0 = .ok (.aload_n 2, 1) := dk_44 (dk_at dksX0_dropPost_0 0 rfl rfl)
theorem dX0_dropPost_1 : decode cX0_dropPost 1 = .ok (.iconst 0, 1) := dk_3 (dk_at dksX0_dropPost_0 1 rfl rfl)
theorem dX0_dropPost_2 : decode cX0_dropPost 2 = .ok (.aload_n 0, 1) := dk_42 (dk_at dksX0_dropPost_0 2 rfl rfl)
theorem dX0_dropPost_3 : decode cX0_dropPost 3 = .ok (.iload_n 1, 1) := dk_27 (dk_at dksX0_dropPost_0 3 rfl rfl)
theorem dX0_dropPost_4 : decode cX0_dropPost 4 = .ok (.invokevirtual 26, 3) := dk_182 0 26 (dk_at dksX0_dropPost_0 4 rfl rfl)
theorem dX0_dropPost_7 : decode cX0_dropPost 7 = .ok (.i2l, 1) := dk_133 (dk_at dksX0_dropPost_0 7 rfl rfl)
theorem dX0_dropPost_8 : decode cX0_dropPost 8 = .ok (.lastore, 1) := dk_80 (dk_at dksX0_dropPost_0 8 rfl rfl)
theorem dX0_dropPost_9 : decode cX0_dropPost 9 = .ok (.goto 6, 3) := dk_167 0 6 (dk_at dksX0_dropPost_0 9 rfl rfl)
theorem dX0_dropPost_12 : decode cX0_dropPost 12 = .ok (.astore_n 3, 1) := dk_78 (dk_at dksX0_dropPost_0 12 rfl rfl)
theorem dX0_dropPost_13 : decode cX0_dropPost 13 = .ok (.iconst 1, 1) := dk_4 (dk_at dksX0_dropPost_0 13 rfl rfl)
theorem dX0_dropPost_14 : decode cX0_dropPost 14 = .ok (.ireturn, 1) := dk_172 (dk_at dksX0_dropPost_0 14 rfl rfl)
theorem dX0_dropPost_15 : decode cX0_dropPost 15 = .ok (.iconst 0, 1) := dk_3 (dk_at dksX0_dropPost_0 15 rfl rfl)
theorem dX0_dropPost_16 : decode cX0_dropPost 16 = .ok (.ireturn, 1) := dk_172 (dk_at dksX0_dropPost_0 16 rfl rfl)
abbrev cX0_turn : ByteArray := method_7_code
def yX0_turn : MethodName := ⟨RX0, "turn", "(LTrailMarkers;II[J)I"⟩
def dkwX0_turn_0 : List UInt8 := [45, 3, 42, 27, 28, 182, 0, 29, 133, 80, 167, 0, 11, 58, 4, 4, 172, 58, 4, 5, 172, 3, 172]
abbrev dktX0_turn_0 : List UInt8 := dkwX0_turn_0 ++ []
theorem dksX0_turn_0 : cX0_turn.data.toList.drop 0 = dktX0_turn_0 := by decide +kernel
theorem dX0_turn_0 : decode cX0_turn 0 = .ok (.aload_n 3, 1) := dk_45 (dk_at dksX0_turn_0 0 rfl rfl)
theorem dX0_turn_1 : decode cX0_turn 1 = .ok (.iconst 0, 1) := dk_3 (dk_at dksX0_turn_0 1 rfl rfl)
theorem dX0_turn_2 : decode cX0_turn 2 = .ok (.aload_n 0, 1) := dk_42 (dk_at dksX0_turn_0 2 rfl rfl)
theorem dX0_turn_3 : decode cX0_turn 3 = .ok (.iload_n 1, 1) := dk_27 (dk_at dksX0_turn_0 3 rfl rfl)
theorem dX0_turn_4 : decode cX0_turn 4 = .ok (.iload_n 2, 1) := dk_28 (dk_at dksX0_turn_0 4 rfl rfl)
theorem dX0_turn_5 : decode cX0_turn 5 = .ok (.invokevirtual 29, 3) := dk_182 0 29 (dk_at dksX0_turn_0 5 rfl rfl)
theorem dX0_turn_8 : decode cX0_turn 8 = .ok (.i2l, 1) := dk_133 (dk_at dksX0_turn_0 8 rfl rfl)
theorem dX0_turn_9 : decode cX0_turn 9 = .ok (.lastore, 1) := dk_80 (dk_at dksX0_turn_0 9 rfl rfl)
theorem dX0_turn_10 : decode cX0_turn 10 = .ok (.goto 11, 3) := dk_167 0 11 (dk_at dksX0_turn_0 10 rfl rfl)
theorem dX0_turn_13 : decode cX0_turn 13 = .ok (.astore 4, 2) := dk_58 4 (dk_at dksX0_turn_0 13 rfl rfl)
theorem dX0_turn_15 : decode cX0_turn 15 = .ok (.iconst 1, 1) := dk_4 (dk_at dksX0_turn_0 15 rfl rfl)
theorem dX0_turn_16 : decode cX0_turn 16 = .ok (.ireturn, 1) := dk_172 (dk_at dksX0_turn_0 16 rfl rfl)
theorem dX0_turn_17 : decode cX0_turn 17 = .ok (.astore 4, 2) := dk_58 4 (dk_at dksX0_turn_0 17 rfl rfl)
theorem dX0_turn_19 : decode cX0_turn 19 = .ok (.iconst 2, 1) := dk_5 (dk_at dksX0_turn_0 19 rfl rfl)
theorem dX0_turn_20 : decode cX0_turn 20 = .ok (.ireturn, 1) := dk_172 (dk_at dksX0_turn_0 20 rfl rfl)
theorem dX0_turn_21 : decode cX0_turn 21 = .ok (.iconst 0, 1) := dk_3 (dk_at dksX0_turn_0 21 rfl rfl)
theorem dX0_turn_22 : decode cX0_turn 22 = .ok (.ireturn, 1) := dk_172 (dk_at dksX0_turn_0 22 rfl rfl)
abbrev cX0_lose : ByteArray := method_8_code
def yX0_lose : MethodName := ⟨RX0, "lose", "(LTrailMarkers;I[J)I"⟩
def dkwX0_lose_0 : List UInt8 := [44, 3, 42, 27, 182, 0, 33, 133, 80, 167, 0, 9, 78, 4, 172, 78, 5, 172, 3, 172]
abbrev dktX0_lose_0 : List UInt8 := dkwX0_lose_0 ++ []
theorem dksX0_lose_0 : cX0_lose.data.toList.drop 0 = dktX0_lose_0 := by decide +kernel
theorem dX0_lose_0 : decode cX0_lose 0 = .ok (.aload_n 2, 1) := dk_44 (dk_at dksX0_lose_0 0 rfl rfl)
theorem dX0_lose_1 : decode cX0_lose 1 = .ok (.iconst 0, 1) := dk_3 (dk_at dksX0_lose_0 1 rfl rfl)
theorem dX0_lose_2 : decode cX0_lose 2 = .ok (.aload_n 0, 1) := dk_42 (dk_at dksX0_lose_0 2 rfl rfl)
theorem dX0_lose_3 : decode cX0_lose 3 = .ok (.iload_n 1, 1) := dk_27 (dk_at dksX0_lose_0 3 rfl rfl)
theorem dX0_lose_4 : decode cX0_lose 4 = .ok (.invokevirtual 33, 3) := dk_182 0 33 (dk_at dksX0_lose_0 4 rfl rfl)
theorem dX0_lose_7 : decode cX0_lose 7 = .ok (.i2l, 1) := dk_133 (dk_at dksX0_lose_0 7 rfl rfl)
theorem dX0_lose_8 : decode cX0_lose 8 = .ok (.lastore, 1) := dk_80 (dk_at dksX0_lose_0 8 rfl rfl)
theorem dX0_lose_9 : decode cX0_lose 9 = .ok (.goto 9, 3) := dk_167 0 9 (dk_at dksX0_lose_0 9 rfl rfl)
theorem dX0_lose_12 : decode cX0_lose 12 = .ok (.astore_n 3, 1) := dk_78 (dk_at dksX0_lose_0 12 rfl rfl)
theorem dX0_lose_13 : decode cX0_lose 13 = .ok (.iconst 1, 1) := dk_4 (dk_at dksX0_lose_0 13 rfl rfl)
theorem dX0_lose_14 : decode cX0_lose 14 = .ok (.ireturn, 1) := dk_172 (dk_at dksX0_lose_0 14 rfl rfl)
theorem dX0_lose_15 : decode cX0_lose 15 = .ok (.astore_n 3, 1) := dk_78 (dk_at dksX0_lose_0 15 rfl rfl)
theorem dX0_lose_16 : decode cX0_lose 16 = .ok (.iconst 2, 1) := dk_5 (dk_at dksX0_lose_0 16 rfl rfl)
theorem dX0_lose_17 : decode cX0_lose 17 = .ok (.ireturn, 1) := dk_172 (dk_at dksX0_lose_0 17 rfl rfl)
theorem dX0_lose_18 : decode cX0_lose 18 = .ok (.iconst 0, 1) := dk_3 (dk_at dksX0_lose_0 18 rfl rfl)
theorem dX0_lose_19 : decode cX0_lose 19 = .ok (.ireturn, 1) := dk_172 (dk_at dksX0_lose_0 19 rfl rfl)
abbrev cX0_mend : ByteArray := method_9_code
def yX0_mend : MethodName := ⟨RX0, "mend", "(LTrailMarkers;I[J)I"⟩
def dkwX0_mend_0 : List UInt8 := [44, 3, 42, 27, 182, 0, 36, 133, 80, 167, 0, 9, 78, 4, 172, 78, 5, 172, 3, 172]
abbrev dktX0_mend_0 : List UInt8 := dkwX0_mend_0 ++ []
theorem dksX0_mend_0 : cX0_mend.data.toList.drop 0 = dktX0_mend_0 := by decide +kernel
theorem dX0_mend_0 : decode cX0_mend 0 = .ok (.aload_n 2, 1) := dk_44 (dk_at dksX0_mend_0 0 rfl rfl)
theorem dX0_mend_1 : decode cX0_mend 1 = .ok (.iconst 0, 1) := dk_3 (dk_at dksX0_mend_0 1 rfl rfl)
theorem dX0_mend_2 : decode cX0_mend 2 = .ok (.aload_n 0, 1) := dk_42 (dk_at dksX0_mend_0 2 rfl rfl)
theorem dX0_mend_3 : decode cX0_mend 3 = .ok (.iload_n 1, 1) := dk_27 (dk_at dksX0_mend_0 3 rfl rfl)
theorem dX0_mend_4 : decode cX0_mend 4 = .ok (.invokevirtual 36, 3) := dk_182 0 36 (dk_at dksX0_mend_0 4 rfl rfl)
theorem dX0_mend_7 : decode cX0_mend 7 = .ok (.i2l, 1) := dk_133 (dk_at dksX0_mend_0 7 rfl rfl)
theorem dX0_mend_8 : decode cX0_mend 8 = .ok (.lastore, 1) := dk_80 (dk_at dksX0_mend_0 8 rfl rfl)
theorem dX0_mend_9 : decode cX0_mend 9 = .ok (.goto 9, 3) := dk_167 0 9 (dk_at dksX0_mend_0 9 rfl rfl)
theorem dX0_mend_12 : decode cX0_mend 12 = .ok (.astore_n 3, 1) := dk_78 (dk_at dksX0_mend_0 12 rfl rfl)
theorem dX0_mend_13 : decode cX0_mend 13 = .ok (.iconst 1, 1) := dk_4 (dk_at dksX0_mend_0 13 rfl rfl)
theorem dX0_mend_14 : decode cX0_mend 14 = .ok (.ireturn, 1) := dk_172 (dk_at dksX0_mend_0 14 rfl rfl)
theorem dX0_mend_15 : decode cX0_mend 15 = .ok (.astore_n 3, 1) := dk_78 (dk_at dksX0_mend_0 15 rfl rfl)
theorem dX0_mend_16 : decode cX0_mend 16 = .ok (.iconst 2, 1) := dk_5 (dk_at dksX0_mend_0 16 rfl rfl)
theorem dX0_mend_17 : decode cX0_mend 17 = .ok (.ireturn, 1) := dk_172 (dk_at dksX0_mend_0 17 rfl rfl)
theorem dX0_mend_18 : decode cX0_mend 18 = .ok (.iconst 0, 1) := dk_3 (dk_at dksX0_mend_0 18 rfl rfl)
theorem dX0_mend_19 : decode cX0_mend 19 = .ok (.ireturn, 1) := dk_172 (dk_at dksX0_mend_0 19 rfl rfl)
abbrev cX0_setBlock : ByteArray := method_10_code
def yX0_setBlock : MethodName := ⟨RX0, "setBlock", "(LTrailMarkers;IIZ[J)I"⟩
def dkwX0_setBlock_1 : List UInt8 := [172]
abbrev dktX0_setBlock_1 : List UInt8 := dkwX0_setBlock_1 ++ []
def dkwX0_setBlock_0 : List UInt8 := [25, 4, 3, 42, 27, 28, 29, 182, 0, 39, 133, 80, 167, 0, 11, 58, 5, 4, 172, 58, 5, 5, 172, 3]
abbrev dktX0_setBlock_0 : List UInt8 := dkwX0_setBlock_0 ++ dktX0_setBlock_1
theorem dksX0_setBlock_0 : cX0_setBlock.data.toList.drop 0 = dktX0_setBlock_0 := by decide +kernel
theorem dksX0_setBlock_1 : cX0_setBlock.data.toList.drop 24 = dktX0_setBlock_1 := dk_seg dksX0_setBlock_0 24 rfl rfl
theorem dX0_setBlock_0 : decode cX0_setBlock 0 = .ok (.aload 4, 2) := dk_25 4 (dk_at dksX0_setBlock_0 0 rfl rfl)
theorem dX0_setBlock_2 : decode cX0_setBlock 2 = .ok (.iconst 0, 1) := dk_3 (dk_at dksX0_setBlock_0 2 rfl rfl)
theorem dX0_setBlock_3 : decode cX0_setBlock 3 = .ok (.aload_n 0, 1) := dk_42 (dk_at dksX0_setBlock_0 3 rfl rfl)
theorem dX0_setBlock_4 : decode cX0_setBlock 4 = .ok (.iload_n 1, 1) := dk_27 (dk_at dksX0_setBlock_0 4 rfl rfl)
theorem dX0_setBlock_5 : decode cX0_setBlock 5 = .ok (.iload_n 2, 1) := dk_28 (dk_at dksX0_setBlock_0 5 rfl rfl)
theorem dX0_setBlock_6 : decode cX0_setBlock 6 = .ok (.iload_n 3, 1) := dk_29 (dk_at dksX0_setBlock_0 6 rfl rfl)
theorem dX0_setBlock_7 : decode cX0_setBlock 7 = .ok (.invokevirtual 39, 3) := dk_182 0 39 (dk_at dksX0_setBlock_0 7 rfl rfl)
theorem dX0_setBlock_10 : decode cX0_setBlock 10 = .ok (.i2l, 1) := dk_133 (dk_at dksX0_setBlock_0 10 rfl rfl)
theorem dX0_setBlock_11 : decode cX0_setBlock 11 = .ok (.lastore, 1) := dk_80 (dk_at dksX0_setBlock_0 11 rfl rfl)
theorem dX0_setBlock_12 : decode cX0_setBlock 12 = .ok (.goto 11, 3) := dk_167 0 11 (dk_at dksX0_setBlock_0 12 rfl rfl)
theorem dX0_setBlock_15 : decode cX0_setBlock 15 = .ok (.astore 5, 2) := dk_58 5 (dk_at dksX0_setBlock_0 15 rfl rfl)
theorem dX0_setBlock_17 : decode cX0_setBlock 17 = .ok (.iconst 1, 1) := dk_4 (dk_at dksX0_setBlock_0 17 rfl rfl)
theorem dX0_setBlock_18 : decode cX0_setBlock 18 = .ok (.ireturn, 1) := dk_172 (dk_at dksX0_setBlock_0 18 rfl rfl)
theorem dX0_setBlock_19 : decode cX0_setBlock 19 = .ok (.astore 5, 2) := dk_58 5 (dk_at dksX0_setBlock_0 19 rfl rfl)
theorem dX0_setBlock_21 : decode cX0_setBlock 21 = .ok (.iconst 2, 1) := dk_5 (dk_at dksX0_setBlock_0 21 rfl rfl)
theorem dX0_setBlock_22 : decode cX0_setBlock 22 = .ok (.ireturn, 1) := dk_172 (dk_at dksX0_setBlock_0 22 rfl rfl)
theorem dX0_setBlock_23 : decode cX0_setBlock 23 = .ok (.iconst 0, 1) := dk_3 (dk_at dksX0_setBlock_0 23 rfl rfl)
theorem dX0_setBlock_24 : decode cX0_setBlock 24 = .ok (.ireturn, 1) := dk_172 (dk_at dksX0_setBlock_1 0 rfl rfl)
abbrev cX0_set : ByteArray := method_11_code
def yX0_set : MethodName := ⟨RX0, "set", "(LTrailMarkers;II[J)I"⟩
def dkwX0_set_0 : List UInt8 := [45, 3, 42, 27, 28, 182, 0, 43, 133, 80, 167, 0, 7, 58, 4, 4, 172, 3, 172]
abbrev dktX0_set_0 : List UInt8 := dkwX0_set_0 ++ []
theorem dksX0_set_0 : cX0_set.data.toList.drop 0 = dktX0_set_0 := by decide +kernel
theorem dX0_set_0 : decode cX0_set 0 = .ok (.aload_n 3, 1) := dk_45 (dk_at dksX0_set_0 0 rfl rfl)
theorem dX0_set_1 : decode cX0_set 1 = .ok (.iconst 0, 1) := dk_3 (dk_at dksX0_set_0 1 rfl rfl)
theorem dX0_set_2 : decode cX0_set 2 = .ok (.aload_n 0, 1) := dk_42 (dk_at dksX0_set_0 2 rfl rfl)
theorem dX0_set_3 : decode cX0_set 3 = .ok (.iload_n 1, 1) := dk_27 (dk_at dksX0_set_0 3 rfl rfl)
theorem dX0_set_4 : decode cX0_set 4 = .ok (.iload_n 2, 1) := dk_28 (dk_at dksX0_set_0 4 rfl rfl)
theorem dX0_set_5 : decode cX0_set 5 = .ok (.invokevirtual 43, 3) := dk_182 0 43 (dk_at dksX0_set_0 5 rfl rfl)
theorem dX0_set_8 : decode cX0_set 8 = .ok (.i2l, 1) := dk_133 (dk_at dksX0_set_0 8 rfl rfl)
theorem dX0_set_9 : decode cX0_set 9 = .ok (.lastore, 1) := dk_80 (dk_at dksX0_set_0 9 rfl rfl)
theorem dX0_set_10 : decode cX0_set 10 = .ok (.goto 7, 3) := dk_167 0 7 (dk_at dksX0_set_0 10 rfl rfl)
theorem dX0_set_13 : decode cX0_set 13 = .ok (.astore 4, 2) := dk_58 4 (dk_at dksX0_set_0 13 rfl rfl)
theorem dX0_set_15 : decode cX0_set 15 = .ok (.iconst 1, 1) := dk_4 (dk_at dksX0_set_0 15 rfl rfl)
theorem dX0_set_16 : decode cX0_set 16 = .ok (.ireturn, 1) := dk_172 (dk_at dksX0_set_0 16 rfl rfl)
theorem dX0_set_17 : decode cX0_set 17 = .ok (.iconst 0, 1) := dk_3 (dk_at dksX0_set_0 17 rfl rfl)
theorem dX0_set_18 : decode cX0_set 18 = .ok (.ireturn, 1) := dk_172 (dk_at dksX0_set_0 18 rfl rfl)
abbrev cX0_undo : ByteArray := method_12_code
def yX0_undo : MethodName := ⟨RX0, "undo", "(LTrailMarkers;[J)I"⟩
def dkwX0_undo_0 : List UInt8 := [43, 3, 42, 182, 0, 46, 133, 80, 167, 0, 6, 77, 4, 172, 3, 172]
abbrev dktX0_undo_0 : List UInt8 := dkwX0_undo_0 ++ []
theorem dksX0_undo_0 : cX0_undo.data.toList.drop 0 = dktX0_undo_0 := by decide +kernel
theorem dX0_undo_0 : decode cX0_undo 0 = .ok (.aload_n 1, 1) := dk_43 (dk_at dksX0_undo_0 0 rfl rfl)
theorem dX0_undo_1 : decode cX0_undo 1 = .ok (.iconst 0, 1) := dk_3 (dk_at dksX0_undo_0 1 rfl rfl)
theorem dX0_undo_2 : decode cX0_undo 2 = .ok (.aload_n 0, 1) := dk_42 (dk_at dksX0_undo_0 2 rfl rfl)
theorem dX0_undo_3 : decode cX0_undo 3 = .ok (.invokevirtual 46, 3) := dk_182 0 46 (dk_at dksX0_undo_0 3 rfl rfl)
theorem dX0_undo_6 : decode cX0_undo 6 = .ok (.i2l, 1) := dk_133 (dk_at dksX0_undo_0 6 rfl rfl)
theorem dX0_undo_7 : decode cX0_undo 7 = .ok (.lastore, 1) := dk_80 (dk_at dksX0_undo_0 7 rfl rfl)
theorem dX0_undo_8 : decode cX0_undo 8 = .ok (.goto 6, 3) := dk_167 0 6 (dk_at dksX0_undo_0 8 rfl rfl)
theorem dX0_undo_11 : decode cX0_undo 11 = .ok (.astore_n 2, 1) := dk_77 (dk_at dksX0_undo_0 11 rfl rfl)
theorem dX0_undo_12 : decode cX0_undo 12 = .ok (.iconst 1, 1) := dk_4 (dk_at dksX0_undo_0 12 rfl rfl)
theorem dX0_undo_13 : decode cX0_undo 13 = .ok (.ireturn, 1) := dk_172 (dk_at dksX0_undo_0 13 rfl rfl)
theorem dX0_undo_14 : decode cX0_undo 14 = .ok (.iconst 0, 1) := dk_3 (dk_at dksX0_undo_0 14 rfl rfl)
theorem dX0_undo_15 : decode cX0_undo 15 = .ok (.ireturn, 1) := dk_172 (dk_at dksX0_undo_0 15 rfl rfl)
abbrev cX0_save : ByteArray := method_13_code
def yX0_save : MethodName := ⟨RX0, "save", "(LTrailMarkers;I[J)I"⟩
def dkwX0_save_0 : List UInt8 := [44, 3, 42, 27, 182, 0, 50, 133, 80, 167, 0, 6, 78, 4, 172, 3, 172]
abbrev dktX0_save_0 : List UInt8 := dkwX0_save_0 ++ []
theorem dksX0_save_0 : cX0_save.data.toList.drop 0 = dktX0_save_0 := by decide +kernel
theorem dX0_save_0 : decode cX0_save 0 = .ok (.aload_n 2, 1) := dk_44 (dk_at dksX0_save_0 0 rfl rfl)
theorem dX0_save_1 : decode cX0_save 1 = .ok (.iconst 0, 1) := dk_3 (dk_at dksX0_save_0 1 rfl rfl)
theorem dX0_save_2 : decode cX0_save 2 = .ok (.aload_n 0, 1) := dk_42 (dk_at dksX0_save_0 2 rfl rfl)
theorem dX0_save_3 : decode cX0_save 3 = .ok (.iload_n 1, 1) := dk_27 (dk_at dksX0_save_0 3 rfl rfl)
theorem dX0_save_4 : decode cX0_save 4 = .ok (.invokevirtual 50, 3) := dk_182 0 50 (dk_at dksX0_save_0 4 rfl rfl)
theorem dX0_save_7 : decode cX0_save 7 = .ok (.i2l, 1) := dk_133 (dk_at dksX0_save_0 7 rfl rfl)
theorem dX0_save_8 : decode cX0_save 8 = .ok (.lastore, 1) := dk_80 (dk_at dksX0_save_0 8 rfl rfl)
theorem dX0_save_9 : decode cX0_save 9 = .ok (.goto 6, 3) := dk_167 0 6 (dk_at dksX0_save_0 9 rfl rfl)
theorem dX0_save_12 : decode cX0_save 12 = .ok (.astore_n 3, 1) := dk_78 (dk_at dksX0_save_0 12 rfl rfl)
theorem dX0_save_13 : decode cX0_save 13 = .ok (.iconst 1, 1) := dk_4 (dk_at dksX0_save_0 13 rfl rfl)
theorem dX0_save_14 : decode cX0_save 14 = .ok (.ireturn, 1) := dk_172 (dk_at dksX0_save_0 14 rfl rfl)
theorem dX0_save_15 : decode cX0_save 15 = .ok (.iconst 0, 1) := dk_3 (dk_at dksX0_save_0 15 rfl rfl)
theorem dX0_save_16 : decode cX0_save 16 = .ok (.ireturn, 1) := dk_172 (dk_at dksX0_save_0 16 rfl rfl)
abbrev cX0_restore : ByteArray := method_14_code
def yX0_restore : MethodName := ⟨RX0, "restore", "(LTrailMarkers;I[J)I"⟩
def dkwX0_restore_0 : List UInt8 := [44, 3, 42, 27, 182, 0, 53, 133, 80, 167, 0, 9, 78, 4, 172, 78, 5, 172, 3, 172]
abbrev dktX0_restore_0 : List UInt8 := dkwX0_restore_0 ++ []
theorem dksX0_restore_0 : cX0_restore.data.toList.drop 0 = dktX0_restore_0 := by decide +kernel
theorem dX0_restore_0 : decode cX0_restore 0 = .ok (.aload_n 2, 1) := dk_44 (dk_at dksX0_restore_0 0 rfl rfl)
theorem dX0_restore_1 : decode cX0_restore 1 = .ok (.iconst 0, 1) := dk_3 (dk_at dksX0_restore_0 1 rfl rfl)
theorem dX0_restore_2 : decode cX0_restore 2 = .ok (.aload_n 0, 1) := dk_42 (dk_at dksX0_restore_0 2 rfl rfl)
theorem dX0_restore_3 : decode cX0_restore 3 = .ok (.iload_n 1, 1) := dk_27 (dk_at dksX0_restore_0 3 rfl rfl)
theorem dX0_restore_4 : decode cX0_restore 4 = .ok (.invokevirtual 53, 3) := dk_182 0 53 (dk_at dksX0_restore_0 4 rfl rfl)
theorem dX0_restore_7 : decode cX0_restore 7 = .ok (.i2l, 1) := dk_133 (dk_at dksX0_restore_0 7 rfl rfl)
theorem dX0_restore_8 : decode cX0_restore 8 = .ok (.lastore, 1) := dk_80 (dk_at dksX0_restore_0 8 rfl rfl)
theorem dX0_restore_9 : decode cX0_restore 9 = .ok (.goto 9, 3) := dk_167 0 9 (dk_at dksX0_restore_0 9 rfl rfl)
theorem dX0_restore_12 : decode cX0_restore 12 = .ok (.astore_n 3, 1) := dk_78 (dk_at dksX0_restore_0 12 rfl rfl)
theorem dX0_restore_13 : decode cX0_restore 13 = .ok (.iconst 1, 1) := dk_4 (dk_at dksX0_restore_0 13 rfl rfl)
theorem dX0_restore_14 : decode cX0_restore 14 = .ok (.ireturn, 1) := dk_172 (dk_at dksX0_restore_0 14 rfl rfl)
theorem dX0_restore_15 : decode cX0_restore 15 = .ok (.astore_n 3, 1) := dk_78 (dk_at dksX0_restore_0 15 rfl rfl)
theorem dX0_restore_16 : decode cX0_restore 16 = .ok (.iconst 2, 1) := dk_5 (dk_at dksX0_restore_0 16 rfl rfl)
theorem dX0_restore_17 : decode cX0_restore 17 = .ok (.ireturn, 1) := dk_172 (dk_at dksX0_restore_0 17 rfl rfl)
theorem dX0_restore_18 : decode cX0_restore 18 = .ok (.iconst 0, 1) := dk_3 (dk_at dksX0_restore_0 18 rfl rfl)
theorem dX0_restore_19 : decode cX0_restore 19 = .ok (.ireturn, 1) := dk_172 (dk_at dksX0_restore_0 19 rfl rfl)
abbrev cX0_count : ByteArray := method_15_code
def yX0_count : MethodName := ⟨RX0, "count", "(LTrailMarkers;I[J)I"⟩
def dkwX0_count_0 : List UInt8 := [44, 3, 42, 27, 182, 0, 56, 133, 80, 167, 0, 6, 78, 4, 172, 3, 172]
abbrev dktX0_count_0 : List UInt8 := dkwX0_count_0 ++ []
theorem dksX0_count_0 : cX0_count.data.toList.drop 0 = dktX0_count_0 := by decide +kernel
theorem dX0_count_0 : decode cX0_count 0 = .ok (.aload_n 2, 1) := dk_44 (dk_at dksX0_count_0 0 rfl rfl)
theorem dX0_count_1 : decode cX0_count 1 = .ok (.iconst 0, 1) := dk_3 (dk_at dksX0_count_0 1 rfl rfl)
theorem dX0_count_2 : decode cX0_count 2 = .ok (.aload_n 0, 1) := dk_42 (dk_at dksX0_count_0 2 rfl rfl)
theorem dX0_count_3 : decode cX0_count 3 = .ok (.iload_n 1, 1) := dk_27 (dk_at dksX0_count_0 3 rfl rfl)
theorem dX0_count_4 : decode cX0_count 4 = .ok (.invokevirtual 56, 3) := dk_182 0 56 (dk_at dksX0_count_0 4 rfl rfl)
theorem dX0_count_7 : decode cX0_count 7 = .ok (.i2l, 1) := dk_133 (dk_at dksX0_count_0 7 rfl rfl)
theorem dX0_count_8 : decode cX0_count 8 = .ok (.lastore, 1) := dk_80 (dk_at dksX0_count_0 8 rfl rfl)
theorem dX0_count_9 : decode cX0_count 9 = .ok (.goto 6, 3) := dk_167 0 6 (dk_at dksX0_count_0 9 rfl rfl)
theorem dX0_count_12 : decode cX0_count 12 = .ok (.astore_n 3, 1) := dk_78 (dk_at dksX0_count_0 12 rfl rfl)
theorem dX0_count_13 : decode cX0_count 13 = .ok (.iconst 1, 1) := dk_4 (dk_at dksX0_count_0 13 rfl rfl)
theorem dX0_count_14 : decode cX0_count 14 = .ok (.ireturn, 1) := dk_172 (dk_at dksX0_count_0 14 rfl rfl)
theorem dX0_count_15 : decode cX0_count 15 = .ok (.iconst 0, 1) := dk_3 (dk_at dksX0_count_0 15 rfl rfl)
theorem dX0_count_16 : decode cX0_count 16 = .ok (.ireturn, 1) := dk_172 (dk_at dksX0_count_0 16 rfl rfl)
abbrev cX0_post : ByteArray := method_16_code
def yX0_post : MethodName := ⟨RX0, "post", "(LTrailMarkers;II[J)I"⟩
def dkwX0_post_0 : List UInt8 := [45, 3, 42, 27, 28, 182, 0, 59, 133, 80, 167, 0, 11, 58, 4, 4, 172, 58, 4, 5, 172, 3, 172]
abbrev dktX0_post_0 : List UInt8 := dkwX0_post_0 ++ []
theorem dksX0_post_0 : cX0_post.data.toList.drop 0 = dktX0_post_0 := by decide +kernel
theorem dX0_post_0 : decode cX0_post 0 = .ok (.aload_n 3, 1) := dk_45 (dk_at dksX0_post_0 0 rfl rfl)
theorem dX0_post_1 : decode cX0_post 1 = .ok (.iconst 0, 1) := dk_3 (dk_at dksX0_post_0 1 rfl rfl)
theorem dX0_post_2 : decode cX0_post 2 = .ok (.aload_n 0, 1) := dk_42 (dk_at dksX0_post_0 2 rfl rfl)
theorem dX0_post_3 : decode cX0_post 3 = .ok (.iload_n 1, 1) := dk_27 (dk_at dksX0_post_0 3 rfl rfl)
theorem dX0_post_4 : decode cX0_post 4 = .ok (.iload_n 2, 1) := dk_28 (dk_at dksX0_post_0 4 rfl rfl)
theorem dX0_post_5 : decode cX0_post 5 = .ok (.invokevirtual 59, 3) := dk_182 0 59 (dk_at dksX0_post_0 5 rfl rfl)
theorem dX0_post_8 : decode cX0_post 8 = .ok (.i2l, 1) := dk_133 (dk_at dksX0_post_0 8 rfl rfl)
theorem dX0_post_9 : decode cX0_post 9 = .ok (.lastore, 1) := dk_80 (dk_at dksX0_post_0 9 rfl rfl)
theorem dX0_post_10 : decode cX0_post 10 = .ok (.goto 11, 3) := dk_167 0 11 (dk_at dksX0_post_0 10 rfl rfl)
theorem dX0_post_13 : decode cX0_post 13 = .ok (.astore 4, 2) := dk_58 4 (dk_at dksX0_post_0 13 rfl rfl)
theorem dX0_post_15 : decode cX0_post 15 = .ok (.iconst 1, 1) := dk_4 (dk_at dksX0_post_0 15 rfl rfl)
theorem dX0_post_16 : decode cX0_post 16 = .ok (.ireturn, 1) := dk_172 (dk_at dksX0_post_0 16 rfl rfl)
theorem dX0_post_17 : decode cX0_post 17 = .ok (.astore 4, 2) := dk_58 4 (dk_at dksX0_post_0 17 rfl rfl)
theorem dX0_post_19 : decode cX0_post 19 = .ok (.iconst 2, 1) := dk_5 (dk_at dksX0_post_0 19 rfl rfl)
theorem dX0_post_20 : decode cX0_post 20 = .ok (.ireturn, 1) := dk_172 (dk_at dksX0_post_0 20 rfl rfl)
theorem dX0_post_21 : decode cX0_post 21 = .ok (.iconst 0, 1) := dk_3 (dk_at dksX0_post_0 21 rfl rfl)
theorem dX0_post_22 : decode cX0_post 22 = .ok (.ireturn, 1) := dk_172 (dk_at dksX0_post_0 22 rfl rfl)
abbrev cX0_at : ByteArray := method_17_code
def yX0_at : MethodName := ⟨RX0, "at", "(LTrailMarkers;II[J)I"⟩
def dkwX0_at_0 : List UInt8 := [45, 3, 42, 27, 28, 182, 0, 62, 133, 80, 167, 0, 7, 58, 4, 4, 172, 3, 172]
abbrev dktX0_at_0 : List UInt8 := dkwX0_at_0 ++ []
theorem dksX0_at_0 : cX0_at.data.toList.drop 0 = dktX0_at_0 := by decide +kernel
theorem dX0_at_0 : decode cX0_at 0 = .ok (.aload_n 3, 1) := dk_45 (dk_at dksX0_at_0 0 rfl rfl)
theorem dX0_at_1 : decode cX0_at 1 = .ok (.iconst 0, 1) := dk_3 (dk_at dksX0_at_0 1 rfl rfl)
theorem dX0_at_2 : decode cX0_at 2 = .ok (.aload_n 0, 1) := dk_42 (dk_at dksX0_at_0 2 rfl rfl)
theorem dX0_at_3 : decode cX0_at 3 = .ok (.iload_n 1, 1) := dk_27 (dk_at dksX0_at_0 3 rfl rfl)
theorem dX0_at_4 : decode cX0_at 4 = .ok (.iload_n 2, 1) := dk_28 (dk_at dksX0_at_0 4 rfl rfl)
theorem dX0_at_5 : decode cX0_at 5 = .ok (.invokevirtual 62, 3) := dk_182 0 62 (dk_at dksX0_at_0 5 rfl rfl)
theorem dX0_at_8 : decode cX0_at 8 = .ok (.i2l, 1) := dk_133 (dk_at dksX0_at_0 8 rfl rfl)
theorem dX0_at_9 : decode cX0_at 9 = .ok (.lastore, 1) := dk_80 (dk_at dksX0_at_0 9 rfl rfl)
theorem dX0_at_10 : decode cX0_at 10 = .ok (.goto 7, 3) := dk_167 0 7 (dk_at dksX0_at_0 10 rfl rfl)
theorem dX0_at_13 : decode cX0_at 13 = .ok (.astore 4, 2) := dk_58 4 (dk_at dksX0_at_0 13 rfl rfl)
theorem dX0_at_15 : decode cX0_at 15 = .ok (.iconst 1, 1) := dk_4 (dk_at dksX0_at_0 15 rfl rfl)
theorem dX0_at_16 : decode cX0_at 16 = .ok (.ireturn, 1) := dk_172 (dk_at dksX0_at_0 16 rfl rfl)
theorem dX0_at_17 : decode cX0_at 17 = .ok (.iconst 0, 1) := dk_3 (dk_at dksX0_at_0 17 rfl rfl)
theorem dX0_at_18 : decode cX0_at 18 = .ok (.ireturn, 1) := dk_172 (dk_at dksX0_at_0 18 rfl rfl)
abbrev cX0_colour : ByteArray := method_18_code
def yX0_colour : MethodName := ⟨RX0, "colour", "(LTrailMarkers;II[J)I"⟩
def dkwX0_colour_0 : List UInt8 := [45, 3, 42, 27, 28, 182, 0, 65, 133, 80, 167, 0, 11, 58, 4, 4, 172, 58, 4, 5, 172, 3, 172]
abbrev dktX0_colour_0 : List UInt8 := dkwX0_colour_0 ++ []
theorem dksX0_colour_0 : cX0_colour.data.toList.drop 0 = dktX0_colour_0 := by decide +kernel
theorem dX0_colour_0 : decode cX0_colour 0 = .ok (.aload_n 3, 1) := dk_45 (dk_at dksX0_colour_0 0 rfl rfl)
theorem dX0_colour_1 : decode cX0_colour 1 = .ok (.iconst 0, 1) := dk_3 (dk_at dksX0_colour_0 1 rfl rfl)
theorem dX0_colour_2 : decode cX0_colour 2 = .ok (.aload_n 0, 1) := dk_42 (dk_at dksX0_colour_0 2 rfl rfl)
theorem dX0_colour_3 : decode cX0_colour 3 = .ok (.iload_n 1, 1) := dk_27 (dk_at dksX0_colour_0 3 rfl rfl)
theorem dX0_colour_4 : decode cX0_colour 4 = .ok (.iload_n 2, 1) := dk_28 (dk_at dksX0_colour_0 4 rfl rfl)
theorem dX0_colour_5 : decode cX0_colour 5 = .ok (.invokevirtual 65, 3) := dk_182 0 65 (dk_at dksX0_colour_0 5 rfl rfl)
theorem dX0_colour_8 : decode cX0_colour 8 = .ok (.i2l, 1) := dk_133 (dk_at dksX0_colour_0 8 rfl rfl)
theorem dX0_colour_9 : decode cX0_colour 9 = .ok (.lastore, 1) := dk_80 (dk_at dksX0_colour_0 9 rfl rfl)
theorem dX0_colour_10 : decode cX0_colour 10 = .ok (.goto 11, 3) := dk_167 0 11 (dk_at dksX0_colour_0 10 rfl rfl)
theorem dX0_colour_13 : decode cX0_colour 13 = .ok (.astore 4, 2) := dk_58 4 (dk_at dksX0_colour_0 13 rfl rfl)
theorem dX0_colour_15 : decode cX0_colour 15 = .ok (.iconst 1, 1) := dk_4 (dk_at dksX0_colour_0 15 rfl rfl)
theorem dX0_colour_16 : decode cX0_colour 16 = .ok (.ireturn, 1) := dk_172 (dk_at dksX0_colour_0 16 rfl rfl)
theorem dX0_colour_17 : decode cX0_colour 17 = .ok (.astore 4, 2) := dk_58 4 (dk_at dksX0_colour_0 17 rfl rfl)
theorem dX0_colour_19 : decode cX0_colour 19 = .ok (.iconst 2, 1) := dk_5 (dk_at dksX0_colour_0 19 rfl rfl)
theorem dX0_colour_20 : decode cX0_colour 20 = .ok (.ireturn, 1) := dk_172 (dk_at dksX0_colour_0 20 rfl rfl)
theorem dX0_colour_21 : decode cX0_colour 21 = .ok (.iconst 0, 1) := dk_3 (dk_at dksX0_colour_0 21 rfl rfl)
theorem dX0_colour_22 : decode cX0_colour 22 = .ok (.ireturn, 1) := dk_172 (dk_at dksX0_colour_0 22 rfl rfl)
abbrev cX0_met : ByteArray := method_19_code
def yX0_met : MethodName := ⟨RX0, "met", "(LTrailMarkers;I[J)I"⟩
def dkwX0_met_0 : List UInt8 := [44, 3, 42, 27, 182, 0, 68, 80, 167, 0, 6, 78, 4, 172, 3, 172]
abbrev dktX0_met_0 : List UInt8 := dkwX0_met_0 ++ []
theorem dksX0_met_0 : cX0_met.data.toList.drop 0 = dktX0_met_0 := by decide +kernel
theorem dX0_met_0 : decode cX0_met 0 = .ok (.aload_n 2, 1) := dk_44 (dk_at dksX0_met_0 0 rfl rfl)
theorem dX0_met_1 : decode cX0_met 1 = .ok (.iconst 0, 1) := dk_3 (dk_at dksX0_met_0 1 rfl rfl)
theorem dX0_met_2 : decode cX0_met 2 = .ok (.aload_n 0, 1) := dk_42 (dk_at dksX0_met_0 2 rfl rfl)
theorem dX0_met_3 : decode cX0_met 3 = .ok (.iload_n 1, 1) := dk_27 (dk_at dksX0_met_0 3 rfl rfl)
theorem dX0_met_4 : decode cX0_met 4 = .ok (.invokevirtual 68, 3) := dk_182 0 68 (dk_at dksX0_met_0 4 rfl rfl)
theorem dX0_met_7 : decode cX0_met 7 = .ok (.lastore, 1) := dk_80 (dk_at dksX0_met_0 7 rfl rfl)
theorem dX0_met_8 : decode cX0_met 8 = .ok (.goto 6, 3) := dk_167 0 6 (dk_at dksX0_met_0 8 rfl rfl)
theorem dX0_met_11 : decode cX0_met 11 = .ok (.astore_n 3, 1) := dk_78 (dk_at dksX0_met_0 11 rfl rfl)
theorem dX0_met_12 : decode cX0_met 12 = .ok (.iconst 1, 1) := dk_4 (dk_at dksX0_met_0 12 rfl rfl)
theorem dX0_met_13 : decode cX0_met 13 = .ok (.ireturn, 1) := dk_172 (dk_at dksX0_met_0 13 rfl rfl)
theorem dX0_met_14 : decode cX0_met 14 = .ok (.iconst 0, 1) := dk_3 (dk_at dksX0_met_0 14 rfl rfl)
theorem dX0_met_15 : decode cX0_met 15 = .ok (.ireturn, 1) := dk_172 (dk_at dksX0_met_0 15 rfl rfl)
abbrev cX0_route : ByteArray := method_20_code
def yX0_route : MethodName := ⟨RX0, "route", "(LTrailMarkers;II[J)I"⟩
def dkwX0_route_0 : List UInt8 := [45, 3, 42, 27, 28, 182, 0, 72, 133, 80, 167, 0, 11, 58, 4, 4, 172, 58, 4, 5, 172, 3, 172]
abbrev dktX0_route_0 : List UInt8 := dkwX0_route_0 ++ []
theorem dksX0_route_0 : cX0_route.data.toList.drop 0 = dktX0_route_0 := by decide +kernel
theorem dX0_route_0 : decode cX0_route 0 = .ok (.aload_n 3, 1) := dk_45 (dk_at dksX0_route_0 0 rfl rfl)
theorem dX0_route_1 : decode cX0_route 1 = .ok (.iconst 0, 1) := dk_3 (dk_at dksX0_route_0 1 rfl rfl)
theorem dX0_route_2 : decode cX0_route 2 = .ok (.aload_n 0, 1) := dk_42 (dk_at dksX0_route_0 2 rfl rfl)
theorem dX0_route_3 : decode cX0_route 3 = .ok (.iload_n 1, 1) := dk_27 (dk_at dksX0_route_0 3 rfl rfl)
theorem dX0_route_4 : decode cX0_route 4 = .ok (.iload_n 2, 1) := dk_28 (dk_at dksX0_route_0 4 rfl rfl)
theorem dX0_route_5 : decode cX0_route 5 = .ok (.invokevirtual 72, 3) := dk_182 0 72 (dk_at dksX0_route_0 5 rfl rfl)
theorem dX0_route_8 : decode cX0_route 8 = .ok (.i2l, 1) := dk_133 (dk_at dksX0_route_0 8 rfl rfl)
theorem dX0_route_9 : decode cX0_route 9 = .ok (.lastore, 1) := dk_80 (dk_at dksX0_route_0 9 rfl rfl)
theorem dX0_route_10 : decode cX0_route 10 = .ok (.goto 11, 3) := dk_167 0 11 (dk_at dksX0_route_0 10 rfl rfl)
theorem dX0_route_13 : decode cX0_route 13 = .ok (.astore 4, 2) := dk_58 4 (dk_at dksX0_route_0 13 rfl rfl)
theorem dX0_route_15 : decode cX0_route 15 = .ok (.iconst 1, 1) := dk_4 (dk_at dksX0_route_0 15 rfl rfl)
theorem dX0_route_16 : decode cX0_route 16 = .ok (.ireturn, 1) := dk_172 (dk_at dksX0_route_0 16 rfl rfl)
theorem dX0_route_17 : decode cX0_route 17 = .ok (.astore 4, 2) := dk_58 4 (dk_at dksX0_route_0 17 rfl rfl)
theorem dX0_route_19 : decode cX0_route 19 = .ok (.iconst 2, 1) := dk_5 (dk_at dksX0_route_0 19 rfl rfl)
theorem dX0_route_20 : decode cX0_route 20 = .ok (.ireturn, 1) := dk_172 (dk_at dksX0_route_0 20 rfl rfl)
theorem dX0_route_21 : decode cX0_route 21 = .ok (.iconst 0, 1) := dk_3 (dk_at dksX0_route_0 21 rfl rfl)
theorem dX0_route_22 : decode cX0_route 22 = .ok (.ireturn, 1) := dk_172 (dk_at dksX0_route_0 22 rfl rfl)
abbrev cX0_routePost : ByteArray := method_21_code
def yX0_routePost : MethodName := ⟨RX0, "routePost", "(LTrailMarkers;II[J)I"⟩
def dkwX0_routePost_0 : List UInt8 := [45, 3, 42, 27, 28, 182, 0, 75, 133, 80, 167, 0, 7, 58, 4, 4, 172, 3, 172]
abbrev dktX0_routePost_0 : List UInt8 := dkwX0_routePost_0 ++ []
theorem dksX0_routePost_0 : cX0_routePost.data.toList.drop 0 = dktX0_routePost_0 := by decide +kernel
theorem dX0_routePost_0 : decode cX0_routePost 0 = .ok (.aload_n 3, 1) := dk_45 (dk_at dksX0_routePost_0 0 rfl rfl)
theorem dX0_routePost_1 : decode cX0_routePost 1 = .ok (.iconst 0, 1) := dk_3 (dk_at dksX0_routePost_0 1 rfl rfl)
theorem dX0_routePost_2 : decode cX0_routePost 2 = .ok (.aload_n 0, 1) := dk_42 (dk_at dksX0_routePost_0 2 rfl rfl)
theorem dX0_routePost_3 : decode cX0_routePost 3 = .ok (.iload_n 1, 1) := dk_27 (dk_at dksX0_routePost_0 3 rfl rfl)
theorem dX0_routePost_4 : decode cX0_routePost 4 = .ok (.iload_n 2, 1) := dk_28 (dk_at dksX0_routePost_0 4 rfl rfl)
theorem dX0_routePost_5 : decode cX0_routePost 5 = .ok (.invokevirtual 75, 3) := dk_182 0 75 (dk_at dksX0_routePost_0 5 rfl rfl)
theorem dX0_routePost_8 : decode cX0_routePost 8 = .ok (.i2l, 1) := dk_133 (dk_at dksX0_routePost_0 8 rfl rfl)
theorem dX0_routePost_9 : decode cX0_routePost 9 = .ok (.lastore, 1) := dk_80 (dk_at dksX0_routePost_0 9 rfl rfl)
theorem dX0_routePost_10 : decode cX0_routePost 10 = .ok (.goto 7, 3) := dk_167 0 7 (dk_at dksX0_routePost_0 10 rfl rfl)
theorem dX0_routePost_13 : decode cX0_routePost 13 = .ok (.astore 4, 2) := dk_58 4 (dk_at dksX0_routePost_0 13 rfl rfl)
theorem dX0_routePost_15 : decode cX0_routePost 15 = .ok (.iconst 1, 1) := dk_4 (dk_at dksX0_routePost_0 15 rfl rfl)
theorem dX0_routePost_16 : decode cX0_routePost 16 = .ok (.ireturn, 1) := dk_172 (dk_at dksX0_routePost_0 16 rfl rfl)
theorem dX0_routePost_17 : decode cX0_routePost 17 = .ok (.iconst 0, 1) := dk_3 (dk_at dksX0_routePost_0 17 rfl rfl)
theorem dX0_routePost_18 : decode cX0_routePost 18 = .ok (.ireturn, 1) := dk_172 (dk_at dksX0_routePost_0 18 rfl rfl)
abbrev cX0_routeCell : ByteArray := method_22_code
def yX0_routeCell : MethodName := ⟨RX0, "routeCell", "(LTrailMarkers;II[J)I"⟩
def dkwX0_routeCell_0 : List UInt8 := [45, 3, 42, 27, 28, 182, 0, 78, 133, 80, 167, 0, 7, 58, 4, 4, 172, 3, 172]
abbrev dktX0_routeCell_0 : List UInt8 := dkwX0_routeCell_0 ++ []
theorem dksX0_routeCell_0 : cX0_routeCell.data.toList.drop 0 = dktX0_routeCell_0 := by decide +kernel
theorem dX0_routeCell_0 : decode cX0_routeCell 0 = .ok (.aload_n 3, 1) := dk_45 (dk_at dksX0_routeCell_0 0 rfl rfl)
theorem dX0_routeCell_1 : decode cX0_routeCell 1 = .ok (.iconst 0, 1) := dk_3 (dk_at dksX0_routeCell_0 1 rfl rfl)
theorem dX0_routeCell_2 : decode cX0_routeCell 2 = .ok (.aload_n 0, 1) := dk_42 (dk_at dksX0_routeCell_0 2 rfl rfl)
theorem dX0_routeCell_3 : decode cX0_routeCell 3 = .ok (.iload_n 1, 1) := dk_27 (dk_at dksX0_routeCell_0 3 rfl rfl)
theorem dX0_routeCell_4 : decode cX0_routeCell 4 = .ok (.iload_n 2, 1) := dk_28 (dk_at dksX0_routeCell_0 4 rfl rfl)
theorem dX0_routeCell_5 : decode cX0_routeCell 5 = .ok (.invokevirtual 78, 3) := dk_182 0 78 (dk_at dksX0_routeCell_0 5 rfl rfl)
theorem dX0_routeCell_8 : decode cX0_routeCell 8 = .ok (.i2l, 1) := dk_133 (dk_at dksX0_routeCell_0 8 rfl rfl)
theorem dX0_routeCell_9 : decode cX0_routeCell 9 = .ok (.lastore, 1) := dk_80 (dk_at dksX0_routeCell_0 9 rfl rfl)
theorem dX0_routeCell_10 : decode cX0_routeCell 10 = .ok (.goto 7, 3) := dk_167 0 7 (dk_at dksX0_routeCell_0 10 rfl rfl)
theorem dX0_routeCell_13 : decode cX0_routeCell 13 = .ok (.astore 4, 2) := dk_58 4 (dk_at dksX0_routeCell_0 13 rfl rfl)
theorem dX0_routeCell_15 : decode cX0_routeCell 15 = .ok (.iconst 1, 1) := dk_4 (dk_at dksX0_routeCell_0 15 rfl rfl)
theorem dX0_routeCell_16 : decode cX0_routeCell 16 = .ok (.ireturn, 1) := dk_172 (dk_at dksX0_routeCell_0 16 rfl rfl)
theorem dX0_routeCell_17 : decode cX0_routeCell 17 = .ok (.iconst 0, 1) := dk_3 (dk_at dksX0_routeCell_0 17 rfl rfl)
theorem dX0_routeCell_18 : decode cX0_routeCell 18 = .ok (.ireturn, 1) := dk_172 (dk_at dksX0_routeCell_0 18 rfl rfl)
abbrev cX0_inferred : ByteArray := method_23_code
def yX0_inferred : MethodName := ⟨RX0, "inferred", "(LTrailMarkers;II[J)I"⟩
def dkwX0_inferred_0 : List UInt8 := [45, 3, 42, 27, 28, 182, 0, 81, 133, 80, 167, 0, 7, 58, 4, 4, 172, 3, 172]
abbrev dktX0_inferred_0 : List UInt8 := dkwX0_inferred_0 ++ []
theorem dksX0_inferred_0 : cX0_inferred.data.toList.drop 0 = dktX0_inferred_0 := by decide +kernel
theorem dX0_inferred_0 : decode cX0_inferred 0 = .ok (.aload_n 3, 1) := dk_45 (dk_at dksX0_inferred_0 0 rfl rfl)
theorem dX0_inferred_1 : decode cX0_inferred 1 = .ok (.iconst 0, 1) := dk_3 (dk_at dksX0_inferred_0 1 rfl rfl)
theorem dX0_inferred_2 : decode cX0_inferred 2 = .ok (.aload_n 0, 1) := dk_42 (dk_at dksX0_inferred_0 2 rfl rfl)
theorem dX0_inferred_3 : decode cX0_inferred 3 = .ok (.iload_n 1, 1) := dk_27 (dk_at dksX0_inferred_0 3 rfl rfl)
theorem dX0_inferred_4 : decode cX0_inferred 4 = .ok (.iload_n 2, 1) := dk_28 (dk_at dksX0_inferred_0 4 rfl rfl)
theorem dX0_inferred_5 : decode cX0_inferred 5 = .ok (.invokevirtual 81, 3) := dk_182 0 81 (dk_at dksX0_inferred_0 5 rfl rfl)
theorem dX0_inferred_8 : decode cX0_inferred 8 = .ok (.i2l, 1) := dk_133 (dk_at dksX0_inferred_0 8 rfl rfl)
theorem dX0_inferred_9 : decode cX0_inferred 9 = .ok (.lastore, 1) := dk_80 (dk_at dksX0_inferred_0 9 rfl rfl)
theorem dX0_inferred_10 : decode cX0_inferred 10 = .ok (.goto 7, 3) := dk_167 0 7 (dk_at dksX0_inferred_0 10 rfl rfl)
theorem dX0_inferred_13 : decode cX0_inferred 13 = .ok (.astore 4, 2) := dk_58 4 (dk_at dksX0_inferred_0 13 rfl rfl)
theorem dX0_inferred_15 : decode cX0_inferred 15 = .ok (.iconst 1, 1) := dk_4 (dk_at dksX0_inferred_0 15 rfl rfl)
theorem dX0_inferred_16 : decode cX0_inferred 16 = .ok (.ireturn, 1) := dk_172 (dk_at dksX0_inferred_0 16 rfl rfl)
theorem dX0_inferred_17 : decode cX0_inferred 17 = .ok (.iconst 0, 1) := dk_3 (dk_at dksX0_inferred_0 17 rfl rfl)
theorem dX0_inferred_18 : decode cX0_inferred 18 = .ok (.ireturn, 1) := dk_172 (dk_at dksX0_inferred_0 18 rfl rfl)
abbrev cX0_shared : ByteArray := method_24_code
def yX0_shared : MethodName := ⟨RX0, "shared", "(LTrailMarkers;II[J)I"⟩
def dkwX0_shared_0 : List UInt8 := [45, 3, 42, 27, 28, 182, 0, 84, 133, 80, 167, 0, 7, 58, 4, 4, 172, 3, 172]
abbrev dktX0_shared_0 : List UInt8 := dkwX0_shared_0 ++ []
theorem dksX0_shared_0 : cX0_shared.data.toList.drop 0 = dktX0_shared_0 := by decide +kernel
theorem dX0_shared_0 : decode cX0_shared 0 = .ok (.aload_n 3, 1) := dk_45 (dk_at dksX0_shared_0 0 rfl rfl)
theorem dX0_shared_1 : decode cX0_shared 1 = .ok (.iconst 0, 1) := dk_3 (dk_at dksX0_shared_0 1 rfl rfl)
theorem dX0_shared_2 : decode cX0_shared 2 = .ok (.aload_n 0, 1) := dk_42 (dk_at dksX0_shared_0 2 rfl rfl)
theorem dX0_shared_3 : decode cX0_shared 3 = .ok (.iload_n 1, 1) := dk_27 (dk_at dksX0_shared_0 3 rfl rfl)
theorem dX0_shared_4 : decode cX0_shared 4 = .ok (.iload_n 2, 1) := dk_28 (dk_at dksX0_shared_0 4 rfl rfl)
theorem dX0_shared_5 : decode cX0_shared 5 = .ok (.invokevirtual 84, 3) := dk_182 0 84 (dk_at dksX0_shared_0 5 rfl rfl)
theorem dX0_shared_8 : decode cX0_shared 8 = .ok (.i2l, 1) := dk_133 (dk_at dksX0_shared_0 8 rfl rfl)
theorem dX0_shared_9 : decode cX0_shared 9 = .ok (.lastore, 1) := dk_80 (dk_at dksX0_shared_0 9 rfl rfl)
theorem dX0_shared_10 : decode cX0_shared 10 = .ok (.goto 7, 3) := dk_167 0 7 (dk_at dksX0_shared_0 10 rfl rfl)
theorem dX0_shared_13 : decode cX0_shared 13 = .ok (.astore 4, 2) := dk_58 4 (dk_at dksX0_shared_0 13 rfl rfl)
theorem dX0_shared_15 : decode cX0_shared 15 = .ok (.iconst 1, 1) := dk_4 (dk_at dksX0_shared_0 15 rfl rfl)
theorem dX0_shared_16 : decode cX0_shared 16 = .ok (.ireturn, 1) := dk_172 (dk_at dksX0_shared_0 16 rfl rfl)
theorem dX0_shared_17 : decode cX0_shared 17 = .ok (.iconst 0, 1) := dk_3 (dk_at dksX0_shared_0 17 rfl rfl)
theorem dX0_shared_18 : decode cX0_shared 18 = .ok (.ireturn, 1) := dk_172 (dk_at dksX0_shared_0 18 rfl rfl)
abbrev cX0_why : ByteArray := method_25_code
def yX0_why : MethodName := ⟨RX0, "why", "(LTrailMarkers;II[J)I"⟩
def dkwX0_why_0 : List UInt8 := [45, 3, 42, 27, 28, 182, 0, 87, 133, 80, 167, 0, 11, 58, 4, 4, 172, 58, 4, 5, 172, 3, 172]
abbrev dktX0_why_0 : List UInt8 := dkwX0_why_0 ++ []
theorem dksX0_why_0 : cX0_why.data.toList.drop 0 = dktX0_why_0 := by decide +kernel
theorem dX0_why_0 : decode cX0_why 0 = .ok (.aload_n 3, 1) := dk_45 (dk_at dksX0_why_0 0 rfl rfl)
theorem dX0_why_1 : decode cX0_why 1 = .ok (.iconst 0, 1) := dk_3 (dk_at dksX0_why_0 1 rfl rfl)
theorem dX0_why_2 : decode cX0_why 2 = .ok (.aload_n 0, 1) := dk_42 (dk_at dksX0_why_0 2 rfl rfl)
theorem dX0_why_3 : decode cX0_why 3 = .ok (.iload_n 1, 1) := dk_27 (dk_at dksX0_why_0 3 rfl rfl)
theorem dX0_why_4 : decode cX0_why 4 = .ok (.iload_n 2, 1) := dk_28 (dk_at dksX0_why_0 4 rfl rfl)
theorem dX0_why_5 : decode cX0_why 5 = .ok (.invokevirtual 87, 3) := dk_182 0 87 (dk_at dksX0_why_0 5 rfl rfl)
theorem dX0_why_8 : decode cX0_why 8 = .ok (.i2l, 1) := dk_133 (dk_at dksX0_why_0 8 rfl rfl)
theorem dX0_why_9 : decode cX0_why 9 = .ok (.lastore, 1) := dk_80 (dk_at dksX0_why_0 9 rfl rfl)
theorem dX0_why_10 : decode cX0_why 10 = .ok (.goto 11, 3) := dk_167 0 11 (dk_at dksX0_why_0 10 rfl rfl)
theorem dX0_why_13 : decode cX0_why 13 = .ok (.astore 4, 2) := dk_58 4 (dk_at dksX0_why_0 13 rfl rfl)
theorem dX0_why_15 : decode cX0_why 15 = .ok (.iconst 1, 1) := dk_4 (dk_at dksX0_why_0 15 rfl rfl)
theorem dX0_why_16 : decode cX0_why 16 = .ok (.ireturn, 1) := dk_172 (dk_at dksX0_why_0 16 rfl rfl)
theorem dX0_why_17 : decode cX0_why 17 = .ok (.astore 4, 2) := dk_58 4 (dk_at dksX0_why_0 17 rfl rfl)
theorem dX0_why_19 : decode cX0_why 19 = .ok (.iconst 2, 1) := dk_5 (dk_at dksX0_why_0 19 rfl rfl)
theorem dX0_why_20 : decode cX0_why 20 = .ok (.ireturn, 1) := dk_172 (dk_at dksX0_why_0 20 rfl rfl)
theorem dX0_why_21 : decode cX0_why 21 = .ok (.iconst 0, 1) := dk_3 (dk_at dksX0_why_0 21 rfl rfl)
theorem dX0_why_22 : decode cX0_why 22 = .ok (.ireturn, 1) := dk_172 (dk_at dksX0_why_0 22 rfl rfl)
abbrev cX0_ifOther : ByteArray := method_26_code
def yX0_ifOther : MethodName := ⟨RX0, "ifOther", "(LTrailMarkers;III[J)I"⟩
def dkwX0_ifOther_1 : List UInt8 := [172]
abbrev dktX0_ifOther_1 : List UInt8 := dkwX0_ifOther_1 ++ []
def dkwX0_ifOther_0 : List UInt8 := [25, 4, 3, 42, 27, 28, 29, 182, 0, 90, 133, 80, 167, 0, 11, 58, 5, 4, 172, 58, 5, 5, 172, 3]
abbrev dktX0_ifOther_0 : List UInt8 := dkwX0_ifOther_0 ++ dktX0_ifOther_1
theorem dksX0_ifOther_0 : cX0_ifOther.data.toList.drop 0 = dktX0_ifOther_0 := by decide +kernel
theorem dksX0_ifOther_1 : cX0_ifOther.data.toList.drop 24 = dktX0_ifOther_1 := dk_seg dksX0_ifOther_0 24 rfl rfl
theorem dX0_ifOther_0 : decode cX0_ifOther 0 = .ok (.aload 4, 2) := dk_25 4 (dk_at dksX0_ifOther_0 0 rfl rfl)
theorem dX0_ifOther_2 : decode cX0_ifOther 2 = .ok (.iconst 0, 1) := dk_3 (dk_at dksX0_ifOther_0 2 rfl rfl)
theorem dX0_ifOther_3 : decode cX0_ifOther 3 = .ok (.aload_n 0, 1) := dk_42 (dk_at dksX0_ifOther_0 3 rfl rfl)
theorem dX0_ifOther_4 : decode cX0_ifOther 4 = .ok (.iload_n 1, 1) := dk_27 (dk_at dksX0_ifOther_0 4 rfl rfl)
theorem dX0_ifOther_5 : decode cX0_ifOther 5 = .ok (.iload_n 2, 1) := dk_28 (dk_at dksX0_ifOther_0 5 rfl rfl)
theorem dX0_ifOther_6 : decode cX0_ifOther 6 = .ok (.iload_n 3, 1) := dk_29 (dk_at dksX0_ifOther_0 6 rfl rfl)
theorem dX0_ifOther_7 : decode cX0_ifOther 7 = .ok (.invokevirtual 90, 3) := dk_182 0 90 (dk_at dksX0_ifOther_0 7 rfl rfl)
theorem dX0_ifOther_10 : decode cX0_ifOther 10 = .ok (.i2l, 1) := dk_133 (dk_at dksX0_ifOther_0 10 rfl rfl)
theorem dX0_ifOther_11 : decode cX0_ifOther 11 = .ok (.lastore, 1) := dk_80 (dk_at dksX0_ifOther_0 11 rfl rfl)
theorem dX0_ifOther_12 : decode cX0_ifOther 12 = .ok (.goto 11, 3) := dk_167 0 11 (dk_at dksX0_ifOther_0 12 rfl rfl)
theorem dX0_ifOther_15 : decode cX0_ifOther 15 = .ok (.astore 5, 2) := dk_58 5 (dk_at dksX0_ifOther_0 15 rfl rfl)
theorem dX0_ifOther_17 : decode cX0_ifOther 17 = .ok (.iconst 1, 1) := dk_4 (dk_at dksX0_ifOther_0 17 rfl rfl)
theorem dX0_ifOther_18 : decode cX0_ifOther 18 = .ok (.ireturn, 1) := dk_172 (dk_at dksX0_ifOther_0 18 rfl rfl)
theorem dX0_ifOther_19 : decode cX0_ifOther 19 = .ok (.astore 5, 2) := dk_58 5 (dk_at dksX0_ifOther_0 19 rfl rfl)
theorem dX0_ifOther_21 : decode cX0_ifOther 21 = .ok (.iconst 2, 1) := dk_5 (dk_at dksX0_ifOther_0 21 rfl rfl)
theorem dX0_ifOther_22 : decode cX0_ifOther 22 = .ok (.ireturn, 1) := dk_172 (dk_at dksX0_ifOther_0 22 rfl rfl)
theorem dX0_ifOther_23 : decode cX0_ifOther 23 = .ok (.iconst 0, 1) := dk_3 (dk_at dksX0_ifOther_0 23 rfl rfl)
theorem dX0_ifOther_24 : decode cX0_ifOther 24 = .ok (.ireturn, 1) := dk_172 (dk_at dksX0_ifOther_1 0 rfl rfl)
abbrev cX0_ifSet : ByteArray := method_27_code
def yX0_ifSet : MethodName := ⟨RX0, "ifSet", "(LTrailMarkers;IIII[J)I"⟩
def dkwX0_ifSet_1 : List UInt8 := [172, 3, 172]
abbrev dktX0_ifSet_1 : List UInt8 := dkwX0_ifSet_1 ++ []
def dkwX0_ifSet_0 : List UInt8 := [25, 5, 3, 42, 27, 28, 29, 21, 4, 182, 0, 94, 133, 80, 167, 0, 11, 58, 6, 4, 172, 58, 6, 5]
abbrev dktX0_ifSet_0 : List UInt8 := dkwX0_ifSet_0 ++ dktX0_ifSet_1
theorem dksX0_ifSet_0 : cX0_ifSet.data.toList.drop 0 = dktX0_ifSet_0 := by decide +kernel
theorem dksX0_ifSet_1 : cX0_ifSet.data.toList.drop 24 = dktX0_ifSet_1 := dk_seg dksX0_ifSet_0 24 rfl rfl
theorem dX0_ifSet_0 : decode cX0_ifSet 0 = .ok (.aload 5, 2) := dk_25 5 (dk_at dksX0_ifSet_0 0 rfl rfl)
theorem dX0_ifSet_2 : decode cX0_ifSet 2 = .ok (.iconst 0, 1) := dk_3 (dk_at dksX0_ifSet_0 2 rfl rfl)
theorem dX0_ifSet_3 : decode cX0_ifSet 3 = .ok (.aload_n 0, 1) := dk_42 (dk_at dksX0_ifSet_0 3 rfl rfl)
theorem dX0_ifSet_4 : decode cX0_ifSet 4 = .ok (.iload_n 1, 1) := dk_27 (dk_at dksX0_ifSet_0 4 rfl rfl)
theorem dX0_ifSet_5 : decode cX0_ifSet 5 = .ok (.iload_n 2, 1) := dk_28 (dk_at dksX0_ifSet_0 5 rfl rfl)
theorem dX0_ifSet_6 : decode cX0_ifSet 6 = .ok (.iload_n 3, 1) := dk_29 (dk_at dksX0_ifSet_0 6 rfl rfl)
theorem dX0_ifSet_7 : decode cX0_ifSet 7 = .ok (.iload 4, 2) := dk_21 4 (dk_at dksX0_ifSet_0 7 rfl rfl)
theorem dX0_ifSet_9 : decode cX0_ifSet 9 = .ok (.invokevirtual 94, 3) := dk_182 0 94 (dk_at dksX0_ifSet_0 9 rfl rfl)
theorem dX0_ifSet_12 : decode cX0_ifSet 12 = .ok (.i2l, 1) := dk_133 (dk_at dksX0_ifSet_0 12 rfl rfl)
theorem dX0_ifSet_13 : decode cX0_ifSet 13 = .ok (.lastore, 1) := dk_80 (dk_at dksX0_ifSet_0 13 rfl rfl)
theorem dX0_ifSet_14 : decode cX0_ifSet 14 = .ok (.goto 11, 3) := dk_167 0 11 (dk_at dksX0_ifSet_0 14 rfl rfl)
theorem dX0_ifSet_17 : decode cX0_ifSet 17 = .ok (.astore 6, 2) := dk_58 6 (dk_at dksX0_ifSet_0 17 rfl rfl)
theorem dX0_ifSet_19 : decode cX0_ifSet 19 = .ok (.iconst 1, 1) := dk_4 (dk_at dksX0_ifSet_0 19 rfl rfl)
theorem dX0_ifSet_20 : decode cX0_ifSet 20 = .ok (.ireturn, 1) := dk_172 (dk_at dksX0_ifSet_0 20 rfl rfl)
theorem dX0_ifSet_21 : decode cX0_ifSet 21 = .ok (.astore 6, 2) := dk_58 6 (dk_at dksX0_ifSet_0 21 rfl rfl)
theorem dX0_ifSet_23 : decode cX0_ifSet 23 = .ok (.iconst 2, 1) := dk_5 (dk_at dksX0_ifSet_0 23 rfl rfl)
theorem dX0_ifSet_24 : decode cX0_ifSet 24 = .ok (.ireturn, 1) := dk_172 (dk_at dksX0_ifSet_1 0 rfl rfl)
theorem dX0_ifSet_25 : decode cX0_ifSet 25 = .ok (.iconst 0, 1) := dk_3 (dk_at dksX0_ifSet_1 1 rfl rfl)
theorem dX0_ifSet_26 : decode cX0_ifSet 26 = .ok (.ireturn, 1) := dk_172 (dk_at dksX0_ifSet_1 2 rfl rfl)
abbrev cX0_bestMend : ByteArray := method_28_code
def yX0_bestMend : MethodName := ⟨RX0, "bestMend", "(LTrailMarkers;I[J)I"⟩
def dkwX0_bestMend_0 : List UInt8 := [44, 3, 42, 27, 182, 0, 97, 133, 80, 167, 0, 6, 78, 4, 172, 3, 172]
abbrev dktX0_bestMend_0 : List UInt8 := dkwX0_bestMend_0 ++ []
theorem dksX0_bestMend_0 : cX0_bestMend.data.toList.drop 0 = dktX0_bestMend_0 := by decide +kernel
theorem dX0_bestMend_0 : decode cX0_bestMend 0 = .ok (.aload_n 2, 1) := dk_44 (dk_at dksX0_bestMend_0 0 rfl rfl)
theorem dX0_bestMend_1 : decode cX0_bestMend 1 = .ok (.iconst 0, 1) := dk_3 (dk_at dksX0_bestMend_0 1 rfl rfl)
theorem dX0_bestMend_2 : decode cX0_bestMend 2 = .ok (.aload_n 0, 1) := dk_42 (dk_at dksX0_bestMend_0 2 rfl rfl)
theorem dX0_bestMend_3 : decode cX0_bestMend 3 = .ok (.iload_n 1, 1) := dk_27 (dk_at dksX0_bestMend_0 3 rfl rfl)
theorem dX0_bestMend_4 : decode cX0_bestMend 4 = .ok (.invokevirtual 97, 3) := dk_182 0 97 (dk_at dksX0_bestMend_0 4 rfl rfl)
theorem dX0_bestMend_7 : decode cX0_bestMend 7 = .ok (.i2l, 1) := dk_133 (dk_at dksX0_bestMend_0 7 rfl rfl)
theorem dX0_bestMend_8 : decode cX0_bestMend 8 = .ok (.lastore, 1) := dk_80 (dk_at dksX0_bestMend_0 8 rfl rfl)
theorem dX0_bestMend_9 : decode cX0_bestMend 9 = .ok (.goto 6, 3) := dk_167 0 6 (dk_at dksX0_bestMend_0 9 rfl rfl)
theorem dX0_bestMend_12 : decode cX0_bestMend 12 = .ok (.astore_n 3, 1) := dk_78 (dk_at dksX0_bestMend_0 12 rfl rfl)
theorem dX0_bestMend_13 : decode cX0_bestMend 13 = .ok (.iconst 1, 1) := dk_4 (dk_at dksX0_bestMend_0 13 rfl rfl)
theorem dX0_bestMend_14 : decode cX0_bestMend 14 = .ok (.ireturn, 1) := dk_172 (dk_at dksX0_bestMend_0 14 rfl rfl)
theorem dX0_bestMend_15 : decode cX0_bestMend 15 = .ok (.iconst 0, 1) := dk_3 (dk_at dksX0_bestMend_0 15 rfl rfl)
theorem dX0_bestMend_16 : decode cX0_bestMend 16 = .ok (.ireturn, 1) := dk_172 (dk_at dksX0_bestMend_0 16 rfl rfl)
abbrev cX0_worstLoss : ByteArray := method_29_code
def yX0_worstLoss : MethodName := ⟨RX0, "worstLoss", "(LTrailMarkers;I[J)I"⟩
def dkwX0_worstLoss_0 : List UInt8 := [44, 3, 42, 27, 182, 0, 100, 133, 80, 167, 0, 6, 78, 4, 172, 3, 172]
abbrev dktX0_worstLoss_0 : List UInt8 := dkwX0_worstLoss_0 ++ []
theorem dksX0_worstLoss_0 : cX0_worstLoss.data.toList.drop 0 = dktX0_worstLoss_0 := by decide +kernel
theorem dX0_worstLoss_0 : decode cX0_worstLoss 0 = .ok (.aload_n 2, 1) := dk_44 (dk_at dksX0_worstLoss_0 0 rfl rfl)
theorem dX0_worstLoss_1 : decode cX0_worstLoss 1 = .ok (.iconst 0, 1) := dk_3 (dk_at dksX0_worstLoss_0 1 rfl rfl)
theorem dX0_worstLoss_2 : decode cX0_worstLoss 2 = .ok (.aload_n 0, 1) := dk_42 (dk_at dksX0_worstLoss_0 2 rfl rfl)
theorem dX0_worstLoss_3 : decode cX0_worstLoss 3 = .ok (.iload_n 1, 1) := dk_27 (dk_at dksX0_worstLoss_0 3 rfl rfl)
theorem dX0_worstLoss_4 : decode cX0_worstLoss 4 = .ok (.invokevirtual 100, 3) := dk_182 0 100 (dk_at dksX0_worstLoss_0 4 rfl rfl)
theorem dX0_worstLoss_7 : decode cX0_worstLoss 7 = .ok (.i2l, 1) := dk_133 (dk_at dksX0_worstLoss_0 7 rfl rfl)
theorem dX0_worstLoss_8 : decode cX0_worstLoss 8 = .ok (.lastore, 1) := dk_80 (dk_at dksX0_worstLoss_0 8 rfl rfl)
theorem dX0_worstLoss_9 : decode cX0_worstLoss 9 = .ok (.goto 6, 3) := dk_167 0 6 (dk_at dksX0_worstLoss_0 9 rfl rfl)
theorem dX0_worstLoss_12 : decode cX0_worstLoss 12 = .ok (.astore_n 3, 1) := dk_78 (dk_at dksX0_worstLoss_0 12 rfl rfl)
theorem dX0_worstLoss_13 : decode cX0_worstLoss 13 = .ok (.iconst 1, 1) := dk_4 (dk_at dksX0_worstLoss_0 13 rfl rfl)
theorem dX0_worstLoss_14 : decode cX0_worstLoss 14 = .ok (.ireturn, 1) := dk_172 (dk_at dksX0_worstLoss_0 14 rfl rfl)
theorem dX0_worstLoss_15 : decode cX0_worstLoss 15 = .ok (.iconst 0, 1) := dk_3 (dk_at dksX0_worstLoss_0 15 rfl rfl)
theorem dX0_worstLoss_16 : decode cX0_worstLoss 16 = .ok (.ireturn, 1) := dk_172 (dk_at dksX0_worstLoss_0 16 rfl rfl)
abbrev cX0_leastGap : ByteArray := method_30_code
def yX0_leastGap : MethodName := ⟨RX0, "leastGap", "(LTrailMarkers;I[J)I"⟩
def dkwX0_leastGap_0 : List UInt8 := [44, 3, 42, 27, 182, 0, 103, 133, 80, 167, 0, 6, 78, 4, 172, 3, 172]
abbrev dktX0_leastGap_0 : List UInt8 := dkwX0_leastGap_0 ++ []
theorem dksX0_leastGap_0 : cX0_leastGap.data.toList.drop 0 = dktX0_leastGap_0 := by decide +kernel
theorem dX0_leastGap_0 : decode cX0_leastGap 0 = .ok (.aload_n 2, 1) := dk_44 (dk_at dksX0_leastGap_0 0 rfl rfl)
theorem dX0_leastGap_1 : decode cX0_leastGap 1 = .ok (.iconst 0, 1) := dk_3 (dk_at dksX0_leastGap_0 1 rfl rfl)
theorem dX0_leastGap_2 : decode cX0_leastGap 2 = .ok (.aload_n 0, 1) := dk_42 (dk_at dksX0_leastGap_0 2 rfl rfl)
theorem dX0_leastGap_3 : decode cX0_leastGap 3 = .ok (.iload_n 1, 1) := dk_27 (dk_at dksX0_leastGap_0 3 rfl rfl)
theorem dX0_leastGap_4 : decode cX0_leastGap 4 = .ok (.invokevirtual 103, 3) := dk_182 0 103 (dk_at dksX0_leastGap_0 4 rfl rfl)
theorem dX0_leastGap_7 : decode cX0_leastGap 7 = .ok (.i2l, 1) := dk_133 (dk_at dksX0_leastGap_0 7 rfl rfl)
theorem dX0_leastGap_8 : decode cX0_leastGap 8 = .ok (.lastore, 1) := dk_80 (dk_at dksX0_leastGap_0 8 rfl rfl)
theorem dX0_leastGap_9 : decode cX0_leastGap 9 = .ok (.goto 6, 3) := dk_167 0 6 (dk_at dksX0_leastGap_0 9 rfl rfl)
theorem dX0_leastGap_12 : decode cX0_leastGap 12 = .ok (.astore_n 3, 1) := dk_78 (dk_at dksX0_leastGap_0 12 rfl rfl)
theorem dX0_leastGap_13 : decode cX0_leastGap 13 = .ok (.iconst 1, 1) := dk_4 (dk_at dksX0_leastGap_0 13 rfl rfl)
theorem dX0_leastGap_14 : decode cX0_leastGap 14 = .ok (.ireturn, 1) := dk_172 (dk_at dksX0_leastGap_0 14 rfl rfl)
theorem dX0_leastGap_15 : decode cX0_leastGap 15 = .ok (.iconst 0, 1) := dk_3 (dk_at dksX0_leastGap_0 15 rfl rfl)
theorem dX0_leastGap_16 : decode cX0_leastGap 16 = .ok (.ireturn, 1) := dk_172 (dk_at dksX0_leastGap_0 16 rfl rfl)
abbrev cX0_meanBits : ByteArray := method_31_code
def yX0_meanBits : MethodName := ⟨RX0, "meanBits", "(LTrailMarkers;I[J)I"⟩
def dkwX0_meanBits_0 : List UInt8 := [44, 3, 42, 27, 182, 0, 106, 133, 80, 167, 0, 6, 78, 4, 172, 3, 172]
abbrev dktX0_meanBits_0 : List UInt8 := dkwX0_meanBits_0 ++ []
theorem dksX0_meanBits_0 : cX0_meanBits.data.toList.drop 0 = dktX0_meanBits_0 := by decide +kernel
theorem dX0_meanBits_0 : decode cX0_meanBits 0 = .ok (.aload_n 2, 1) := dk_44 (dk_at dksX0_meanBits_0 0 rfl rfl)
theorem dX0_meanBits_1 : decode cX0_meanBits 1 = .ok (.iconst 0, 1) := dk_3 (dk_at dksX0_meanBits_0 1 rfl rfl)
theorem dX0_meanBits_2 : decode cX0_meanBits 2 = .ok (.aload_n 0, 1) := dk_42 (dk_at dksX0_meanBits_0 2 rfl rfl)
theorem dX0_meanBits_3 : decode cX0_meanBits 3 = .ok (.iload_n 1, 1) := dk_27 (dk_at dksX0_meanBits_0 3 rfl rfl)
theorem dX0_meanBits_4 : decode cX0_meanBits 4 = .ok (.invokevirtual 106, 3) := dk_182 0 106 (dk_at dksX0_meanBits_0 4 rfl rfl)
theorem dX0_meanBits_7 : decode cX0_meanBits 7 = .ok (.i2l, 1) := dk_133 (dk_at dksX0_meanBits_0 7 rfl rfl)
theorem dX0_meanBits_8 : decode cX0_meanBits 8 = .ok (.lastore, 1) := dk_80 (dk_at dksX0_meanBits_0 8 rfl rfl)
theorem dX0_meanBits_9 : decode cX0_meanBits 9 = .ok (.goto 6, 3) := dk_167 0 6 (dk_at dksX0_meanBits_0 9 rfl rfl)
theorem dX0_meanBits_12 : decode cX0_meanBits 12 = .ok (.astore_n 3, 1) := dk_78 (dk_at dksX0_meanBits_0 12 rfl rfl)
theorem dX0_meanBits_13 : decode cX0_meanBits 13 = .ok (.iconst 1, 1) := dk_4 (dk_at dksX0_meanBits_0 13 rfl rfl)
theorem dX0_meanBits_14 : decode cX0_meanBits 14 = .ok (.ireturn, 1) := dk_172 (dk_at dksX0_meanBits_0 14 rfl rfl)
theorem dX0_meanBits_15 : decode cX0_meanBits 15 = .ok (.iconst 0, 1) := dk_3 (dk_at dksX0_meanBits_0 15 rfl rfl)
theorem dX0_meanBits_16 : decode cX0_meanBits 16 = .ok (.ireturn, 1) := dk_172 (dk_at dksX0_meanBits_0 16 rfl rfl)
abbrev cX0_writeRoute : ByteArray := method_32_code
def yX0_writeRoute : MethodName := ⟨RX0, "writeRoute", "(LTrailMarkers;I[J)I"⟩
def dkwX0_writeRoute_0 : List UInt8 := [44, 3, 42, 27, 182, 0, 109, 133, 80, 167, 0, 6, 78, 4, 172, 3, 172]
abbrev dktX0_writeRoute_0 : List UInt8 := dkwX0_writeRoute_0 ++ []
theorem dksX0_writeRoute_0 : cX0_writeRoute.data.toList.drop 0 = dktX0_writeRoute_0 := by decide +kernel
theorem dX0_writeRoute_0 : decode cX0_writeRoute 0 = .ok (.aload_n 2, 1) := dk_44 (dk_at dksX0_writeRoute_0 0 rfl rfl)
theorem dX0_writeRoute_1 : decode cX0_writeRoute 1 = .ok (.iconst 0, 1) := dk_3 (dk_at dksX0_writeRoute_0 1 rfl rfl)
theorem dX0_writeRoute_2 : decode cX0_writeRoute 2 = .ok (.aload_n 0, 1) := dk_42 (dk_at dksX0_writeRoute_0 2 rfl rfl)
theorem dX0_writeRoute_3 : decode cX0_writeRoute 3 = .ok (.iload_n 1, 1) := dk_27 (dk_at dksX0_writeRoute_0 3 rfl rfl)
theorem dX0_writeRoute_4 : decode cX0_writeRoute 4 = .ok (.invokevirtual 109, 3) := dk_182 0 109 (dk_at dksX0_writeRoute_0 4 rfl rfl)
theorem dX0_writeRoute_7 : decode cX0_writeRoute 7 = .ok (.i2l, 1) := dk_133 (dk_at dksX0_writeRoute_0 7 rfl rfl)
theorem dX0_writeRoute_8 : decode cX0_writeRoute 8 = .ok (.lastore, 1) := dk_80 (dk_at dksX0_writeRoute_0 8 rfl rfl)
theorem dX0_writeRoute_9 : decode cX0_writeRoute 9 = .ok (.goto 6, 3) := dk_167 0 6 (dk_at dksX0_writeRoute_0 9 rfl rfl)
theorem dX0_writeRoute_12 : decode cX0_writeRoute 12 = .ok (.astore_n 3, 1) := dk_78 (dk_at dksX0_writeRoute_0 12 rfl rfl)
theorem dX0_writeRoute_13 : decode cX0_writeRoute 13 = .ok (.iconst 1, 1) := dk_4 (dk_at dksX0_writeRoute_0 13 rfl rfl)
theorem dX0_writeRoute_14 : decode cX0_writeRoute 14 = .ok (.ireturn, 1) := dk_172 (dk_at dksX0_writeRoute_0 14 rfl rfl)
theorem dX0_writeRoute_15 : decode cX0_writeRoute 15 = .ok (.iconst 0, 1) := dk_3 (dk_at dksX0_writeRoute_0 15 rfl rfl)
theorem dX0_writeRoute_16 : decode cX0_writeRoute 16 = .ok (.ireturn, 1) := dk_172 (dk_at dksX0_writeRoute_0 16 rfl rfl)
abbrev cX0_writeRow : ByteArray := method_33_code
def yX0_writeRow : MethodName := ⟨RX0, "writeRow", "(LTrailMarkers;I[J)I"⟩
def dkwX0_writeRow_0 : List UInt8 := [44, 3, 42, 27, 182, 0, 112, 133, 80, 167, 0, 6, 78, 4, 172, 3, 172]
abbrev dktX0_writeRow_0 : List UInt8 := dkwX0_writeRow_0 ++ []
theorem dksX0_writeRow_0 : cX0_writeRow.data.toList.drop 0 = dktX0_writeRow_0 := by decide +kernel
theorem dX0_writeRow_0 : decode cX0_writeRow 0 = .ok (.aload_n 2, 1) := dk_44 (dk_at dksX0_writeRow_0 0 rfl rfl)
theorem dX0_writeRow_1 : decode cX0_writeRow 1 = .ok (.iconst 0, 1) := dk_3 (dk_at dksX0_writeRow_0 1 rfl rfl)
theorem dX0_writeRow_2 : decode cX0_writeRow 2 = .ok (.aload_n 0, 1) := dk_42 (dk_at dksX0_writeRow_0 2 rfl rfl)
theorem dX0_writeRow_3 : decode cX0_writeRow 3 = .ok (.iload_n 1, 1) := dk_27 (dk_at dksX0_writeRow_0 3 rfl rfl)
theorem dX0_writeRow_4 : decode cX0_writeRow 4 = .ok (.invokevirtual 112, 3) := dk_182 0 112 (dk_at dksX0_writeRow_0 4 rfl rfl)
theorem dX0_writeRow_7 : decode cX0_writeRow 7 = .ok (.i2l, 1) := dk_133 (dk_at dksX0_writeRow_0 7 rfl rfl)
theorem dX0_writeRow_8 : decode cX0_writeRow 8 = .ok (.lastore, 1) := dk_80 (dk_at dksX0_writeRow_0 8 rfl rfl)
theorem dX0_writeRow_9 : decode cX0_writeRow 9 = .ok (.goto 6, 3) := dk_167 0 6 (dk_at dksX0_writeRow_0 9 rfl rfl)
theorem dX0_writeRow_12 : decode cX0_writeRow 12 = .ok (.astore_n 3, 1) := dk_78 (dk_at dksX0_writeRow_0 12 rfl rfl)
theorem dX0_writeRow_13 : decode cX0_writeRow 13 = .ok (.iconst 1, 1) := dk_4 (dk_at dksX0_writeRow_0 13 rfl rfl)
theorem dX0_writeRow_14 : decode cX0_writeRow 14 = .ok (.ireturn, 1) := dk_172 (dk_at dksX0_writeRow_0 14 rfl rfl)
theorem dX0_writeRow_15 : decode cX0_writeRow 15 = .ok (.iconst 0, 1) := dk_3 (dk_at dksX0_writeRow_0 15 rfl rfl)
theorem dX0_writeRow_16 : decode cX0_writeRow 16 = .ok (.ireturn, 1) := dk_172 (dk_at dksX0_writeRow_0 16 rfl rfl)
theorem q1392 : (Jvm.Cond.classLink "TrailMarkersLaw" (13 : Nat) "java/lang/IllegalArgumentException") ∈ lw_all := lw_g (lw_at lw_m6 55 rfl) rfl
theorem q1393 : (Jvm.Cond.methodLink "TrailMarkersLaw" (7 : Nat) ({ cls := "TrailMarkers", name := "truncate", desc := "(I)I" } : Jvm.MethodName)) ∈ lw_all := lw_g (lw_at lw_m6 56 rfl) rfl
theorem q1394 : (Jvm.Cond.instanceMethod ({ cls := "TrailMarkers", name := "truncate", desc := "(I)I" } : Jvm.MethodName)) ∈ lw_all := lw_g (lw_at lw_m6 57 rfl) rfl
theorem q1395 : (Jvm.Cond.selects "TrailMarkers" ({ cls := "TrailMarkers", name := "truncate", desc := "(I)I" } : Jvm.MethodName) ({ cls := "TrailMarkers", name := "truncate", desc := "(I)I" } : Jvm.MethodName)) ∈ lw_all := lw_g (lw_at lw_m6 58 rfl) rfl
theorem q1396 : (Jvm.Cond.code ({ cls := "TrailMarkers", name := "truncate", desc := "(I)I" } : Jvm.MethodName) prog_1_method_10_code (2 : Nat) (Option.some Jvm.ClassFile.FieldType.int)) ∈ lw_all := lw_g (lw_at lw_m6 59 rfl) rfl
theorem q1412 : (Jvm.Cond.methodLink "TrailMarkersLaw" (15 : Nat) ({ cls := "TrailMarkers", name := "error", desc := "(I)I" } : Jvm.MethodName)) ∈ lw_all := lw_g (lw_at lw_m6 75 rfl) rfl
theorem q1413 : (Jvm.Cond.instanceMethod ({ cls := "TrailMarkers", name := "error", desc := "(I)I" } : Jvm.MethodName)) ∈ lw_all := lw_g (lw_at lw_m6 76 rfl) rfl
theorem q1414 : (Jvm.Cond.selects "TrailMarkers" ({ cls := "TrailMarkers", name := "error", desc := "(I)I" } : Jvm.MethodName) ({ cls := "TrailMarkers", name := "error", desc := "(I)I" } : Jvm.MethodName)) ∈ lw_all := lw_g (lw_at lw_m6 77 rfl) rfl
theorem q1415 : (Jvm.Cond.code ({ cls := "TrailMarkers", name := "error", desc := "(I)I" } : Jvm.MethodName) prog_1_method_14_code (2 : Nat) (Option.some Jvm.ClassFile.FieldType.int)) ∈ lw_all := lw_g (lw_at lw_m6 78 rfl) rfl
theorem q1419 : (Jvm.Cond.classLink "TrailMarkersLaw" (22 : Nat) "java/lang/IndexOutOfBoundsException") ∈ lw_all := lw_g (lw_at lw_m6 82 rfl) rfl
theorem q1438 : (Jvm.Cond.classLink "TrailMarkersLaw" (24 : Nat) "java/lang/IllegalStateException") ∈ lw_all := lw_g (lw_at lw_m6 101 rfl) rfl
theorem q1439 : (Jvm.Cond.methodLink "TrailMarkersLaw" (18 : Nat) ({ cls := "TrailMarkers", name := "addPost", desc := "(IIII)I" } : Jvm.MethodName)) ∈ lw_all := lw_g (lw_at lw_m6 102 rfl) rfl
theorem q1440 : (Jvm.Cond.instanceMethod ({ cls := "TrailMarkers", name := "addPost", desc := "(IIII)I" } : Jvm.MethodName)) ∈ lw_all := lw_g (lw_at lw_m6 103 rfl) rfl
theorem q1441 : (Jvm.Cond.selects "TrailMarkers" ({ cls := "TrailMarkers", name := "addPost", desc := "(IIII)I" } : Jvm.MethodName) ({ cls := "TrailMarkers", name := "addPost", desc := "(IIII)I" } : Jvm.MethodName)) ∈ lw_all := lw_g (lw_at lw_m6 104 rfl) rfl
theorem q1442 : (Jvm.Cond.codeWith ({ cls := "TrailMarkers", name := "addPost", desc := "(IIII)I" } : Jvm.MethodName) prog_1_method_19_code (7 : Nat) (Option.some Jvm.ClassFile.FieldType.int) [((28 : Nat), (56 : Nat), (57 : Nat), (58 : Nat))]) ∈ lw_all := lw_g (lw_at lw_m6 105 rfl) rfl
theorem q1474 : (Jvm.Cond.methodLink "TrailMarkersLaw" (26 : Nat) ({ cls := "TrailMarkers", name := "dropPost", desc := "(I)I" } : Jvm.MethodName)) ∈ lw_all := lw_g (lw_at lw_m6 137 rfl) rfl
theorem q1475 : (Jvm.Cond.instanceMethod ({ cls := "TrailMarkers", name := "dropPost", desc := "(I)I" } : Jvm.MethodName)) ∈ lw_all := lw_g (lw_at lw_m6 138 rfl) rfl
theorem q1476 : (Jvm.Cond.selects "TrailMarkers" ({ cls := "TrailMarkers", name := "dropPost", desc := "(I)I" } : Jvm.MethodName) ({ cls := "TrailMarkers", name := "dropPost", desc := "(I)I" } : Jvm.MethodName)) ∈ lw_all := lw_g (lw_at lw_m6 139 rfl) rfl
theorem q1477 : (Jvm.Cond.code ({ cls := "TrailMarkers", name := "dropPost", desc := "(I)I" } : Jvm.MethodName) prog_1_method_20_code (2 : Nat) (Option.some Jvm.ClassFile.FieldType.int)) ∈ lw_all := lw_g (lw_at lw_m6 140 rfl) rfl
theorem q1489 : (Jvm.Cond.methodLink "TrailMarkersLaw" (29 : Nat) ({ cls := "TrailMarkers", name := "turn", desc := "(II)I" } : Jvm.MethodName)) ∈ lw_all := lw_g (lw_at lw_m6 152 rfl) rfl
theorem q1490 : (Jvm.Cond.instanceMethod ({ cls := "TrailMarkers", name := "turn", desc := "(II)I" } : Jvm.MethodName)) ∈ lw_all := lw_g (lw_at lw_m6 153 rfl) rfl
theorem q1491 : (Jvm.Cond.selects "TrailMarkers" ({ cls := "TrailMarkers", name := "turn", desc := "(II)I" } : Jvm.MethodName) ({ cls := "TrailMarkers", name := "turn", desc := "(II)I" } : Jvm.MethodName)) ∈ lw_all := lw_g (lw_at lw_m6 154 rfl) rfl
theorem q1492 : (Jvm.Cond.code ({ cls := "TrailMarkers", name := "turn", desc := "(II)I" } : Jvm.MethodName) prog_1_method_21_code (4 : Nat) (Option.some Jvm.ClassFile.FieldType.int)) ∈ lw_all := lw_g (lw_at lw_m6 155 rfl) rfl
theorem q1497 : (Jvm.Cond.methodLink "TrailMarkersLaw" (33 : Nat) ({ cls := "TrailMarkers", name := "lose", desc := "(I)I" } : Jvm.MethodName)) ∈ lw_all := lw_g (lw_at lw_m6 160 rfl) rfl
theorem q1498 : (Jvm.Cond.instanceMethod ({ cls := "TrailMarkers", name := "lose", desc := "(I)I" } : Jvm.MethodName)) ∈ lw_all := lw_g (lw_at lw_m6 161 rfl) rfl
theorem q1499 : (Jvm.Cond.selects "TrailMarkers" ({ cls := "TrailMarkers", name := "lose", desc := "(I)I" } : Jvm.MethodName) ({ cls := "TrailMarkers", name := "lose", desc := "(I)I" } : Jvm.MethodName)) ∈ lw_all := lw_g (lw_at lw_m6 162 rfl) rfl
theorem q1500 : (Jvm.Cond.code ({ cls := "TrailMarkers", name := "lose", desc := "(I)I" } : Jvm.MethodName) prog_1_method_23_code (2 : Nat) (Option.some Jvm.ClassFile.FieldType.int)) ∈ lw_all := lw_g (lw_at lw_m6 163 rfl) rfl
theorem q1508 : (Jvm.Cond.methodLink "TrailMarkersLaw" (36 : Nat) ({ cls := "TrailMarkers", name := "mend", desc := "(I)I" } : Jvm.MethodName)) ∈ lw_all := lw_g (lw_at lw_m6 171 rfl) rfl
theorem q1509 : (Jvm.Cond.instanceMethod ({ cls := "TrailMarkers", name := "mend", desc := "(I)I" } : Jvm.MethodName)) ∈ lw_all := lw_g (lw_at lw_m6 172 rfl) rfl
theorem q1510 : (Jvm.Cond.selects "TrailMarkers" ({ cls := "TrailMarkers", name := "mend", desc := "(I)I" } : Jvm.MethodName) ({ cls := "TrailMarkers", name := "mend", desc := "(I)I" } : Jvm.MethodName)) ∈ lw_all := lw_g (lw_at lw_m6 173 rfl) rfl
theorem q1511 : (Jvm.Cond.code ({ cls := "TrailMarkers", name := "mend", desc := "(I)I" } : Jvm.MethodName) prog_1_method_24_code (2 : Nat) (Option.some Jvm.ClassFile.FieldType.int)) ∈ lw_all := lw_g (lw_at lw_m6 174 rfl) rfl
theorem q1515 : (Jvm.Cond.methodLink "TrailMarkersLaw" (39 : Nat) ({ cls := "TrailMarkers", name := "setBlock", desc := "(IIZ)I" } : Jvm.MethodName)) ∈ lw_all := lw_g (lw_at lw_m6 178 rfl) rfl
theorem q1516 : (Jvm.Cond.instanceMethod ({ cls := "TrailMarkers", name := "setBlock", desc := "(IIZ)I" } : Jvm.MethodName)) ∈ lw_all := lw_g (lw_at lw_m6 179 rfl) rfl
theorem q1517 : (Jvm.Cond.selects "TrailMarkers" ({ cls := "TrailMarkers", name := "setBlock", desc := "(IIZ)I" } : Jvm.MethodName) ({ cls := "TrailMarkers", name := "setBlock", desc := "(IIZ)I" } : Jvm.MethodName)) ∈ lw_all := lw_g (lw_at lw_m6 180 rfl) rfl
theorem q1518 : (Jvm.Cond.codeWith ({ cls := "TrailMarkers", name := "setBlock", desc := "(IIZ)I" } : Jvm.MethodName) prog_1_method_25_code (6 : Nat) (Option.some Jvm.ClassFile.FieldType.int) [((15 : Nat), (57 : Nat), (60 : Nat), (58 : Nat))]) ∈ lw_all := lw_g (lw_at lw_m6 181 rfl) rfl
theorem q1526 : (Jvm.Cond.methodLink "TrailMarkersLaw" (43 : Nat) ({ cls := "TrailMarkers", name := "set", desc := "(II)I" } : Jvm.MethodName)) ∈ lw_all := lw_g (lw_at lw_m6 189 rfl) rfl
theorem q1527 : (Jvm.Cond.instanceMethod ({ cls := "TrailMarkers", name := "set", desc := "(II)I" } : Jvm.MethodName)) ∈ lw_all := lw_g (lw_at lw_m6 190 rfl) rfl
theorem q1528 : (Jvm.Cond.selects "TrailMarkers" ({ cls := "TrailMarkers", name := "set", desc := "(II)I" } : Jvm.MethodName) ({ cls := "TrailMarkers", name := "set", desc := "(II)I" } : Jvm.MethodName)) ∈ lw_all := lw_g (lw_at lw_m6 191 rfl) rfl
theorem q1529 : (Jvm.Cond.code ({ cls := "TrailMarkers", name := "set", desc := "(II)I" } : Jvm.MethodName) prog_1_method_26_code (4 : Nat) (Option.some Jvm.ClassFile.FieldType.int)) ∈ lw_all := lw_g (lw_at lw_m6 192 rfl) rfl
theorem q1539 : (Jvm.Cond.methodLink "TrailMarkersLaw" (46 : Nat) ({ cls := "TrailMarkers", name := "undo", desc := "()I" } : Jvm.MethodName)) ∈ lw_all := lw_g (lw_at lw_m6 202 rfl) rfl
theorem q1540 : (Jvm.Cond.instanceMethod ({ cls := "TrailMarkers", name := "undo", desc := "()I" } : Jvm.MethodName)) ∈ lw_all := lw_g (lw_at lw_m6 203 rfl) rfl
theorem q1541 : (Jvm.Cond.selects "TrailMarkers" ({ cls := "TrailMarkers", name := "undo", desc := "()I" } : Jvm.MethodName) ({ cls := "TrailMarkers", name := "undo", desc := "()I" } : Jvm.MethodName)) ∈ lw_all := lw_g (lw_at lw_m6 204 rfl) rfl
theorem q1542 : (Jvm.Cond.code ({ cls := "TrailMarkers", name := "undo", desc := "()I" } : Jvm.MethodName) prog_1_method_27_code (1 : Nat) (Option.some Jvm.ClassFile.FieldType.int)) ∈ lw_all := lw_g (lw_at lw_m6 205 rfl) rfl
theorem q1561 : (Jvm.Cond.methodLink "TrailMarkersLaw" (50 : Nat) ({ cls := "TrailMarkers", name := "save", desc := "(I)I" } : Jvm.MethodName)) ∈ lw_all := lw_g (lw_at lw_m6 224 rfl) rfl
theorem q1562 : (Jvm.Cond.instanceMethod ({ cls := "TrailMarkers", name := "save", desc := "(I)I" } : Jvm.MethodName)) ∈ lw_all := lw_g (lw_at lw_m6 225 rfl) rfl
theorem q1563 : (Jvm.Cond.selects "TrailMarkers" ({ cls := "TrailMarkers", name := "save", desc := "(I)I" } : Jvm.MethodName) ({ cls := "TrailMarkers", name := "save", desc := "(I)I" } : Jvm.MethodName)) ∈ lw_all := lw_g (lw_at lw_m6 226 rfl) rfl
theorem q1564 : (Jvm.Cond.code ({ cls := "TrailMarkers", name := "save", desc := "(I)I" } : Jvm.MethodName) prog_1_method_28_code (2 : Nat) (Option.some Jvm.ClassFile.FieldType.int)) ∈ lw_all := lw_g (lw_at lw_m6 227 rfl) rfl
theorem q1568 : (Jvm.Cond.methodLink "TrailMarkersLaw" (53 : Nat) ({ cls := "TrailMarkers", name := "restore", desc := "(I)I" } : Jvm.MethodName)) ∈ lw_all := lw_g (lw_at lw_m6 231 rfl) rfl
theorem q1569 : (Jvm.Cond.instanceMethod ({ cls := "TrailMarkers", name := "restore", desc := "(I)I" } : Jvm.MethodName)) ∈ lw_all := lw_g (lw_at lw_m6 232 rfl) rfl
theorem q1570 : (Jvm.Cond.selects "TrailMarkers" ({ cls := "TrailMarkers", name := "restore", desc := "(I)I" } : Jvm.MethodName) ({ cls := "TrailMarkers", name := "restore", desc := "(I)I" } : Jvm.MethodName)) ∈ lw_all := lw_g (lw_at lw_m6 233 rfl) rfl
theorem q1571 : (Jvm.Cond.code ({ cls := "TrailMarkers", name := "restore", desc := "(I)I" } : Jvm.MethodName) prog_1_method_29_code (2 : Nat) (Option.some Jvm.ClassFile.FieldType.int)) ∈ lw_all := lw_g (lw_at lw_m6 234 rfl) rfl
theorem q1575 : (Jvm.Cond.methodLink "TrailMarkersLaw" (56 : Nat) ({ cls := "TrailMarkers", name := "count", desc := "(I)I" } : Jvm.MethodName)) ∈ lw_all := lw_g (lw_at lw_m6 238 rfl) rfl
theorem q1576 : (Jvm.Cond.instanceMethod ({ cls := "TrailMarkers", name := "count", desc := "(I)I" } : Jvm.MethodName)) ∈ lw_all := lw_g (lw_at lw_m6 239 rfl) rfl
theorem q1577 : (Jvm.Cond.selects "TrailMarkers" ({ cls := "TrailMarkers", name := "count", desc := "(I)I" } : Jvm.MethodName) ({ cls := "TrailMarkers", name := "count", desc := "(I)I" } : Jvm.MethodName)) ∈ lw_all := lw_g (lw_at lw_m7 0 rfl) rfl
theorem q1578 : (Jvm.Cond.code ({ cls := "TrailMarkers", name := "count", desc := "(I)I" } : Jvm.MethodName) prog_1_method_30_code (2 : Nat) (Option.some Jvm.ClassFile.FieldType.int)) ∈ lw_all := lw_g (lw_at lw_m7 1 rfl) rfl
theorem q1592 : (Jvm.Cond.methodLink "TrailMarkersLaw" (59 : Nat) ({ cls := "TrailMarkers", name := "post", desc := "(II)I" } : Jvm.MethodName)) ∈ lw_all := lw_g (lw_at lw_m7 15 rfl) rfl
theorem q1593 : (Jvm.Cond.instanceMethod ({ cls := "TrailMarkers", name := "post", desc := "(II)I" } : Jvm.MethodName)) ∈ lw_all := lw_g (lw_at lw_m7 16 rfl) rfl
theorem q1594 : (Jvm.Cond.selects "TrailMarkers" ({ cls := "TrailMarkers", name := "post", desc := "(II)I" } : Jvm.MethodName) ({ cls := "TrailMarkers", name := "post", desc := "(II)I" } : Jvm.MethodName)) ∈ lw_all := lw_g (lw_at lw_m7 17 rfl) rfl
theorem q1595 : (Jvm.Cond.code ({ cls := "TrailMarkers", name := "post", desc := "(II)I" } : Jvm.MethodName) prog_1_method_33_code (4 : Nat) (Option.some Jvm.ClassFile.FieldType.int)) ∈ lw_all := lw_g (lw_at lw_m7 18 rfl) rfl
theorem q1610 : (Jvm.Cond.methodLink "TrailMarkersLaw" (62 : Nat) ({ cls := "TrailMarkers", name := "at", desc := "(II)I" } : Jvm.MethodName)) ∈ lw_all := lw_g (lw_at lw_m7 33 rfl) rfl
theorem q1611 : (Jvm.Cond.instanceMethod ({ cls := "TrailMarkers", name := "at", desc := "(II)I" } : Jvm.MethodName)) ∈ lw_all := lw_g (lw_at lw_m7 34 rfl) rfl
theorem q1612 : (Jvm.Cond.selects "TrailMarkers" ({ cls := "TrailMarkers", name := "at", desc := "(II)I" } : Jvm.MethodName) ({ cls := "TrailMarkers", name := "at", desc := "(II)I" } : Jvm.MethodName)) ∈ lw_all := lw_g (lw_at lw_m7 35 rfl) rfl
theorem q1613 : (Jvm.Cond.code ({ cls := "TrailMarkers", name := "at", desc := "(II)I" } : Jvm.MethodName) prog_1_method_36_code (3 : Nat) (Option.some Jvm.ClassFile.FieldType.int)) ∈ lw_all := lw_g (lw_at lw_m7 36 rfl) rfl
theorem q1618 : (Jvm.Cond.methodLink "TrailMarkersLaw" (65 : Nat) ({ cls := "TrailMarkers", name := "colour", desc := "(II)I" } : Jvm.MethodName)) ∈ lw_all := lw_g (lw_at lw_m7 41 rfl) rfl
theorem q1619 : (Jvm.Cond.instanceMethod ({ cls := "TrailMarkers", name := "colour", desc := "(II)I" } : Jvm.MethodName)) ∈ lw_all := lw_g (lw_at lw_m7 42 rfl) rfl
theorem q1620 : (Jvm.Cond.selects "TrailMarkers" ({ cls := "TrailMarkers", name := "colour", desc := "(II)I" } : Jvm.MethodName) ({ cls := "TrailMarkers", name := "colour", desc := "(II)I" } : Jvm.MethodName)) ∈ lw_all := lw_g (lw_at lw_m7 43 rfl) rfl
theorem q1621 : (Jvm.Cond.code ({ cls := "TrailMarkers", name := "colour", desc := "(II)I" } : Jvm.MethodName) prog_1_method_37_code (5 : Nat) (Option.some Jvm.ClassFile.FieldType.int)) ∈ lw_all := lw_g (lw_at lw_m7 44 rfl) rfl
theorem q1638 : (Jvm.Cond.methodLink "TrailMarkersLaw" (68 : Nat) ({ cls := "TrailMarkers", name := "met", desc := "(I)J" } : Jvm.MethodName)) ∈ lw_all := lw_g (lw_at lw_m7 61 rfl) rfl
theorem q1639 : (Jvm.Cond.instanceMethod ({ cls := "TrailMarkers", name := "met", desc := "(I)J" } : Jvm.MethodName)) ∈ lw_all := lw_g (lw_at lw_m7 62 rfl) rfl
theorem q1640 : (Jvm.Cond.selects "TrailMarkers" ({ cls := "TrailMarkers", name := "met", desc := "(I)J" } : Jvm.MethodName) ({ cls := "TrailMarkers", name := "met", desc := "(I)J" } : Jvm.MethodName)) ∈ lw_all := lw_g (lw_at lw_m7 63 rfl) rfl
theorem q1641 : (Jvm.Cond.code ({ cls := "TrailMarkers", name := "met", desc := "(I)J" } : Jvm.MethodName) prog_1_method_40_code (7 : Nat) (Option.some Jvm.ClassFile.FieldType.long)) ∈ lw_all := lw_g (lw_at lw_m7 64 rfl) rfl
theorem q1645 : (Jvm.Cond.methodLink "TrailMarkersLaw" (72 : Nat) ({ cls := "TrailMarkers", name := "route", desc := "(II)I" } : Jvm.MethodName)) ∈ lw_all := lw_g (lw_at lw_m7 68 rfl) rfl
theorem q1646 : (Jvm.Cond.instanceMethod ({ cls := "TrailMarkers", name := "route", desc := "(II)I" } : Jvm.MethodName)) ∈ lw_all := lw_g (lw_at lw_m7 69 rfl) rfl
theorem q1647 : (Jvm.Cond.selects "TrailMarkers" ({ cls := "TrailMarkers", name := "route", desc := "(II)I" } : Jvm.MethodName) ({ cls := "TrailMarkers", name := "route", desc := "(II)I" } : Jvm.MethodName)) ∈ lw_all := lw_g (lw_at lw_m7 70 rfl) rfl
theorem q1648 : (Jvm.Cond.code ({ cls := "TrailMarkers", name := "route", desc := "(II)I" } : Jvm.MethodName) prog_1_method_42_code (4 : Nat) (Option.some Jvm.ClassFile.FieldType.int)) ∈ lw_all := lw_g (lw_at lw_m7 71 rfl) rfl
theorem q1660 : (Jvm.Cond.methodLink "TrailMarkersLaw" (75 : Nat) ({ cls := "TrailMarkers", name := "routePost", desc := "(II)I" } : Jvm.MethodName)) ∈ lw_all := lw_g (lw_at lw_m7 83 rfl) rfl
theorem q1661 : (Jvm.Cond.instanceMethod ({ cls := "TrailMarkers", name := "routePost", desc := "(II)I" } : Jvm.MethodName)) ∈ lw_all := lw_g (lw_at lw_m7 84 rfl) rfl
theorem q1662 : (Jvm.Cond.selects "TrailMarkers" ({ cls := "TrailMarkers", name := "routePost", desc := "(II)I" } : Jvm.MethodName) ({ cls := "TrailMarkers", name := "routePost", desc := "(II)I" } : Jvm.MethodName)) ∈ lw_all := lw_g (lw_at lw_m7 85 rfl) rfl
theorem q1663 : (Jvm.Cond.code ({ cls := "TrailMarkers", name := "routePost", desc := "(II)I" } : Jvm.MethodName) prog_1_method_43_code (4 : Nat) (Option.some Jvm.ClassFile.FieldType.int)) ∈ lw_all := lw_g (lw_at lw_m7 86 rfl) rfl
theorem q1667 : (Jvm.Cond.methodLink "TrailMarkersLaw" (78 : Nat) ({ cls := "TrailMarkers", name := "routeCell", desc := "(II)I" } : Jvm.MethodName)) ∈ lw_all := lw_g (lw_at lw_m7 90 rfl) rfl
theorem q1668 : (Jvm.Cond.instanceMethod ({ cls := "TrailMarkers", name := "routeCell", desc := "(II)I" } : Jvm.MethodName)) ∈ lw_all := lw_g (lw_at lw_m7 91 rfl) rfl
theorem q1669 : (Jvm.Cond.selects "TrailMarkers" ({ cls := "TrailMarkers", name := "routeCell", desc := "(II)I" } : Jvm.MethodName) ({ cls := "TrailMarkers", name := "routeCell", desc := "(II)I" } : Jvm.MethodName)) ∈ lw_all := lw_g (lw_at lw_m7 92 rfl) rfl
theorem q1670 : (Jvm.Cond.code ({ cls := "TrailMarkers", name := "routeCell", desc := "(II)I" } : Jvm.MethodName) prog_1_method_44_code (4 : Nat) (Option.some Jvm.ClassFile.FieldType.int)) ∈ lw_all := lw_g (lw_at lw_m7 93 rfl) rfl
theorem q1674 : (Jvm.Cond.methodLink "TrailMarkersLaw" (81 : Nat) ({ cls := "TrailMarkers", name := "inferred", desc := "(II)I" } : Jvm.MethodName)) ∈ lw_all := lw_g (lw_at lw_m7 97 rfl) rfl
theorem q1675 : (Jvm.Cond.instanceMethod ({ cls := "TrailMarkers", name := "inferred", desc := "(II)I" } : Jvm.MethodName)) ∈ lw_all := lw_g (lw_at lw_m7 98 rfl) rfl
theorem q1676 : (Jvm.Cond.selects "TrailMarkers" ({ cls := "TrailMarkers", name := "inferred", desc := "(II)I" } : Jvm.MethodName) ({ cls := "TrailMarkers", name := "inferred", desc := "(II)I" } : Jvm.MethodName)) ∈ lw_all := lw_g (lw_at lw_m7 99 rfl) rfl
theorem q1677 : (Jvm.Cond.code ({ cls := "TrailMarkers", name := "inferred", desc := "(II)I" } : Jvm.MethodName) prog_1_method_45_code (4 : Nat) (Option.some Jvm.ClassFile.FieldType.int)) ∈ lw_all := lw_g (lw_at lw_m7 100 rfl) rfl
theorem q1681 : (Jvm.Cond.methodLink "TrailMarkersLaw" (84 : Nat) ({ cls := "TrailMarkers", name := "shared", desc := "(II)I" } : Jvm.MethodName)) ∈ lw_all := lw_g (lw_at lw_m7 104 rfl) rfl
theorem q1682 : (Jvm.Cond.instanceMethod ({ cls := "TrailMarkers", name := "shared", desc := "(II)I" } : Jvm.MethodName)) ∈ lw_all := lw_g (lw_at lw_m7 105 rfl) rfl
theorem q1683 : (Jvm.Cond.selects "TrailMarkers" ({ cls := "TrailMarkers", name := "shared", desc := "(II)I" } : Jvm.MethodName) ({ cls := "TrailMarkers", name := "shared", desc := "(II)I" } : Jvm.MethodName)) ∈ lw_all := lw_g (lw_at lw_m7 106 rfl) rfl
theorem q1684 : (Jvm.Cond.code ({ cls := "TrailMarkers", name := "shared", desc := "(II)I" } : Jvm.MethodName) prog_1_method_47_code (7 : Nat) (Option.some Jvm.ClassFile.FieldType.int)) ∈ lw_all := lw_g (lw_at lw_m7 107 rfl) rfl
theorem q2856 : (Jvm.Cond.methodLink "TrailMarkersLaw" (87 : Nat) ({ cls := "TrailMarkers", name := "why", desc := "(II)I" } : Jvm.MethodName)) ∈ lw_all := lw_g (lw_at lw_m12 79 rfl) rfl
theorem q2857 : (Jvm.Cond.instanceMethod ({ cls := "TrailMarkers", name := "why", desc := "(II)I" } : Jvm.MethodName)) ∈ lw_all := lw_g (lw_at lw_m12 80 rfl) rfl
theorem q2858 : (Jvm.Cond.selects "TrailMarkers" ({ cls := "TrailMarkers", name := "why", desc := "(II)I" } : Jvm.MethodName) ({ cls := "TrailMarkers", name := "why", desc := "(II)I" } : Jvm.MethodName)) ∈ lw_all := lw_g (lw_at lw_m12 81 rfl) rfl
theorem q2859 : (Jvm.Cond.code ({ cls := "TrailMarkers", name := "why", desc := "(II)I" } : Jvm.MethodName) prog_1_method_48_code (7 : Nat) (Option.some Jvm.ClassFile.FieldType.int)) ∈ lw_all := lw_g (lw_at lw_m12 82 rfl) rfl
theorem q2866 : (Jvm.Cond.methodLink "TrailMarkersLaw" (90 : Nat) ({ cls := "TrailMarkers", name := "ifOther", desc := "(III)I" } : Jvm.MethodName)) ∈ lw_all := lw_g (lw_at lw_m12 89 rfl) rfl
theorem q2867 : (Jvm.Cond.instanceMethod ({ cls := "TrailMarkers", name := "ifOther", desc := "(III)I" } : Jvm.MethodName)) ∈ lw_all := lw_g (lw_at lw_m12 90 rfl) rfl
theorem q2868 : (Jvm.Cond.selects "TrailMarkers" ({ cls := "TrailMarkers", name := "ifOther", desc := "(III)I" } : Jvm.MethodName) ({ cls := "TrailMarkers", name := "ifOther", desc := "(III)I" } : Jvm.MethodName)) ∈ lw_all := lw_g (lw_at lw_m12 91 rfl) rfl
theorem q2869 : (Jvm.Cond.code ({ cls := "TrailMarkers", name := "ifOther", desc := "(III)I" } : Jvm.MethodName) prog_1_method_51_code (4 : Nat) (Option.some Jvm.ClassFile.FieldType.int)) ∈ lw_all := lw_g (lw_at lw_m12 92 rfl) rfl
theorem q2882 : (Jvm.Cond.methodLink "TrailMarkersLaw" (94 : Nat) ({ cls := "TrailMarkers", name := "ifSet", desc := "(IIII)I" } : Jvm.MethodName)) ∈ lw_all := lw_g (lw_at lw_m12 105 rfl) rfl
theorem q2883 : (Jvm.Cond.instanceMethod ({ cls := "TrailMarkers", name := "ifSet", desc := "(IIII)I" } : Jvm.MethodName)) ∈ lw_all := lw_g (lw_at lw_m12 106 rfl) rfl
theorem q2884 : (Jvm.Cond.selects "TrailMarkers" ({ cls := "TrailMarkers", name := "ifSet", desc := "(IIII)I" } : Jvm.MethodName) ({ cls := "TrailMarkers", name := "ifSet", desc := "(IIII)I" } : Jvm.MethodName)) ∈ lw_all := lw_g (lw_at lw_m12 107 rfl) rfl
theorem q2885 : (Jvm.Cond.code ({ cls := "TrailMarkers", name := "ifSet", desc := "(IIII)I" } : Jvm.MethodName) prog_1_method_52_code (6 : Nat) (Option.some Jvm.ClassFile.FieldType.int)) ∈ lw_all := lw_g (lw_at lw_m12 108 rfl) rfl
theorem q2889 : (Jvm.Cond.methodLink "TrailMarkersLaw" (97 : Nat) ({ cls := "TrailMarkers", name := "bestMend", desc := "(I)I" } : Jvm.MethodName)) ∈ lw_all := lw_g (lw_at lw_m12 112 rfl) rfl
theorem q2890 : (Jvm.Cond.instanceMethod ({ cls := "TrailMarkers", name := "bestMend", desc := "(I)I" } : Jvm.MethodName)) ∈ lw_all := lw_g (lw_at lw_m12 113 rfl) rfl
theorem q2891 : (Jvm.Cond.selects "TrailMarkers" ({ cls := "TrailMarkers", name := "bestMend", desc := "(I)I" } : Jvm.MethodName) ({ cls := "TrailMarkers", name := "bestMend", desc := "(I)I" } : Jvm.MethodName)) ∈ lw_all := lw_g (lw_at lw_m12 114 rfl) rfl
theorem q2892 : (Jvm.Cond.code ({ cls := "TrailMarkers", name := "bestMend", desc := "(I)I" } : Jvm.MethodName) prog_1_method_54_code (2 : Nat) (Option.some Jvm.ClassFile.FieldType.int)) ∈ lw_all := lw_g (lw_at lw_m12 115 rfl) rfl
theorem q2900 : (Jvm.Cond.methodLink "TrailMarkersLaw" (100 : Nat) ({ cls := "TrailMarkers", name := "worstLoss", desc := "(I)I" } : Jvm.MethodName)) ∈ lw_all := lw_g (lw_at lw_m12 123 rfl) rfl
theorem q2901 : (Jvm.Cond.instanceMethod ({ cls := "TrailMarkers", name := "worstLoss", desc := "(I)I" } : Jvm.MethodName)) ∈ lw_all := lw_g (lw_at lw_m12 124 rfl) rfl
theorem q2902 : (Jvm.Cond.selects "TrailMarkers" ({ cls := "TrailMarkers", name := "worstLoss", desc := "(I)I" } : Jvm.MethodName) ({ cls := "TrailMarkers", name := "worstLoss", desc := "(I)I" } : Jvm.MethodName)) ∈ lw_all := lw_g (lw_at lw_m12 125 rfl) rfl
theorem q2903 : (Jvm.Cond.code ({ cls := "TrailMarkers", name := "worstLoss", desc := "(I)I" } : Jvm.MethodName) prog_1_method_55_code (2 : Nat) (Option.some Jvm.ClassFile.FieldType.int)) ∈ lw_all := lw_g (lw_at lw_m12 126 rfl) rfl
theorem q2907 : (Jvm.Cond.methodLink "TrailMarkersLaw" (103 : Nat) ({ cls := "TrailMarkers", name := "leastGap", desc := "(I)I" } : Jvm.MethodName)) ∈ lw_all := lw_g (lw_at lw_m12 130 rfl) rfl
theorem q2908 : (Jvm.Cond.instanceMethod ({ cls := "TrailMarkers", name := "leastGap", desc := "(I)I" } : Jvm.MethodName)) ∈ lw_all := lw_g (lw_at lw_m12 131 rfl) rfl
theorem q2909 : (Jvm.Cond.selects "TrailMarkers" ({ cls := "TrailMarkers", name := "leastGap", desc := "(I)I" } : Jvm.MethodName) ({ cls := "TrailMarkers", name := "leastGap", desc := "(I)I" } : Jvm.MethodName)) ∈ lw_all := lw_g (lw_at lw_m12 132 rfl) rfl
theorem q2910 : (Jvm.Cond.code ({ cls := "TrailMarkers", name := "leastGap", desc := "(I)I" } : Jvm.MethodName) prog_1_method_56_code (5 : Nat) (Option.some Jvm.ClassFile.FieldType.int)) ∈ lw_all := lw_g (lw_at lw_m12 133 rfl) rfl
theorem q2914 : (Jvm.Cond.methodLink "TrailMarkersLaw" (106 : Nat) ({ cls := "TrailMarkers", name := "meanBits", desc := "(I)I" } : Jvm.MethodName)) ∈ lw_all := lw_g (lw_at lw_m12 137 rfl) rfl
theorem q2915 : (Jvm.Cond.instanceMethod ({ cls := "TrailMarkers", name := "meanBits", desc := "(I)I" } : Jvm.MethodName)) ∈ lw_all := lw_g (lw_at lw_m12 138 rfl) rfl
theorem q2916 : (Jvm.Cond.selects "TrailMarkers" ({ cls := "TrailMarkers", name := "meanBits", desc := "(I)I" } : Jvm.MethodName) ({ cls := "TrailMarkers", name := "meanBits", desc := "(I)I" } : Jvm.MethodName)) ∈ lw_all := lw_g (lw_at lw_m12 139 rfl) rfl
theorem q2917 : (Jvm.Cond.code ({ cls := "TrailMarkers", name := "meanBits", desc := "(I)I" } : Jvm.MethodName) prog_1_method_59_code (3 : Nat) (Option.some Jvm.ClassFile.FieldType.int)) ∈ lw_all := lw_g (lw_at lw_m12 140 rfl) rfl
theorem q2932 : (Jvm.Cond.methodLink "TrailMarkersLaw" (109 : Nat) ({ cls := "TrailMarkers", name := "writeRoute", desc := "(I)I" } : Jvm.MethodName)) ∈ lw_all := lw_g (lw_at lw_m12 155 rfl) rfl
theorem q2933 : (Jvm.Cond.instanceMethod ({ cls := "TrailMarkers", name := "writeRoute", desc := "(I)I" } : Jvm.MethodName)) ∈ lw_all := lw_g (lw_at lw_m12 156 rfl) rfl
theorem q2934 : (Jvm.Cond.selects "TrailMarkers" ({ cls := "TrailMarkers", name := "writeRoute", desc := "(I)I" } : Jvm.MethodName) ({ cls := "TrailMarkers", name := "writeRoute", desc := "(I)I" } : Jvm.MethodName)) ∈ lw_all := lw_g (lw_at lw_m12 157 rfl) rfl
theorem q2935 : (Jvm.Cond.code ({ cls := "TrailMarkers", name := "writeRoute", desc := "(I)I" } : Jvm.MethodName) prog_1_method_65_code (11 : Nat) (Option.some Jvm.ClassFile.FieldType.int)) ∈ lw_all := lw_g (lw_at lw_m12 158 rfl) rfl
theorem q3016 : (Jvm.Cond.methodLink "TrailMarkersLaw" (112 : Nat) ({ cls := "TrailMarkers", name := "writeRow", desc := "(I)I" } : Jvm.MethodName)) ∈ lw_all := lw_g (lw_at lw_m12 239 rfl) rfl
theorem q3017 : (Jvm.Cond.instanceMethod ({ cls := "TrailMarkers", name := "writeRow", desc := "(I)I" } : Jvm.MethodName)) ∈ lw_all := lw_g (lw_at lw_m13 0 rfl) rfl
theorem q3018 : (Jvm.Cond.selects "TrailMarkers" ({ cls := "TrailMarkers", name := "writeRow", desc := "(I)I" } : Jvm.MethodName) ({ cls := "TrailMarkers", name := "writeRow", desc := "(I)I" } : Jvm.MethodName)) ∈ lw_all := lw_g (lw_at lw_m13 1 rfl) rfl
theorem q3019 : (Jvm.Cond.code ({ cls := "TrailMarkers", name := "writeRow", desc := "(I)I" } : Jvm.MethodName) prog_1_method_66_code (5 : Nat) (Option.some Jvm.ClassFile.FieldType.int)) ∈ lw_all := lw_g (lw_at lw_m13 2 rfl) rfl
theorem q3026 : (Jvm.Cond.methodLink "TrailMarkersModel" (3 : Nat) ({ cls := "java/lang/Object", name := "<init>", desc := "()V" } : Jvm.MethodName)) ∈ lw_all := lw_g (lw_at lw_m13 9 rfl) rfl
theorem q3028 : (Jvm.Cond.methodLink "TrailMarkersModel" (83 : Nat) ({ cls := "TrailMarkersModel", name := "lays", desc := "(Ljava/lang/String;)V" } : Jvm.MethodName)) ∈ lw_all := lw_g (lw_at lw_m13 11 rfl) rfl
theorem q3030 : (Jvm.Cond.instanceMethod ({ cls := "TrailMarkersModel", name := "lays", desc := "(Ljava/lang/String;)V" } : Jvm.MethodName)) ∈ lw_all := lw_g (lw_at lw_m13 13 rfl) rfl
theorem q3031 : (Jvm.Cond.code ({ cls := "TrailMarkersModel", name := "lays", desc := "(Ljava/lang/String;)V" } : Jvm.MethodName) prog_13_method_2_code (3 : Nat) (Option.none : Option Jvm.ClassFile.FieldType)) ∈ lw_all := lw_g (lw_at lw_m13 14 rfl) rfl
theorem q3357 : (Jvm.Cond.arrayClass Jvm.ClassFile.FieldType.boolean) ∈ lw_all := lw_g (lw_at lw_m14 100 rfl) rfl
theorem q3635 : (Jvm.Cond.methodLink "TrailMarkersModel" (474 : Nat) ({ cls := "java/lang/Float", name := "floatToIntBits", desc := "(F)I" } : Jvm.MethodName)) ∈ lw_all := lw_g (lw_at lw_m15 138 rfl) rfl
theorem fp_X5_9 : FP "TrailMarkersModel" 9 4 0 (tyX5 0) true := ⟨RX5, TX5, 53, "TrailMarkersModel", cf_X5, by decide, q3197, Or.inl rfl, tyX5_ok 0 (by decide), rfl, fun _ => rfl⟩
theorem fp_X5_13 : FP "TrailMarkersModel" 13 4 1 (tyX5 1) true := ⟨RX5, TX5, 53, "TrailMarkersModel", cf_X5, by decide, q3198, Or.inl rfl, tyX5_ok 1 (by decide), rfl, fun _ => rfl⟩
theorem fp_X5_16 : FP "TrailMarkersModel" 16 4 2 (tyX5 2) true := ⟨RX5, TX5, 53, "TrailMarkersModel", cf_X5, by decide, q3199, Or.inl rfl, tyX5_ok 2 (by decide), rfl, fun _ => rfl⟩
theorem fp_X5_19 : FP "TrailMarkersModel" 19 4 3 (tyX5 3) true := ⟨RX5, TX5, 53, "TrailMarkersModel", cf_X5, by decide, q3200, Or.inl rfl, tyX5_ok 3 (by decide), rfl, fun _ => rfl⟩
theorem fp_X5_22 : FP "TrailMarkersModel" 22 4 4 (tyX5 4) true := ⟨RX5, TX5, 53, "TrailMarkersModel", cf_X5, by decide, q3201, Or.inl rfl, tyX5_ok 4 (by decide), rfl, fun _ => rfl⟩
theorem fp_X5_25 : FP "TrailMarkersModel" 25 4 5 (tyX5 5) true := ⟨RX5, TX5, 53, "TrailMarkersModel", cf_X5, by decide, q3202, Or.inl rfl, tyX5_ok 5 (by decide), rfl, fun _ => rfl⟩
theorem fp_X5_29 : FP "TrailMarkersModel" 29 4 8 (tyX5 8) true := ⟨RX5, TX5, 53, "TrailMarkersModel", cf_X5, by decide, q3205, Or.inl rfl, tyX5_ok 8 (by decide), rfl, fun _ => rfl⟩
theorem fp_X5_32 : FP "TrailMarkersModel" 32 4 9 (tyX5 9) true := ⟨RX5, TX5, 53, "TrailMarkersModel", cf_X5, by decide, q3206, Or.inl rfl, tyX5_ok 9 (by decide), rfl, fun _ => rfl⟩
theorem fp_X5_42 : FP "TrailMarkersModel" 42 4 25 (tyX5 25) true := ⟨RX5, TX5, 53, "TrailMarkersModel", cf_X5, by decide, q3222, Or.inl rfl, tyX5_ok 25 (by decide), rfl, fun _ => rfl⟩
theorem fp_X5_45 : FP "TrailMarkersModel" 45 4 26 (tyX5 26) true := ⟨RX5, TX5, 53, "TrailMarkersModel", cf_X5, by decide, q3223, Or.inl rfl, tyX5_ok 26 (by decide), rfl, fun _ => rfl⟩
theorem fp_X5_48 : FP "TrailMarkersModel" 48 4 27 (tyX5 27) true := ⟨RX5, TX5, 53, "TrailMarkersModel", cf_X5, by decide, q3224, Or.inl rfl, tyX5_ok 27 (by decide), rfl, fun _ => rfl⟩
theorem fp_X5_51 : FP "TrailMarkersModel" 51 4 28 (tyX5 28) true := ⟨RX5, TX5, 53, "TrailMarkersModel", cf_X5, by decide, q3225, Or.inl rfl, tyX5_ok 28 (by decide), rfl, fun _ => rfl⟩
theorem fp_X5_54 : FP "TrailMarkersModel" 54 4 29 (tyX5 29) true := ⟨RX5, TX5, 53, "TrailMarkersModel", cf_X5, by decide, q3226, Or.inl rfl, tyX5_ok 29 (by decide), rfl, fun _ => rfl⟩
theorem fp_X5_57 : FP "TrailMarkersModel" 57 4 30 (tyX5 30) true := ⟨RX5, TX5, 53, "TrailMarkersModel", cf_X5, by decide, q3227, Or.inl rfl, tyX5_ok 30 (by decide), rfl, fun _ => rfl⟩
theorem fp_X5_60 : FP "TrailMarkersModel" 60 4 31 (tyX5 31) true := ⟨RX5, TX5, 53, "TrailMarkersModel", cf_X5, by decide, q3228, Or.inl rfl, tyX5_ok 31 (by decide), rfl, fun _ => rfl⟩
theorem fp_X5_63 : FP "TrailMarkersModel" 63 4 44 (tyX5 44) true := ⟨RX5, TX5, 53, "TrailMarkersModel", cf_X5, by decide, q3241, Or.inl rfl, tyX5_ok 44 (by decide), rfl, fun _ => rfl⟩
theorem fp_X5_66 : FP "TrailMarkersModel" 66 4 45 (tyX5 45) true := ⟨RX5, TX5, 53, "TrailMarkersModel", cf_X5, by decide, q3242, Or.inl rfl, tyX5_ok 45 (by decide), rfl, fun _ => rfl⟩
theorem fp_X5_69 : FP "TrailMarkersModel" 69 4 46 (tyX5 46) true := ⟨RX5, TX5, 53, "TrailMarkersModel", cf_X5, by decide, q3243, Or.inl rfl, tyX5_ok 46 (by decide), rfl, fun _ => rfl⟩
theorem fp_X5_72 : FP "TrailMarkersModel" 72 4 47 (tyX5 47) true := ⟨RX5, TX5, 53, "TrailMarkersModel", cf_X5, by decide, q3244, Or.inl rfl, tyX5_ok 47 (by decide), rfl, fun _ => rfl⟩
theorem fp_X5_75 : FP "TrailMarkersModel" 75 4 51 (tyX5 51) true := ⟨RX5, TX5, 53, "TrailMarkersModel", cf_X5, by decide, q3248, Or.inl rfl, tyX5_ok 51 (by decide), rfl, fun _ => rfl⟩
theorem fp_X5_78 : FP "TrailMarkersModel" 78 4 52 (tyX5 52) true := ⟨RX5, TX5, 53, "TrailMarkersModel", cf_X5, by decide, q3249, Or.inl rfl, tyX5_ok 52 (by decide), rfl, fun _ => rfl⟩
theorem m_X5_83 : MV "TrailMarkersModel" 83 yX5_lays cX5_lays 3 (Option.none : Option Jvm.ClassFile.FieldType) 1 := ⟨q3028, q3030, qs65, q146, q3031, by decide +kernel, by decide +kernel, by decide +kernel⟩
theorem m_X5_474 : MS "TrailMarkersModel" 474 yJ26_floatToIntBits cJ26_floatToIntBits 1 (Option.some Jvm.ClassFile.FieldType.int) 1 := ⟨q3635, q2923, q176, q2924, by decide +kernel, by decide +kernel, by decide +kernel⟩
theorem cns_java_lang_IllegalArgumentException_22 : ∀ ci ∈ [22], CN ci "java/lang/IllegalArgumentException" := List.forall_mem_cons.mpr ⟨⟨_, rfl, by decide⟩, fun _ h => nomatch h⟩
theorem co_21_java_lang_IllegalArgumentException : CO 21 "java/lang/IllegalArgumentException" := ⟨_, rfl, Or.inl rfl⟩
theorem m_X0_7 : MV "TrailMarkersLaw" 7 yX1_truncate cX1_truncate 2 (Option.some Jvm.ClassFile.FieldType.int) 1 := ⟨q1393, q1394, q1395, q138, q1396, by decide +kernel, by decide +kernel, by decide +kernel⟩
theorem m_X0_15 : MV "TrailMarkersLaw" 15 yX1_error cX1_error 2 (Option.some Jvm.ClassFile.FieldType.int) 1 := ⟨q1412, q1413, q1414, q138, q1415, by decide +kernel, by decide +kernel, by decide +kernel⟩
theorem cns_java_lang_IllegalStateException_ : ∀ ci ∈ ([] : List Nat), CN ci "java/lang/IllegalStateException" := fun _ h => nomatch h
theorem cns_java_lang_IndexOutOfBoundsException_21_22 : ∀ ci ∈ [21, 22], CN ci "java/lang/IndexOutOfBoundsException" := List.forall_mem_cons.mpr ⟨⟨_, rfl, by decide⟩, List.forall_mem_cons.mpr ⟨⟨_, rfl, by decide⟩, fun _ h => nomatch h⟩⟩
theorem co_22_java_lang_IllegalStateException : CO 22 "java/lang/IllegalStateException" := ⟨_, rfl, Or.inl rfl⟩
theorem co_23_java_lang_IndexOutOfBoundsException : CO 23 "java/lang/IndexOutOfBoundsException" := ⟨_, rfl, Or.inl rfl⟩
theorem m_X0_18 : MVX "TrailMarkersLaw" 18 yX1_addPost cX1_addPost 7 (Option.some Jvm.ClassFile.FieldType.int) [((28 : Nat), (56 : Nat), (57 : Nat), (58 : Nat))] 4 := ⟨q1439, q1440, q1441, q138, q1442, by decide +kernel, by decide +kernel, by decide +kernel⟩
theorem m_X0_26 : MV "TrailMarkersLaw" 26 yX1_dropPost cX1_dropPost 2 (Option.some Jvm.ClassFile.FieldType.int) 1 := ⟨q1474, q1475, q1476, q138, q1477, by decide +kernel, by decide +kernel, by decide +kernel⟩
theorem m_X0_29 : MV "TrailMarkersLaw" 29 yX1_turn cX1_turn 4 (Option.some Jvm.ClassFile.FieldType.int) 2 := ⟨q1489, q1490, q1491, q138, q1492, by decide +kernel, by decide +kernel, by decide +kernel⟩
theorem m_X0_33 : MV "TrailMarkersLaw" 33 yX1_lose cX1_lose 2 (Option.some Jvm.ClassFile.FieldType.int) 1 := ⟨q1497, q1498, q1499, q138, q1500, by decide +kernel, by decide +kernel, by decide +kernel⟩
theorem m_X0_36 : MV "TrailMarkersLaw" 36 yX1_mend cX1_mend 2 (Option.some Jvm.ClassFile.FieldType.int) 1 := ⟨q1508, q1509, q1510, q138, q1511, by decide +kernel, by decide +kernel, by decide +kernel⟩
theorem m_X0_39 : MVX "TrailMarkersLaw" 39 yX1_setBlock cX1_setBlock 6 (Option.some Jvm.ClassFile.FieldType.int) [((15 : Nat), (57 : Nat), (60 : Nat), (58 : Nat))] 3 := ⟨q1515, q1516, q1517, q138, q1518, by decide +kernel, by decide +kernel, by decide +kernel⟩
theorem m_X0_43 : MV "TrailMarkersLaw" 43 yX1_set cX1_set 4 (Option.some Jvm.ClassFile.FieldType.int) 2 := ⟨q1526, q1527, q1528, q138, q1529, by decide +kernel, by decide +kernel, by decide +kernel⟩
theorem m_X0_46 : MV "TrailMarkersLaw" 46 yX1_undo cX1_undo 1 (Option.some Jvm.ClassFile.FieldType.int) 0 := ⟨q1539, q1540, q1541, q138, q1542, by decide +kernel, by decide +kernel, by decide +kernel⟩
theorem m_X0_50 : MV "TrailMarkersLaw" 50 yX1_save cX1_save 2 (Option.some Jvm.ClassFile.FieldType.int) 1 := ⟨q1561, q1562, q1563, q138, q1564, by decide +kernel, by decide +kernel, by decide +kernel⟩
theorem m_X0_53 : MV "TrailMarkersLaw" 53 yX1_restore cX1_restore 2 (Option.some Jvm.ClassFile.FieldType.int) 1 := ⟨q1568, q1569, q1570, q138, q1571, by decide +kernel, by decide +kernel, by decide +kernel⟩
theorem m_X0_56 : MV "TrailMarkersLaw" 56 yX1_count cX1_count 2 (Option.some Jvm.ClassFile.FieldType.int) 1 := ⟨q1575, q1576, q1577, q138, q1578, by decide +kernel, by decide +kernel, by decide +kernel⟩
theorem m_X0_59 : MV "TrailMarkersLaw" 59 yX1_post cX1_post 4 (Option.some Jvm.ClassFile.FieldType.int) 2 := ⟨q1592, q1593, q1594, q138, q1595, by decide +kernel, by decide +kernel, by decide +kernel⟩
theorem m_X0_62 : MV "TrailMarkersLaw" 62 yX1_at cX1_at 3 (Option.some Jvm.ClassFile.FieldType.int) 2 := ⟨q1610, q1611, q1612, q138, q1613, by decide +kernel, by decide +kernel, by decide +kernel⟩
theorem m_X0_65 : MV "TrailMarkersLaw" 65 yX1_colour cX1_colour 5 (Option.some Jvm.ClassFile.FieldType.int) 2 := ⟨q1618, q1619, q1620, q138, q1621, by decide +kernel, by decide +kernel, by decide +kernel⟩
theorem m_X0_68 : MV "TrailMarkersLaw" 68 yX1_met cX1_met 7 (Option.some Jvm.ClassFile.FieldType.long) 1 := ⟨q1638, q1639, q1640, q138, q1641, by decide +kernel, by decide +kernel, by decide +kernel⟩
theorem m_X0_72 : MV "TrailMarkersLaw" 72 yX1_route cX1_route 4 (Option.some Jvm.ClassFile.FieldType.int) 2 := ⟨q1645, q1646, q1647, q138, q1648, by decide +kernel, by decide +kernel, by decide +kernel⟩
theorem m_X0_75 : MV "TrailMarkersLaw" 75 yX1_routePost cX1_routePost 4 (Option.some Jvm.ClassFile.FieldType.int) 2 := ⟨q1660, q1661, q1662, q138, q1663, by decide +kernel, by decide +kernel, by decide +kernel⟩
theorem m_X0_78 : MV "TrailMarkersLaw" 78 yX1_routeCell cX1_routeCell 4 (Option.some Jvm.ClassFile.FieldType.int) 2 := ⟨q1667, q1668, q1669, q138, q1670, by decide +kernel, by decide +kernel, by decide +kernel⟩
theorem m_X0_81 : MV "TrailMarkersLaw" 81 yX1_inferred cX1_inferred 4 (Option.some Jvm.ClassFile.FieldType.int) 2 := ⟨q1674, q1675, q1676, q138, q1677, by decide +kernel, by decide +kernel, by decide +kernel⟩
theorem m_X0_84 : MV "TrailMarkersLaw" 84 yX1_shared cX1_shared 7 (Option.some Jvm.ClassFile.FieldType.int) 2 := ⟨q1681, q1682, q1683, q138, q1684, by decide +kernel, by decide +kernel, by decide +kernel⟩
theorem m_X0_87 : MV "TrailMarkersLaw" 87 yX1_why cX1_why 7 (Option.some Jvm.ClassFile.FieldType.int) 2 := ⟨q2856, q2857, q2858, q138, q2859, by decide +kernel, by decide +kernel, by decide +kernel⟩
theorem m_X0_90 : MV "TrailMarkersLaw" 90 yX1_ifOther cX1_ifOther 4 (Option.some Jvm.ClassFile.FieldType.int) 3 := ⟨q2866, q2867, q2868, q138, q2869, by decide +kernel, by decide +kernel, by decide +kernel⟩
theorem m_X0_94 : MV "TrailMarkersLaw" 94 yX1_ifSet cX1_ifSet 6 (Option.some Jvm.ClassFile.FieldType.int) 4 := ⟨q2882, q2883, q2884, q138, q2885, by decide +kernel, by decide +kernel, by decide +kernel⟩
theorem m_X0_97 : MV "TrailMarkersLaw" 97 yX1_bestMend cX1_bestMend 2 (Option.some Jvm.ClassFile.FieldType.int) 1 := ⟨q2889, q2890, q2891, q138, q2892, by decide +kernel, by decide +kernel, by decide +kernel⟩
theorem m_X0_100 : MV "TrailMarkersLaw" 100 yX1_worstLoss cX1_worstLoss 2 (Option.some Jvm.ClassFile.FieldType.int) 1 := ⟨q2900, q2901, q2902, q138, q2903, by decide +kernel, by decide +kernel, by decide +kernel⟩
theorem m_X0_103 : MV "TrailMarkersLaw" 103 yX1_leastGap cX1_leastGap 5 (Option.some Jvm.ClassFile.FieldType.int) 1 := ⟨q2907, q2908, q2909, q138, q2910, by decide +kernel, by decide +kernel, by decide +kernel⟩
theorem m_X0_106 : MV "TrailMarkersLaw" 106 yX1_meanBits cX1_meanBits 3 (Option.some Jvm.ClassFile.FieldType.int) 1 := ⟨q2914, q2915, q2916, q138, q2917, by decide +kernel, by decide +kernel, by decide +kernel⟩
theorem m_X0_109 : MV "TrailMarkersLaw" 109 yX1_writeRoute cX1_writeRoute 11 (Option.some Jvm.ClassFile.FieldType.int) 1 := ⟨q2932, q2933, q2934, q138, q2935, by decide +kernel, by decide +kernel, by decide +kernel⟩
theorem m_X0_112 : MV "TrailMarkersLaw" 112 yX1_writeRow cX1_writeRow 5 (Option.some Jvm.ClassFile.FieldType.int) 1 := ⟨q3016, q3017, q3018, q138, q3019, by decide +kernel, by decide +kernel, by decide +kernel⟩
