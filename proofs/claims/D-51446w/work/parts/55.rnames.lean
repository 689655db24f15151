set_option maxRecDepth 100000
abbrev cX6_error : ByteArray := prog_7_method_3_code
def yX6_error : MethodName := ⟨RX6, "error", "(I)LTrailMarkers$TextException;"⟩
def dkwX6_error_0 : List UInt8 := [187, 0, 67, 89, 27, 42, 180, 0, 36, 183, 0, 69, 176]
abbrev dktX6_error_0 : List UInt8 := dkwX6_error_0 ++ []
theorem dksX6_error_0 : cX6_error.data.toList.drop 0 = dktX6_error_0 := by decide +kernel
theorem dX6_error_0 : decode cX6_error 0 = .ok (.new 67, 3) := dk_187 0 67 (dk_at dksX6_error_0 0 rfl rfl)
theorem dX6_error_3 : decode cX6_error 3 = .ok (.dup, 1) := dk_89 (dk_at dksX6_error_0 3 rfl rfl)
theorem dX6_error_4 : decode cX6_error 4 = .ok (.iload_n 1, 1) := dk_27 (dk_at dksX6_error_0 4 rfl rfl)
theorem dX6_error_5 : decode cX6_error 5 = .ok (.aload_n 0, 1) := dk_42 (dk_at dksX6_error_0 5 rfl rfl)
theorem dX6_error_6 : decode cX6_error 6 = .ok (.getfield 36, 3) := dk_180 0 36 (dk_at dksX6_error_0 6 rfl rfl)
theorem dX6_error_9 : decode cX6_error 9 = .ok (.invokespecial 69, 3) := dk_183 0 69 (dk_at dksX6_error_0 9 rfl rfl)
theorem dX6_error_12 : decode cX6_error 12 = .ok (.areturn, 1) := dk_176 (dk_at dksX6_error_0 12 rfl rfl)
abbrev cX6_advance : ByteArray := prog_7_method_2_code
def yX6_advance : MethodName := ⟨RX6, "advance", "()V"⟩
def dkwX6_advance_16 : List UInt8 := [96, 181, 0, 25, 177]
abbrev dktX6_advance_16 : List UInt8 := dkwX6_advance_16 ++ []
def dkwX6_advance_15 : List UInt8 := [2, 181, 0, 39, 42, 180, 0, 39, 2, 160, 0, 9, 42, 4, 182, 0, 63, 191, 42, 89, 180, 0, 25, 4]
abbrev dktX6_advance_15 : List UInt8 := dkwX6_advance_15 ++ dktX6_advance_16
def dkwX6_advance_14 : List UInt8 := [5, 167, 0, 24, 27, 16, 40, 160, 0, 7, 6, 167, 0, 14, 27, 16, 41, 160, 0, 7, 7, 167, 0, 4]
abbrev dktX6_advance_14 : List UInt8 := dkwX6_advance_14 ++ dktX6_advance_15
def dkwX6_advance_13 : List UInt8 := [181, 0, 25, 167, 255, 180, 42, 44, 182, 0, 59, 181, 0, 17, 167, 0, 62, 42, 27, 16, 59, 160, 0, 7]
abbrev dktX6_advance_13 : List UInt8 := dkwX6_advance_13 ++ dktX6_advance_14
def dkwX6_advance_12 : List UInt8 := [180, 0, 3, 180, 0, 32, 42, 180, 0, 25, 51, 146, 182, 0, 55, 87, 42, 89, 180, 0, 25, 4, 96]
abbrev dktX6_advance_12 : List UInt8 := dkwX6_advance_12 ++ dktX6_advance_13
def dkwX6_advance_11 : List UInt8 := [161, 0, 51, 42, 180, 0, 3, 180, 0, 32, 42, 180, 0, 25, 51, 16, 122, 163, 0, 34, 44, 42]
abbrev dktX6_advance_11 : List UInt8 := dkwX6_advance_11 ++ dktX6_advance_12
def dkwX6_advance_10 : List UInt8 := [180, 0, 3, 180, 0, 29, 162, 0, 68, 42, 180, 0, 3, 180, 0, 32, 42, 180, 0, 25, 51, 16, 97]
abbrev dktX6_advance_10 : List UInt8 := dkwX6_advance_10 ++ dktX6_advance_11
def dkwX6_advance_9 : List UInt8 := [16, 122, 163, 0, 106, 42, 3, 181, 0, 39, 187, 0, 52, 89, 183, 0, 54, 77, 42, 180, 0, 25, 42]
abbrev dktX6_advance_9 : List UInt8 := dkwX6_advance_9 ++ dktX6_advance_10
def dkwX6_advance_8 : List UInt8 := [181, 0, 42, 42, 89, 180, 0, 25, 4, 96, 181, 0, 25, 167, 255, 166, 27, 16, 97, 161, 0, 112, 27]
abbrev dktX6_advance_8 : List UInt8 := dkwX6_advance_8 ++ dktX6_advance_9
def dkwX6_advance_7 : List UInt8 := [16, 10, 104, 42, 180, 0, 3, 180, 0, 32, 42, 180, 0, 25, 51, 96, 16, 48, 100, 184, 0, 46]
abbrev dktX6_advance_7 : List UInt8 := dkwX6_advance_7 ++ dktX6_advance_8
def dkwX6_advance_6 : List UInt8 := [180, 0, 3, 180, 0, 32, 42, 180, 0, 25, 51, 16, 57, 163, 0, 222, 42, 18, 45, 42, 180, 0, 42]
abbrev dktX6_advance_6 : List UInt8 := dkwX6_advance_6 ++ dktX6_advance_7
def dkwX6_advance_5 : List UInt8 := [180, 0, 29, 162, 1, 0, 42, 180, 0, 3, 180, 0, 32, 42, 180, 0, 25, 51, 16, 48, 161, 0, 239, 42]
abbrev dktX6_advance_5 : List UInt8 := dkwX6_advance_5 ++ dktX6_advance_6
def dkwX6_advance_4 : List UInt8 := [16, 57, 163, 0, 106, 42, 4, 181, 0, 39, 42, 3, 181, 0, 42, 42, 180, 0, 25, 42, 180, 0, 3]
abbrev dktX6_advance_4 : List UInt8 := dkwX6_advance_4 ++ dktX6_advance_5
def dkwX6_advance_3 : List UInt8 := [181, 0, 39, 177, 42, 180, 0, 3, 180, 0, 32, 42, 180, 0, 25, 51, 60, 27, 16, 48, 161, 0, 112, 27]
abbrev dktX6_advance_3 : List UInt8 := dkwX6_advance_3 ++ dktX6_advance_4
def dkwX6_advance_2 : List UInt8 := [180, 0, 25, 181, 0, 36, 42, 180, 0, 25, 42, 180, 0, 3, 180, 0, 29, 160, 0, 9, 42, 8]
abbrev dktX6_advance_2 : List UInt8 := dkwX6_advance_2 ++ dktX6_advance_3
def dkwX6_advance_1 : List UInt8 := [180, 0, 25, 51, 16, 32, 160, 0, 16, 42, 89, 180, 0, 25, 4, 96, 181, 0, 25, 167, 255, 215, 42, 42]
abbrev dktX6_advance_1 : List UInt8 := dkwX6_advance_1 ++ dktX6_advance_2
def dkwX6_advance_0 : List UInt8 := [42, 180, 0, 25, 42, 180, 0, 3, 180, 0, 29, 162, 0, 33, 42, 180, 0, 3, 180, 0, 32, 42]
abbrev dktX6_advance_0 : List UInt8 := dkwX6_advance_0 ++ dktX6_advance_1
theorem dksX6_advance_0 : cX6_advance.data.toList.drop 0 = dktX6_advance_0 := by decide +kernel
theorem dksX6_advance_1 : cX6_advance.data.toList.drop 22 = dktX6_advance_1 := dk_seg dksX6_advance_0 22 rfl rfl
theorem dksX6_advance_2 : cX6_advance.data.toList.drop 46 = dktX6_advance_2 := dk_seg dksX6_advance_1 24 rfl rfl
theorem dksX6_advance_3 : cX6_advance.data.toList.drop 68 = dktX6_advance_3 := dk_seg dksX6_advance_2 22 rfl rfl
theorem dksX6_advance_4 : cX6_advance.data.toList.drop 92 = dktX6_advance_4 := dk_seg dksX6_advance_3 24 rfl rfl
theorem dksX6_advance_5 : cX6_advance.data.toList.drop 115 = dktX6_advance_5 := dk_seg dksX6_advance_4 23 rfl rfl
theorem dksX6_advance_6 : cX6_advance.data.toList.drop 139 = dktX6_advance_6 := dk_seg dksX6_advance_5 24 rfl rfl
theorem dksX6_advance_7 : cX6_advance.data.toList.drop 162 = dktX6_advance_7 := dk_seg dksX6_advance_6 23 rfl rfl
theorem dksX6_advance_8 : cX6_advance.data.toList.drop 184 = dktX6_advance_8 := dk_seg dksX6_advance_7 22 rfl rfl
theorem dksX6_advance_9 : cX6_advance.data.toList.drop 207 = dktX6_advance_9 := dk_seg dksX6_advance_8 23 rfl rfl
theorem dksX6_advance_10 : cX6_advance.data.toList.drop 230 = dktX6_advance_10 := dk_seg dksX6_advance_9 23 rfl rfl
theorem dksX6_advance_11 : cX6_advance.data.toList.drop 253 = dktX6_advance_11 := dk_seg dksX6_advance_10 23 rfl rfl
theorem dksX6_advance_12 : cX6_advance.data.toList.drop 275 = dktX6_advance_12 := dk_seg dksX6_advance_11 22 rfl rfl
theorem dksX6_advance_13 : cX6_advance.data.toList.drop 298 = dktX6_advance_13 := dk_seg dksX6_advance_12 23 rfl rfl
theorem dksX6_advance_14 : cX6_advance.data.toList.drop 322 = dktX6_advance_14 := dk_seg dksX6_advance_13 24 rfl rfl
theorem dksX6_advance_15 : cX6_advance.data.toList.drop 346 = dktX6_advance_15 := dk_seg dksX6_advance_14 24 rfl rfl
theorem dksX6_advance_16 : cX6_advance.data.toList.drop 370 = dktX6_advance_16 := dk_seg dksX6_advance_15 24 rfl rfl
theorem dX6_advance_0 : decode cX6_advance 0 = .ok (.aload_n 0, 1) := dk_42 (dk_at dksX6_advance_0 0 rfl rfl)
theorem dX6_advance_1 : decode cX6_advance 1 = .ok (.getfield 25, 3) := dk_180 0 25 (dk_at dksX6_advance_0 1 rfl rfl)
theorem dX6_advance_4 : decode cX6_advance 4 = .ok (.aload_n 0, 1) := dk_42 (dk_at dksX6_advance_0 4 rfl rfl)
theorem dX6_advance_5 : decode cX6_advance 5 = .ok (.getfield 3, 3) := dk_180 0 3 (dk_at dksX6_advance_0 5 rfl rfl)
theorem dX6_advance_8 : decode cX6_advance 8 = .ok (.getfield 29, 3) := dk_180 0 29 (dk_at dksX6_advance_0 8 rfl rfl)
theorem dX6_advance_11 : decode cX6_advance 11 = .ok (.if_icmp .ge 33, 3) := dk_162 0 33 (dk_at dksX6_advance_0 11 rfl rfl)
theorem dX6_advance_14 : decode cX6_advance 14 = .ok (.aload_n 0, 1) := dk_42 (dk_at dksX6_advance_0 14 rfl rfl)
theorem dX6_advance_15 : decode cX6_advance 15 = .ok (.getfield 3, 3) := dk_180 0 3 (dk_at dksX6_advance_0 15 rfl rfl)
theorem dX6_advance_18 : decode cX6_advance 18 = .ok (.getfield 32, 3) := dk_180 0 32 (dk_at dksX6_advance_0 18 rfl rfl)
theorem dX6_advance_21 : decode cX6_advance 21 = .ok (.aload_n 0, 1) := dk_42 (dk_at dksX6_advance_0 21 rfl rfl)
theorem dX6_advance_22 : decode cX6_advance 22 = .ok (.getfield 25, 3) := dk_180 0 25 (dk_at dksX6_advance_1 0 rfl rfl)
theorem dX6_advance_25 : decode cX6_advance 25 = .ok (.baload, 1) := dk_51 (dk_at dksX6_advance_1 3 rfl rfl)
theorem dX6_advance_26 : decode cX6_advance 26 = .ok (.bipush 32, 2) := dk_16 32 (dk_at dksX6_advance_1 4 rfl rfl)
theorem dX6_advance_28 : decode cX6_advance 28 = .ok (.if_icmp .ne 16, 3) := dk_160 0 16 (dk_at dksX6_advance_1 6 rfl rfl)
theorem dX6_advance_31 : decode cX6_advance 31 = .ok (.aload_n 0, 1) := dk_42 (dk_at dksX6_advance_1 9 rfl rfl)
theorem dX6_advance_32 : decode cX6_advance 32 = .ok (.dup, 1) := dk_89 (dk_at dksX6_advance_1 10 rfl rfl)
theorem dX6_advance_33 : decode cX6_advance 33 = .ok (.getfield 25, 3) := dk_180 0 25 (dk_at dksX6_advance_1 11 rfl rfl)
theorem dX6_advance_36 : decode cX6_advance 36 = .ok (.iconst 1, 1) := dk_4 (dk_at dksX6_advance_1 14 rfl rfl)
theorem dX6_advance_37 : decode cX6_advance 37 = .ok (.iadd, 1) := dk_96 (dk_at dksX6_advance_1 15 rfl rfl)
theorem dX6_advance_38 : decode cX6_advance 38 = .ok (.putfield 25, 3) := dk_181 0 25 (dk_at dksX6_advance_1 16 rfl rfl)
theorem dX6_advance_41 : decode cX6_advance 41 = .ok (.goto (-41), 3) := dk_167 255 215 (dk_at dksX6_advance_1 19 rfl rfl)
theorem dX6_advance_44 : decode cX6_advance 44 = .ok (.aload_n 0, 1) := dk_42 (dk_at dksX6_advance_1 22 rfl rfl)
theorem dX6_advance_45 : decode cX6_advance 45 = .ok (.aload_n 0, 1) := dk_42 (dk_at dksX6_advance_1 23 rfl rfl)
theorem dX6_advance_46 : decode cX6_advance 46 = .ok (.getfield 25, 3) := dk_180 0 25 (dk_at dksX6_advance_2 0 rfl rfl)
theorem dX6_advance_49 : decode cX6_advance 49 = .ok (.putfield 36, 3) := dk_181 0 36 (dk_at dksX6_advance_2 3 rfl rfl)
theorem dX6_advance_52 : decode cX6_advance 52 = .ok (.aload_n 0, 1) := dk_42 (dk_at dksX6_advance_2 6 rfl rfl)
theorem dX6_advance_53 : decode cX6_advance 53 = .ok (.getfield 25, 3) := dk_180 0 25 (dk_at dksX6_advance_2 7 rfl rfl)
theorem dX6_advance_56 : decode cX6_advance 56 = .ok (.aload_n 0, 1) := dk_42 (dk_at dksX6_advance_2 10 rfl rfl)
theorem dX6_advance_57 : decode cX6_advance 57 = .ok (.getfield 3, 3) := dk_180 0 3 (dk_at dksX6_advance_2 11 rfl rfl)
theorem dX6_advance_60 : decode cX6_advance 60 = .ok (.getfield 29, 3) := dk_180 0 29 (dk_at dksX6_advance_2 14 rfl rfl)
theorem dX6_advance_63 : decode cX6_advance 63 = .ok (.if_icmp .ne 9, 3) := dk_160 0 9 (dk_at dksX6_advance_2 17 rfl rfl)
theorem dX6_advance_66 : decode cX6_advance 66 = .ok (.aload_n 0, 1) := dk_42 (dk_at dksX6_advance_2 20 rfl rfl)
theorem dX6_advance_67 : decode cX6_advance 67 = .ok (.iconst 5, 1) := dk_8 (dk_at dksX6_advance_2 21 rfl rfl)
theorem dX6_advance_68 : decode cX6_advance 68 = .ok (.putfield 39, 3) := dk_181 0 39 (dk_at dksX6_advance_3 0 rfl rfl)
theorem dX6_advance_71 : decode cX6_advance 71 = .ok (.return_, 1) := dk_177 (dk_at dksX6_advance_3 3 rfl rfl)
theorem dX6_advance_72 : decode cX6_advance 72 = .ok (.aload_n 0, 1) := dk_42 (dk_at dksX6_advance_3 4 rfl rfl)
theorem dX6_advance_73 : decode cX6_advance 73 = .ok (.getfield 3, 3) := dk_180 0 3 (dk_at dksX6_advance_3 5 rfl rfl)
theorem dX6_advance_76 : decode cX6_advance 76 = .ok (.getfield 32, 3) := dk_180 0 32 (dk_at dksX6_advance_3 8 rfl rfl)
theorem dX6_advance_79 : decode cX6_advance 79 = .ok (.aload_n 0, 1) := dk_42 (dk_at dksX6_advance_3 11 rfl rfl)
theorem dX6_advance_80 : decode cX6_advance 80 = .ok (.getfield 25, 3) := dk_180 0 25 (dk_at dksX6_advance_3 12 rfl rfl)
theorem dX6_advance_83 : decode cX6_advance 83 = .ok (.baload, 1) := dk_51 (dk_at dksX6_advance_3 15 rfl rfl)
theorem dX6_advance_84 : decode cX6_advance 84 = .ok (.istore_n 1, 1) := dk_60 (dk_at dksX6_advance_3 16 rfl rfl)
theorem dX6_advance_85 : decode cX6_advance 85 = .ok (.iload_n 1, 1) := dk_27 (dk_at dksX6_advance_3 17 rfl rfl)
theorem dX6_advance_86 : decode cX6_advance 86 = .ok (.bipush 48, 2) := dk_16 48 (dk_at dksX6_advance_3 18 rfl rfl)
theorem dX6_advance_88 : decode cX6_advance 88 = .ok (.if_icmp .lt 112, 3) := dk_161 0 112 (dk_at dksX6_advance_3 20 rfl rfl)
theorem dX6_advance_91 : decode cX6_advance 91 = .ok (.iload_n 1, 1) := dk_27 (dk_at dksX6_advance_3 23 rfl rfl)
theorem dX6_advance_92 : decode cX6_advance 92 = .ok (.bipush 57, 2) := dk_16 57 (dk_at dksX6_advance_4 0 rfl rfl)
theorem dX6_advance_94 : decode cX6_advance 94 = .ok (.if_icmp .gt 106, 3) := dk_163 0 106 (dk_at dksX6_advance_4 2 rfl rfl)
theorem dX6_advance_97 : decode cX6_advance 97 = .ok (.aload_n 0, 1) := dk_42 (dk_at dksX6_advance_4 5 rfl rfl)
theorem dX6_advance_98 : decode cX6_advance 98 = .ok (.iconst 1, 1) := dk_4 (dk_at dksX6_advance_4 6 rfl rfl)
theorem dX6_advance_99 : decode cX6_advance 99 = .ok (.putfield 39, 3) := dk_181 0 39 (dk_at dksX6_advance_4 7 rfl rfl)
theorem dX6_advance_102 : decode cX6_advance 102 = .ok (.aload_n 0, 1) := dk_42 (dk_at dksX6_advance_4 10 rfl rfl)
theorem dX6_advance_103 : decode cX6_advance 103 = .ok (.iconst 0, 1) := dk_3 (dk_at dksX6_advance_4 11 rfl rfl)
theorem dX6_advance_104 : decode cX6_advance 104 = .ok (.putfield 42, 3) := dk_181 0 42 (dk_at dksX6_advance_4 12 rfl rfl)
theorem dX6_advance_107 : decode cX6_advance 107 = .ok (.aload_n 0, 1) := dk_42 (dk_at dksX6_advance_4 15 rfl rfl)
theorem dX6_advance_108 : decode cX6_advance 108 = .ok (.getfield 25, 3) := dk_180 0 25 (dk_at dksX6_advance_4 16 rfl rfl)
theorem dX6_advance_111 : decode cX6_advance 111 = .ok (.aload_n 0, 1) := dk_42 (dk_at dksX6_advance_4 19 rfl rfl)
theorem dX6_advance_112 : decode cX6_advance 112 = .ok (.getfield 3, 3) := dk_180 0 3 (dk_at dksX6_advance_4 20 rfl rfl)
theorem dX6_advance_115 : decode cX6_advance 115 = .ok (.getfield 29, 3) := dk_180 0 29 (dk_at dksX6_advance_5 0 rfl rfl)
theorem dX6_advance_118 : decode cX6_advance 118 = .ok (.if_icmp .ge 256, 3) := dk_162 1 0 (dk_at dksX6_advance_5 3 rfl rfl)
theorem dX6_advance_121 : decode cX6_advance 121 = .ok (.aload_n 0, 1) := dk_42 (dk_at dksX6_advance_5 6 rfl rfl)
theorem dX6_advance_122 : decode cX6_advance 122 = .ok (.getfield 3, 3) := dk_180 0 3 (dk_at dksX6_advance_5 7 rfl rfl)
theorem dX6_advance_125 : decode cX6_advance 125 = .ok (.getfield 32, 3) := dk_180 0 32 (dk_at dksX6_advance_5 10 rfl rfl)
theorem dX6_advance_128 : decode cX6_advance 128 = .ok (.aload_n 0, 1) := dk_42 (dk_at dksX6_advance_5 13 rfl rfl)
theorem dX6_advance_129 : decode cX6_advance 129 = .ok (.getfield 25, 3) := dk_180 0 25 (dk_at dksX6_advance_5 14 rfl rfl)
theorem dX6_advance_132 : decode cX6_advance 132 = .ok (.baload, 1) := dk_51 (dk_at dksX6_advance_5 17 rfl rfl)
theorem dX6_advance_133 : decode cX6_advance 133 = .ok (.bipush 48, 2) := dk_16 48 (dk_at dksX6_advance_5 18 rfl rfl)
theorem dX6_advance_135 : decode cX6_advance 135 = .ok (.if_icmp .lt 239, 3) := dk_161 0 239 (dk_at dksX6_advance_5 20 rfl rfl)
theorem dX6_advance_138 : decode cX6_advance 138 = .ok (.aload_n 0, 1) := dk_42 (dk_at dksX6_advance_5 23 rfl rfl)
theorem dX6_advance_139 : decode cX6_advance 139 = .ok (.getfield 3, 3) := dk_180 0 3 (dk_at dksX6_advance_6 0 rfl rfl)
theorem dX6_advance_142 : decode cX6_advance 142 = .ok (.getfield 32, 3) := dk_180 0 32 (dk_at dksX6_advance_6 3 rfl rfl)
theorem dX6_advance_145 : decode cX6_advance 145 = .ok (.aload_n 0, 1) := dk_42 (dk_at dksX6_advance_6 6 rfl rfl)
theorem dX6_advance_146 : decode cX6_advance 146 = .ok (.getfield 25, 3) := dk_180 0 25 (dk_at dksX6_advance_6 7 rfl rfl)
theorem dX6_advance_149 : decode cX6_advance 149 = .ok (.baload, 1) := dk_51 (dk_at dksX6_advance_6 10 rfl rfl)
theorem dX6_advance_150 : decode cX6_advance 150 = .ok (.bipush 57, 2) := dk_16 57 (dk_at dksX6_advance_6 11 rfl rfl)
theorem dX6_advance_152 : decode cX6_advance 152 = .ok (.if_icmp .gt 222, 3) := dk_163 0 222 (dk_at dksX6_advance_6 13 rfl rfl)
theorem dX6_advance_155 : decode cX6_advance 155 = .ok (.aload_n 0, 1) := dk_42 (dk_at dksX6_advance_6 16 rfl rfl)
theorem dX6_advance_156 : decode cX6_advance 156 = .ok (.ldc 45, 2) := dk_18 45 (dk_at dksX6_advance_6 17 rfl rfl)
theorem dX6_advance_158 : decode cX6_advance 158 = .ok (.aload_n 0, 1) := dk_42 (dk_at dksX6_advance_6 19 rfl rfl)
theorem dX6_advance_159 : decode cX6_advance 159 = .ok (.getfield 42, 3) := dk_180 0 42 (dk_at dksX6_advance_6 20 rfl rfl)
theorem dX6_advance_162 : decode cX6_advance 162 = .ok (.bipush 10, 2) := dk_16 10 (dk_at dksX6_advance_7 0 rfl rfl)
theorem dX6_advance_164 : decode cX6_advance 164 = .ok (.imul, 1) := dk_104 (dk_at dksX6_advance_7 2 rfl rfl)
theorem dX6_advance_165 : decode cX6_advance 165 = .ok (.aload_n 0, 1) := dk_42 (dk_at dksX6_advance_7 3 rfl rfl)
theorem dX6_advance_166 : decode cX6_advance 166 = .ok (.getfield 3, 3) := dk_180 0 3 (dk_at dksX6_advance_7 4 rfl rfl)
theorem dX6_advance_169 : decode cX6_advance 169 = .ok (.getfield 32, 3) := dk_180 0 32 (dk_at dksX6_advance_7 7 rfl rfl)
theorem dX6_advance_172 : decode cX6_advance 172 = .ok (.aload_n 0, 1) := dk_42 (dk_at dksX6_advance_7 10 rfl rfl)
theorem dX6_advance_173 : decode cX6_advance 173 = .ok (.getfield 25, 3) := dk_180 0 25 (dk_at dksX6_advance_7 11 rfl rfl)
theorem dX6_advance_176 : decode cX6_advance 176 = .ok (.baload, 1) := dk_51 (dk_at dksX6_advance_7 14 rfl rfl)
theorem dX6_advance_177 : decode cX6_advance 177 = .ok (.iadd, 1) := dk_96 (dk_at dksX6_advance_7 15 rfl rfl)
theorem dX6_advance_178 : decode cX6_advance 178 = .ok (.bipush 48, 2) := dk_16 48 (dk_at dksX6_advance_7 16 rfl rfl)
theorem dX6_advance_180 : decode cX6_advance 180 = .ok (.isub, 1) := dk_100 (dk_at dksX6_advance_7 18 rfl rfl)
theorem dX6_advance_181 : decode cX6_advance 181 = .ok (.invokestatic 46, 3) := dk_184 0 46 (dk_at dksX6_advance_7 19 rfl rfl)
theorem dX6_advance_184 : decode cX6_advance 184 = .ok (.putfield 42, 3) := dk_181 0 42 (dk_at dksX6_advance_8 0 rfl rfl)
theorem dX6_advance_187 : decode cX6_advance 187 = .ok (.aload_n 0, 1) := dk_42 (dk_at dksX6_advance_8 3 rfl rfl)
theorem dX6_advance_188 : decode cX6_advance 188 = .ok (.dup, 1) := dk_89 (dk_at dksX6_advance_8 4 rfl rfl)
theorem dX6_advance_189 : decode cX6_advance 189 = .ok (.getfield 25, 3) := dk_180 0 25 (dk_at dksX6_advance_8 5 rfl rfl)
theorem dX6_advance_192 : decode cX6_advance 192 = .ok (.iconst 1, 1) := dk_4 (dk_at dksX6_advance_8 8 rfl rfl)
theorem dX6_advance_193 : decode cX6_advance 193 = .ok (.iadd, 1) := dk_96 (dk_at dksX6_advance_8 9 rfl rfl)
theorem dX6_advance_194 : decode cX6_advance 194 = .ok (.putfield 25, 3) := dk_181 0 25 (dk_at dksX6_advance_8 10 rfl rfl)
theorem dX6_advance_197 : decode cX6_advance 197 = .ok (.goto (-90), 3) := dk_167 255 166 (dk_at dksX6_advance_8 13 rfl rfl)
theorem dX6_advance_200 : decode cX6_advance 200 = .ok (.iload_n 1, 1) := dk_27 (dk_at dksX6_advance_8 16 rfl rfl)
theorem dX6_advance_201 : decode cX6_advance 201 = .ok (.bipush 97, 2) := dk_16 97 (dk_at dksX6_advance_8 17 rfl rfl)
theorem dX6_advance_203 : decode cX6_advance 203 = .ok (.if_icmp .lt 112, 3) := dk_161 0 112 (dk_at dksX6_advance_8 19 rfl rfl)
theorem dX6_advance_206 : decode cX6_advance 206 = .ok (.iload_n 1, 1) := dk_27 (dk_at dksX6_advance_8 22 rfl rfl)
theorem dX6_advance_207 : decode cX6_advance 207 = .ok (.bipush 122, 2) := dk_16 122 (dk_at dksX6_advance_9 0 rfl rfl)
theorem dX6_advance_209 : decode cX6_advance 209 = .ok (.if_icmp .gt 106, 3) := dk_163 0 106 (dk_at dksX6_advance_9 2 rfl rfl)
theorem dX6_advance_212 : decode cX6_advance 212 = .ok (.aload_n 0, 1) := dk_42 (dk_at dksX6_advance_9 5 rfl rfl)
theorem dX6_advance_213 : decode cX6_advance 213 = .ok (.iconst 0, 1) := dk_3 (dk_at dksX6_advance_9 6 rfl rfl)
theorem dX6_advance_214 : decode cX6_advance 214 = .ok (.putfield 39, 3) := dk_181 0 39 (dk_at dksX6_advance_9 7 rfl rfl)
theorem dX6_advance_217 : decode cX6_advance 217 = .ok (.new 52, 3) := dk_187 0 52 (dk_at dksX6_advance_9 10 rfl rfl)
theorem dX6_advance_220 : decode cX6_advance 220 = .ok (.dup, 1) := dk_89 (dk_at dksX6_advance_9 13 rfl rfl)
theorem dX6_advance_221 : decode cX6_advance 221 = .ok (.invokespecial 54, 3) := dk_183 0 54 (dk_at dksX6_advance_9 14 rfl rfl)
theorem dX6_advance_224 : decode cX6_advance 224 = .ok (.astore_n 2, 1) := dk_77 (dk_at dksX6_advance_9 17 rfl rfl)
theorem dX6_advance_225 : decode cX6_advance 225 = .ok (.aload_n 0, 1) := dk_42 (dk_at dksX6_advance_9 18 rfl rfl)
theorem dX6_advance_226 : decode cX6_advance 226 = .ok (.getfield 25, 3) := dk_180 0 25 (dk_at dksX6_advance_9 19 rfl rfl)
theorem dX6_advance_229 : decode cX6_advance 229 = .ok (.aload_n 0, 1) := dk_42 (dk_at dksX6_advance_9 22 rfl rfl)
theorem dX6_advance_230 : decode cX6_advance 230 = .ok (.getfield 3, 3) := dk_180 0 3 (dk_at dksX6_advance_10 0 rfl rfl)
theorem dX6_advance_233 : decode cX6_advance 233 = .ok (.getfield 29, 3) := dk_180 0 29 (dk_at dksX6_advance_10 3 rfl rfl)
theorem dX6_advance_236 : decode cX6_advance 236 = .ok (.if_icmp .ge 68, 3) := dk_162 0 68 (dk_at dksX6_advance_10 6 rfl rfl)
theorem dX6_advance_239 : decode cX6_advance 239 = .ok (.aload_n 0, 1) := dk_42 (dk_at dksX6_advance_10 9 rfl rfl)
theorem dX6_advance_240 : decode cX6_advance 240 = .ok (.getfield 3, 3) := dk_180 0 3 (dk_at dksX6_advance_10 10 rfl rfl)
theorem dX6_advance_243 : decode cX6_advance 243 = .ok (.getfield 32, 3) := dk_180 0 32 (dk_at dksX6_advance_10 13 rfl rfl)
theorem dX6_advance_246 : decode cX6_advance 246 = .ok (.aload_n 0, 1) := dk_42 (dk_at dksX6_advance_10 16 rfl rfl)
theorem dX6_advance_247 : decode cX6_advance 247 = .ok (.getfield 25, 3) := dk_180 0 25 (dk_at dksX6_advance_10 17 rfl rfl)
theorem dX6_advance_250 : decode cX6_advance 250 = .ok (.baload, 1) := dk_51 (dk_at dksX6_advance_10 20 rfl rfl)
theorem dX6_advance_251 : decode cX6_advance 251 = .ok (.bipush 97, 2) := dk_16 97 (dk_at dksX6_advance_10 21 rfl rfl)
theorem dX6_advance_253 : decode cX6_advance 253 = .ok (.if_icmp .lt 51, 3) := dk_161 0 51 (dk_at dksX6_advance_11 0 rfl rfl)
theorem dX6_advance_256 : decode cX6_advance 256 = .ok (.aload_n 0, 1) := dk_42 (dk_at dksX6_advance_11 3 rfl rfl)
theorem dX6_advance_257 : decode cX6_advance 257 = .ok (.getfield 3, 3) := dk_180 0 3 (dk_at dksX6_advance_11 4 rfl rfl)
theorem dX6_advance_260 : decode cX6_advance 260 = .ok (.getfield 32, 3) := dk_180 0 32 (dk_at dksX6_advance_11 7 rfl rfl)
theorem dX6_advance_263 : decode cX6_advance 263 = .ok (.aload_n 0, 1) := dk_42 (dk_at dksX6_advance_11 10 rfl rfl)
theorem dX6_advance_264 : decode cX6_advance 264 = .ok (.getfield 25, 3) := dk_180 0 25 (dk_at dksX6_advance_11 11 rfl rfl)
theorem dX6_advance_267 : decode cX6_advance 267 = .ok (.baload, 1) := dk_51 (dk_at dksX6_advance_11 14 rfl rfl)
theorem dX6_advance_268 : decode cX6_advance 268 = .ok (.bipush 122, 2) := dk_16 122 (dk_at dksX6_advance_11 15 rfl rfl)
theorem dX6_advance_270 : decode cX6_advance 270 = .ok (.if_icmp .gt 34, 3) := dk_163 0 34 (dk_at dksX6_advance_11 17 rfl rfl)
theorem dX6_advance_273 : decode cX6_advance 273 = .ok (.aload_n 2, 1) := dk_44 (dk_at dksX6_advance_11 20 rfl rfl)
theorem dX6_advance_274 : decode cX6_advance 274 = .ok (.aload_n 0, 1) := dk_42 (dk_at dksX6_advance_11 21 rfl rfl)
theorem dX6_advance_275 : decode cX6_advance 275 = .ok (.getfield 3, 3) := dk_180 0 3 (dk_at dksX6_advance_12 0 rfl rfl)
theorem dX6_advance_278 : decode cX6_advance 278 = .ok (.getfield 32, 3) := dk_180 0 32 (dk_at dksX6_advance_12 3 rfl rfl)
theorem dX6_advance_281 : decode cX6_advance 281 = .ok (.aload_n 0, 1) := dk_42 (dk_at dksX6_advance_12 6 rfl rfl)
theorem dX6_advance_282 : decode cX6_advance 282 = .ok (.getfield 25, 3) := dk_180 0 25 (dk_at dksX6_advance_12 7 rfl rfl)
theorem dX6_advance_285 : decode cX6_advance 285 = .ok (.baload, 1) := dk_51 (dk_at dksX6_advance_12 10 rfl rfl)
theorem dX6_advance_286 : decode cX6_advance 286 = .ok (.i2c, 1) := dk_146 (dk_at dksX6_advance_12 11 rfl rfl)
theorem dX6_advance_287 : decode cX6_advance 287 = .ok (.invokevirtual 55, 3) := dk_182 0 55 (dk_at dksX6_advance_12 12 rfl rfl)
theorem dX6_advance_290 : decode cX6_advance 290 = .ok (.pop, 1) := dk_87 (dk_at dksX6_advance_12 15 rfl rfl)
theorem dX6_advance_291 : decode cX6_advance 291 = .ok (.aload_n 0, 1) := dk_42 (dk_at dksX6_advance_12 16 rfl rfl)
theorem dX6_advance_292 : decode cX6_advance 292 = .ok (.dup, 1) := dk_89 (dk_at dksX6_advance_12 17 rfl rfl)
theorem dX6_advance_293 : decode cX6_advance 293 = .ok (.getfield 25, 3) := dk_180 0 25 (dk_at dksX6_advance_12 18 rfl rfl)
theorem dX6_advance_296 : decode cX6_advance 296 = .ok (.iconst 1, 1) := dk_4 (dk_at dksX6_advance_12 21 rfl rfl)
theorem dX6_advance_297 : decode cX6_advance 297 = .ok (.iadd, 1) := dk_96 (dk_at dksX6_advance_12 22 rfl rfl)
theorem dX6_advance_298 : decode cX6_advance 298 = .ok (.putfield 25, 3) := dk_181 0 25 (dk_at dksX6_advance_13 0 rfl rfl)
theorem dX6_advance_301 : decode cX6_advance 301 = .ok (.goto (-76), 3) := dk_167 255 180 (dk_at dksX6_advance_13 3 rfl rfl)
theorem dX6_advance_304 : decode cX6_advance 304 = .ok (.aload_n 0, 1) := dk_42 (dk_at dksX6_advance_13 6 rfl rfl)
theorem dX6_advance_305 : decode cX6_advance 305 = .ok (.aload_n 2, 1) := dk_44 (dk_at dksX6_advance_13 7 rfl rfl)
theorem dX6_advance_306 : decode cX6_advance 306 = .ok (.invokevirtual 59, 3) := dk_182 0 59 (dk_at dksX6_advance_13 8 rfl rfl)
theorem dX6_advance_309 : decode cX6_advance 309 = .ok (.putfield 17, 3) := dk_181 0 17 (dk_at dksX6_advance_13 11 rfl rfl)
theorem dX6_advance_312 : decode cX6_advance 312 = .ok (.goto 62, 3) := dk_167 0 62 (dk_at dksX6_advance_13 14 rfl rfl)
theorem dX6_advance_315 : decode cX6_advance 315 = .ok (.aload_n 0, 1) := dk_42 (dk_at dksX6_advance_13 17 rfl rfl)
theorem dX6_advance_316 : decode cX6_advance 316 = .ok (.iload_n 1, 1) := dk_27 (dk_at dksX6_advance_13 18 rfl rfl)
theorem dX6_advance_317 : decode cX6_advance 317 = .ok (.bipush 59, 2) := dk_16 59 (dk_at dksX6_advance_13 19 rfl rfl)
theorem dX6_advance_319 : decode cX6_advance 319 = .ok (.if_icmp .ne 7, 3) := dk_160 0 7 (dk_at dksX6_advance_13 21 rfl rfl)
theorem dX6_advance_322 : decode cX6_advance 322 = .ok (.iconst 2, 1) := dk_5 (dk_at dksX6_advance_14 0 rfl rfl)
theorem dX6_advance_323 : decode cX6_advance 323 = .ok (.goto 24, 3) := dk_167 0 24 (dk_at dksX6_advance_14 1 rfl rfl)
theorem dX6_advance_326 : decode cX6_advance 326 = .ok (.iload_n 1, 1) := dk_27 (dk_at dksX6_advance_14 4 rfl rfl)
theorem dX6_advance_327 : decode cX6_advance 327 = .ok (.bipush 40, 2) := dk_16 40 (dk_at dksX6_advance_14 5 rfl rfl)
theorem dX6_advance_329 : decode cX6_advance 329 = .ok (.if_icmp .ne 7, 3) := dk_160 0 7 (dk_at dksX6_advance_14 7 rfl rfl)
theorem dX6_advance_332 : decode cX6_advance 332 = .ok (.iconst 3, 1) := dk_6 (dk_at dksX6_advance_14 10 rfl rfl)
theorem dX6_advance_333 : decode cX6_advance 333 = .ok (.goto 14, 3) := dk_167 0 14 (dk_at dksX6_advance_14 11 rfl rfl)
theorem dX6_advance_336 : decode cX6_advance 336 = .ok (.iload_n 1, 1) := dk_27 (dk_at dksX6_advance_14 14 rfl rfl)
theorem dX6_advance_337 : decode cX6_advance 337 = .ok (.bipush 41, 2) := dk_16 41 (dk_at dksX6_advance_14 15 rfl rfl)
theorem dX6_advance_339 : decode cX6_advance 339 = .ok (.if_icmp .ne 7, 3) := dk_160 0 7 (dk_at dksX6_advance_14 17 rfl rfl)
theorem dX6_advance_342 : decode cX6_advance 342 = .ok (.iconst 4, 1) := dk_7 (dk_at dksX6_advance_14 20 rfl rfl)
theorem dX6_advance_343 : decode cX6_advance 343 = .ok (.goto 4, 3) := dk_167 0 4 (dk_at dksX6_advance_14 21 rfl rfl)
theorem dX6_advance_346 : decode cX6_advance 346 = .ok (.iconst (-1), 1) := dk_2 (dk_at dksX6_advance_15 0 rfl rfl)
theorem dX6_advance_347 : decode cX6_advance 347 = .ok (.putfield 39, 3) := dk_181 0 39 (dk_at dksX6_advance_15 1 rfl rfl)
theorem dX6_advance_350 : decode cX6_advance 350 = .ok (.aload_n 0, 1) := dk_42 (dk_at dksX6_advance_15 4 rfl rfl)
theorem dX6_advance_351 : decode cX6_advance 351 = .ok (.getfield 39, 3) := dk_180 0 39 (dk_at dksX6_advance_15 5 rfl rfl)
theorem dX6_advance_354 : decode cX6_advance 354 = .ok (.iconst (-1), 1) := dk_2 (dk_at dksX6_advance_15 8 rfl rfl)
theorem dX6_advance_355 : decode cX6_advance 355 = .ok (.if_icmp .ne 9, 3) := dk_160 0 9 (dk_at dksX6_advance_15 9 rfl rfl)
theorem dX6_advance_358 : decode cX6_advance 358 = .ok (.aload_n 0, 1) := dk_42 (dk_at dksX6_advance_15 12 rfl rfl)
theorem dX6_advance_359 : decode cX6_advance 359 = .ok (.iconst 1, 1) := dk_4 (dk_at dksX6_advance_15 13 rfl rfl)
theorem dX6_advance_360 : decode cX6_advance 360 = .ok (.invokevirtual 63, 3) := dk_182 0 63 (dk_at dksX6_advance_15 14 rfl rfl)
theorem dX6_advance_363 : decode cX6_advance 363 = .ok (.athrow, 1) := dk_191 (dk_at dksX6_advance_15 17 rfl rfl)
theorem dX6_advance_364 : decode cX6_advance 364 = .ok (.aload_n 0, 1) := dk_42 (dk_at dksX6_advance_15 18 rfl rfl)
theorem dX6_advance_365 : decode cX6_advance 365 = .ok (.dup, 1) := dk_89 (dk_at dksX6_advance_15 19 rfl rfl)
theorem dX6_advance_366 : decode cX6_advance 366 = .ok (.getfield 25, 3) := dk_180 0 25 (dk_at dksX6_advance_15 20 rfl rfl)
theorem dX6_advance_369 : decode cX6_advance 369 = .ok (.iconst 1, 1) := dk_4 (dk_at dksX6_advance_15 23 rfl rfl)
theorem dX6_advance_370 : decode cX6_advance 370 = .ok (.iadd, 1) := dk_96 (dk_at dksX6_advance_16 0 rfl rfl)
theorem dX6_advance_371 : decode cX6_advance 371 = .ok (.putfield 25, 3) := dk_181 0 25 (dk_at dksX6_advance_16 1 rfl rfl)
theorem dX6_advance_374 : decode cX6_advance 374 = .ok (.return_, 1) := dk_177 (dk_at dksX6_advance_16 4 rfl rfl)
abbrev cX6_expect : ByteArray := prog_7_method_4_code
def yX6_expect : MethodName := ⟨RX6, "expect", "(I)V"⟩
def dkwX6_expect_0 : List UInt8 := [42, 180, 0, 39, 27, 159, 0, 9, 42, 4, 182, 0, 63, 191, 177]
abbrev dktX6_expect_0 : List UInt8 := dkwX6_expect_0 ++ []
theorem dksX6_expect_0 : cX6_expect.data.toList.drop 0 = dktX6_expect_0 := by decide +kernel
theorem dX6_expect_0 : decode cX6_expect 0 = .ok (.aload_n 0, 1) := dk_42 (dk_at dksX6_expect_0 0 rfl rfl)
theorem dX6_expect_1 : decode cX6_expect 1 = .ok (.getfield 39, 3) := dk_180 0 39 (dk_at dksX6_expect_0 1 rfl rfl)
theorem dX6_expect_4 : decode cX6_expect 4 = .ok (.iload_n 1, 1) := dk_27 (dk_at dksX6_expect_0 4 rfl rfl)
theorem dX6_expect_5 : decode cX6_expect 5 = .ok (.if_icmp .eq 9, 3) := dk_159 0 9 (dk_at dksX6_expect_0 5 rfl rfl)
theorem dX6_expect_8 : decode cX6_expect 8 = .ok (.aload_n 0, 1) := dk_42 (dk_at dksX6_expect_0 8 rfl rfl)
theorem dX6_expect_9 : decode cX6_expect 9 = .ok (.iconst 1, 1) := dk_4 (dk_at dksX6_expect_0 9 rfl rfl)
theorem dX6_expect_10 : decode cX6_expect 10 = .ok (.invokevirtual 63, 3) := dk_182 0 63 (dk_at dksX6_expect_0 10 rfl rfl)
theorem dX6_expect_13 : decode cX6_expect 13 = .ok (.athrow, 1) := dk_191 (dk_at dksX6_expect_0 13 rfl rfl)
theorem dX6_expect_14 : decode cX6_expect 14 = .ok (.return_, 1) := dk_177 (dk_at dksX6_expect_0 14 rfl rfl)
abbrev cX6_group : ByteArray := prog_7_method_13_code
def yX6_group : MethodName := ⟨RX6, "group", "(I)V"⟩
def dkwX6_group_3 : List UInt8 := [42, 182, 0, 72, 177]
abbrev dktX6_group_3 : List UInt8 := dkwX6_group_3 ++ []
def dkwX6_group_2 : List UInt8 := [182, 0, 167, 42, 7, 182, 0, 75, 132, 3, 1, 167, 255, 230, 42, 89, 180, 0, 164, 4, 100, 181, 0, 164]
abbrev dktX6_group_2 : List UInt8 := dkwX6_group_2 ++ dktX6_group_3
def dkwX6_group_1 : List UInt8 := [4, 96, 181, 0, 164, 3, 62, 29, 27, 162, 0, 27, 42, 28, 181, 0, 25, 42, 182, 0, 72, 42]
abbrev dktX6_group_1 : List UInt8 := dkwX6_group_1 ++ dktX6_group_2
def dkwX6_group_0 : List UInt8 := [42, 180, 0, 164, 7, 160, 0, 9, 42, 7, 182, 0, 63, 191, 42, 180, 0, 25, 61, 42, 89, 180, 0, 164]
abbrev dktX6_group_0 : List UInt8 := dkwX6_group_0 ++ dktX6_group_1
theorem dksX6_group_0 : cX6_group.data.toList.drop 0 = dktX6_group_0 := by decide +kernel
theorem dksX6_group_1 : cX6_group.data.toList.drop 24 = dktX6_group_1 := dk_seg dksX6_group_0 24 rfl rfl
theorem dksX6_group_2 : cX6_group.data.toList.drop 46 = dktX6_group_2 := dk_seg dksX6_group_1 22 rfl rfl
theorem dksX6_group_3 : cX6_group.data.toList.drop 70 = dktX6_group_3 := dk_seg dksX6_group_2 24 rfl rfl
theorem dX6_group_0 : decode cX6_group 0 = .ok (.aload_n 0, 1) := dk_42 (dk_at dksX6_group_0 0 rfl rfl)
theorem dX6_group_1 : decode cX6_group 1 = .ok (.getfield 164, 3) := dk_180 0 164 (dk_at dksX6_group_0 1 rfl rfl)
theorem dX6_group_4 : decode cX6_group 4 = .ok (.iconst 4, 1) := dk_7 (dk_at dksX6_group_0 4 rfl rfl)
theorem dX6_group_5 : decode cX6_group 5 = .ok (.if_icmp .ne 9, 3) := dk_160 0 9 (dk_at dksX6_group_0 5 rfl rfl)
theorem dX6_group_8 : decode cX6_group 8 = .ok (.aload_n 0, 1) := dk_42 (dk_at dksX6_group_0 8 rfl rfl)
theorem dX6_group_9 : decode cX6_group 9 = .ok (.iconst 4, 1) := dk_7 (dk_at dksX6_group_0 9 rfl rfl)
theorem dX6_group_10 : decode cX6_group 10 = .ok (.invokevirtual 63, 3) := dk_182 0 63 (dk_at dksX6_group_0 10 rfl rfl)
theorem dX6_group_13 : decode cX6_group 13 = .ok (.athrow, 1) := dk_191 (dk_at dksX6_group_0 13 rfl rfl)
theorem dX6_group_14 : decode cX6_group 14 = .ok (.aload_n 0, 1) := dk_42 (dk_at dksX6_group_0 14 rfl rfl)
theorem dX6_group_15 : decode cX6_group 15 = .ok (.getfield 25, 3) := dk_180 0 25 (dk_at dksX6_group_0 15 rfl rfl)
theorem dX6_group_18 : decode cX6_group 18 = .ok (.istore_n 2, 1) := dk_61 (dk_at dksX6_group_0 18 rfl rfl)
theorem dX6_group_19 : decode cX6_group 19 = .ok (.aload_n 0, 1) := dk_42 (dk_at dksX6_group_0 19 rfl rfl)
theorem dX6_group_20 : decode cX6_group 20 = .ok (.dup, 1) := dk_89 (dk_at dksX6_group_0 20 rfl rfl)
theorem dX6_group_21 : decode cX6_group 21 = .ok (.getfield 164, 3) := dk_180 0 164 (dk_at dksX6_group_0 21 rfl rfl)
theorem dX6_group_24 : decode cX6_group 24 = .ok (.iconst 1, 1) := dk_4 (dk_at dksX6_group_1 0 rfl rfl)
theorem dX6_group_25 : decode cX6_group 25 = .ok (.iadd, 1) := dk_96 (dk_at dksX6_group_1 1 rfl rfl)
theorem dX6_group_26 : decode cX6_group 26 = .ok (.putfield 164, 3) := dk_181 0 164 (dk_at dksX6_group_1 2 rfl rfl)
theorem dX6_group_29 : decode cX6_group 29 = .ok (.iconst 0, 1) := dk_3 (dk_at dksX6_group_1 5 rfl rfl)
theorem dX6_group_30 : decode cX6_group 30 = .ok (.istore_n 3, 1) := dk_62 (dk_at dksX6_group_1 6 rfl rfl)
theorem dX6_group_31 : decode cX6_group 31 = .ok (.iload_n 3, 1) := dk_29 (dk_at dksX6_group_1 7 rfl rfl)
theorem dX6_group_32 : decode cX6_group 32 = .ok (.iload_n 1, 1) := dk_27 (dk_at dksX6_group_1 8 rfl rfl)
theorem dX6_group_33 : decode cX6_group 33 = .ok (.if_icmp .ge 27, 3) := dk_162 0 27 (dk_at dksX6_group_1 9 rfl rfl)
theorem dX6_group_36 : decode cX6_group 36 = .ok (.aload_n 0, 1) := dk_42 (dk_at dksX6_group_1 12 rfl rfl)
theorem dX6_group_37 : decode cX6_group 37 = .ok (.iload_n 2, 1) := dk_28 (dk_at dksX6_group_1 13 rfl rfl)
theorem dX6_group_38 : decode cX6_group 38 = .ok (.putfield 25, 3) := dk_181 0 25 (dk_at dksX6_group_1 14 rfl rfl)
theorem dX6_group_41 : decode cX6_group 41 = .ok (.aload_n 0, 1) := dk_42 (dk_at dksX6_group_1 17 rfl rfl)
theorem dX6_group_42 : decode cX6_group 42 = .ok (.invokevirtual 72, 3) := dk_182 0 72 (dk_at dksX6_group_1 18 rfl rfl)
theorem dX6_group_45 : decode cX6_group 45 = .ok (.aload_n 0, 1) := dk_42 (dk_at dksX6_group_1 21 rfl rfl)
theorem dX6_group_46 : decode cX6_group 46 = .ok (.invokevirtual 167, 3) := dk_182 0 167 (dk_at dksX6_group_2 0 rfl rfl)
theorem dX6_group_49 : decode cX6_group 49 = .ok (.aload_n 0, 1) := dk_42 (dk_at dksX6_group_2 3 rfl rfl)
theorem dX6_group_50 : decode cX6_group 50 = .ok (.iconst 4, 1) := dk_7 (dk_at dksX6_group_2 4 rfl rfl)
theorem dX6_group_51 : decode cX6_group 51 = .ok (.invokevirtual 75, 3) := dk_182 0 75 (dk_at dksX6_group_2 5 rfl rfl)
theorem dX6_group_54 : decode cX6_group 54 = .ok (.iinc 3 1, 3) := dk_132 3 1 (dk_at dksX6_group_2 8 rfl rfl)
theorem dX6_group_57 : decode cX6_group 57 = .ok (.goto (-26), 3) := dk_167 255 230 (dk_at dksX6_group_2 11 rfl rfl)
theorem dX6_group_60 : decode cX6_group 60 = .ok (.aload_n 0, 1) := dk_42 (dk_at dksX6_group_2 14 rfl rfl)
theorem dX6_group_61 : decode cX6_group 61 = .ok (.dup, 1) := dk_89 (dk_at dksX6_group_2 15 rfl rfl)
theorem dX6_group_62 : decode cX6_group 62 = .ok (.getfield 164, 3) := dk_180 0 164 (dk_at dksX6_group_2 16 rfl rfl)
theorem dX6_group_65 : decode cX6_group 65 = .ok (.iconst 1, 1) := dk_4 (dk_at dksX6_group_2 19 rfl rfl)
theorem dX6_group_66 : decode cX6_group 66 = .ok (.isub, 1) := dk_100 (dk_at dksX6_group_2 20 rfl rfl)
theorem dX6_group_67 : decode cX6_group 67 = .ok (.putfield 164, 3) := dk_181 0 164 (dk_at dksX6_group_2 21 rfl rfl)
theorem dX6_group_70 : decode cX6_group 70 = .ok (.aload_n 0, 1) := dk_42 (dk_at dksX6_group_3 0 rfl rfl)
theorem dX6_group_71 : decode cX6_group 71 = .ok (.invokevirtual 72, 3) := dk_182 0 72 (dk_at dksX6_group_3 1 rfl rfl)
theorem dX6_group_74 : decode cX6_group 74 = .ok (.return_, 1) := dk_177 (dk_at dksX6_group_3 4 rfl rfl)
abbrev cX6_directionOfWord : ByteArray := prog_7_method_15_code
def yX6_directionOfWord : MethodName := ⟨RX6, "directionOfWord", "()I"⟩
def dkwX6_directionOfWord_2 : List UInt8 := [42, 4, 182, 0, 63, 191]
abbrev dktX6_directionOfWord_2 : List UInt8 := dkwX6_directionOfWord_2 ++ []
def dkwX6_directionOfWord_1 : List UInt8 := [180, 0, 17, 3, 182, 0, 211, 18, 215, 27, 182, 0, 211, 160, 0, 5, 27, 172, 132, 1, 1, 167, 255, 218]
abbrev dktX6_directionOfWord_1 : List UInt8 := dkwX6_directionOfWord_1 ++ dktX6_directionOfWord_2
def dkwX6_directionOfWord_0 : List UInt8 := [42, 3, 182, 0, 75, 3, 60, 27, 7, 162, 0, 39, 42, 180, 0, 17, 182, 0, 208, 4, 160, 0, 22, 42]
abbrev dktX6_directionOfWord_0 : List UInt8 := dkwX6_directionOfWord_0 ++ dktX6_directionOfWord_1
theorem dksX6_directionOfWord_0 : cX6_directionOfWord.data.toList.drop 0 = dktX6_directionOfWord_0 := by decide +kernel
theorem dksX6_directionOfWord_1 : cX6_directionOfWord.data.toList.drop 24 = dktX6_directionOfWord_1 := dk_seg dksX6_directionOfWord_0 24 rfl rfl
theorem dksX6_directionOfWord_2 : cX6_directionOfWord.data.toList.drop 48 = dktX6_directionOfWord_2 := dk_seg dksX6_directionOfWord_1 24 rfl rfl
theorem dX6_directionOfWord_0 : decode cX6_directionOfWord 0 = .ok (.aload_n 0, 1) := dk_42 (dk_at dksX6_directionOfWord_0 0 rfl rfl)
theorem dX6_directionOfWord_1 : decode cX6_directionOfWord 1 = .ok (.iconst 0, 1) := dk_3 (dk_at dksX6_directionOfWord_0 1 rfl rfl)
theorem dX6_directionOfWord_2 : decode cX6_directionOfWord 2 = .ok (.invokevirtual 75, 3) := dk_182 0 75 (dk_at dksX6_directionOfWord_0 2 rfl rfl)
theorem dX6_directionOfWord_5 : decode cX6_directionOfWord 5 = .ok (.iconst 0, 1) := dk_3 (dk_at dksX6_directionOfWord_0 5 rfl rfl)
theorem dX6_directionOfWord_6 : decode cX6_directionOfWord 6 = .ok (.istore_n 1, 1) := dk_60 (dk_at dksX6_directionOfWord_0 6 rfl rfl)
theorem dX6_directionOfWord_7 : decode cX6_directionOfWord 7 = .ok (.iload_n 1, 1) := dk_27 (dk_at dksX6_directionOfWord_0 7 rfl rfl)
theorem dX6_directionOfWord_8 : decode cX6_directionOfWord 8 = .ok (.iconst 4, 1) := dk_7 (dk_at dksX6_directionOfWord_0 8 rfl rfl)
theorem dX6_directionOfWord_9 : decode cX6_directionOfWord 9 = .ok (.if_icmp .ge 39, 3) := dk_162 0 39 (dk_at dksX6_directionOfWord_0 9 rfl rfl)
theorem dX6_directionOfWord_12 : decode cX6_directionOfWord 12 = .ok (.aload_n 0, 1) := dk_42 (dk_at dksX6_directionOfWord_0 12 rfl rfl)
theorem dX6_directionOfWord_13 : decode cX6_directionOfWord 13 = .ok (.getfield 17, 3) := dk_180 0 17 (dk_at dksX6_directionOfWord_0 13 rfl rfl)
theorem dX6_directionOfWord_16 : decode cX6_directionOfWord 16 = .ok (.invokevirtual 208, 3) := dk_182 0 208 (dk_at dksX6_directionOfWord_0 16 rfl rfl)
theorem dX6_directionOfWord_19 : decode cX6_directionOfWord 19 = .ok (.iconst 1, 1) := dk_4 (dk_at dksX6_directionOfWord_0 19 rfl rfl)
theorem dX6_directionOfWord_20 : decode cX6_directionOfWord 20 = .ok (.if_icmp .ne 22, 3) := dk_160 0 22 (dk_at dksX6_directionOfWord_0 20 rfl rfl)
theorem dX6_directionOfWord_23 : decode cX6_directionOfWord 23 = .ok (.aload_n 0, 1) := dk_42 (dk_at dksX6_directionOfWord_0 23 rfl rfl)
theorem dX6_directionOfWord_24 : decode cX6_directionOfWord 24 = .ok (.getfield 17, 3) := dk_180 0 17 (dk_at dksX6_directionOfWord_1 0 rfl rfl)
theorem dX6_directionOfWord_27 : decode cX6_directionOfWord 27 = .ok (.iconst 0, 1) := dk_3 (dk_at dksX6_directionOfWord_1 3 rfl rfl)
theorem dX6_directionOfWord_28 : decode cX6_directionOfWord 28 = .ok (.invokevirtual 211, 3) := dk_182 0 211 (dk_at dksX6_directionOfWord_1 4 rfl rfl)
theorem dX6_directionOfWord_31 : decode cX6_directionOfWord 31 = .ok (.ldc 215, 2) := dk_18 215 (dk_at dksX6_directionOfWord_1 7 rfl rfl)
theorem dX6_directionOfWord_33 : decode cX6_directionOfWord 33 = .ok (.iload_n 1, 1) := dk_27 (dk_at dksX6_directionOfWord_1 9 rfl rfl)
theorem dX6_directionOfWord_34 : decode cX6_directionOfWord 34 = .ok (.invokevirtual 211, 3) := dk_182 0 211 (dk_at dksX6_directionOfWord_1 10 rfl rfl)
theorem dX6_directionOfWord_37 : decode cX6_directionOfWord 37 = .ok (.if_icmp .ne 5, 3) := dk_160 0 5 (dk_at dksX6_directionOfWord_1 13 rfl rfl)
theorem dX6_directionOfWord_40 : decode cX6_directionOfWord 40 = .ok (.iload_n 1, 1) := dk_27 (dk_at dksX6_directionOfWord_1 16 rfl rfl)
theorem dX6_directionOfWord_41 : decode cX6_directionOfWord 41 = .ok (.ireturn, 1) := dk_172 (dk_at dksX6_directionOfWord_1 17 rfl rfl)
theorem dX6_directionOfWord_42 : decode cX6_directionOfWord 42 = .ok (.iinc 1 1, 3) := dk_132 1 1 (dk_at dksX6_directionOfWord_1 18 rfl rfl)
theorem dX6_directionOfWord_45 : decode cX6_directionOfWord 45 = .ok (.goto (-38), 3) := dk_167 255 218 (dk_at dksX6_directionOfWord_1 21 rfl rfl)
theorem dX6_directionOfWord_48 : decode cX6_directionOfWord 48 = .ok (.aload_n 0, 1) := dk_42 (dk_at dksX6_directionOfWord_2 0 rfl rfl)
theorem dX6_directionOfWord_49 : decode cX6_directionOfWord 49 = .ok (.iconst 1, 1) := dk_4 (dk_at dksX6_directionOfWord_2 1 rfl rfl)
theorem dX6_directionOfWord_50 : decode cX6_directionOfWord 50 = .ok (.invokevirtual 63, 3) := dk_182 0 63 (dk_at dksX6_directionOfWord_2 2 rfl rfl)
theorem dX6_directionOfWord_53 : decode cX6_directionOfWord 53 = .ok (.athrow, 1) := dk_191 (dk_at dksX6_directionOfWord_2 5 rfl rfl)
abbrev cX6_leg : ByteArray := prog_7_method_14_code
def yX6_leg : MethodName := ⟨RX6, "leg", "(I)V"⟩
def dkwX6_leg_5 : List UInt8 := [180, 0, 21, 21, 6, 4, 182, 0, 204, 42, 182, 0, 72, 177]
abbrev dktX6_leg_5 : List UInt8 := dkwX6_leg_5 ++ []
def dkwX6_leg_4 : List UInt8 := [182, 0, 72, 42, 180, 0, 39, 154, 0, 29, 42, 180, 0, 17, 18, 203, 182, 0, 84, 153, 0, 17, 42]
abbrev dktX6_leg_4 : List UInt8 := dkwX6_leg_4 ++ dktX6_leg_5
def dkwX6_leg_3 : List UInt8 := [180, 0, 21, 180, 0, 179, 42, 180, 0, 161, 45, 28, 182, 0, 199, 83, 42, 21, 6, 181, 0, 161, 42]
abbrev dktX6_leg_3 : List UInt8 := dkwX6_leg_3 ++ dktX6_leg_4
def dkwX6_leg_2 : List UInt8 := [187, 0, 152, 89, 21, 4, 21, 5, 45, 180, 0, 196, 7, 3, 183, 0, 154, 182, 0, 157, 54, 6, 42]
abbrev dktX6_leg_2 : List UInt8 := dkwX6_leg_2 ++ dktX6_leg_3
def dkwX6_leg_1 : List UInt8 := [184, 0, 186, 104, 96, 54, 4, 45, 180, 0, 190, 27, 28, 184, 0, 193, 104, 96, 54, 5, 42, 180, 0, 21]
abbrev dktX6_leg_1 : List UInt8 := dkwX6_leg_1 ++ dktX6_leg_2
def dkwX6_leg_0 : List UInt8 := [42, 182, 0, 176, 61, 42, 180, 0, 21, 180, 0, 179, 42, 180, 0, 161, 50, 78, 45, 180, 0, 183, 27, 28]
abbrev dktX6_leg_0 : List UInt8 := dkwX6_leg_0 ++ dktX6_leg_1
theorem dksX6_leg_0 : cX6_leg.data.toList.drop 0 = dktX6_leg_0 := by decide +kernel
theorem dksX6_leg_1 : cX6_leg.data.toList.drop 24 = dktX6_leg_1 := dk_seg dksX6_leg_0 24 rfl rfl
theorem dksX6_leg_2 : cX6_leg.data.toList.drop 48 = dktX6_leg_2 := dk_seg dksX6_leg_1 24 rfl rfl
theorem dksX6_leg_3 : cX6_leg.data.toList.drop 71 = dktX6_leg_3 := dk_seg dksX6_leg_2 23 rfl rfl
theorem dksX6_leg_4 : cX6_leg.data.toList.drop 94 = dktX6_leg_4 := dk_seg dksX6_leg_3 23 rfl rfl
theorem dksX6_leg_5 : cX6_leg.data.toList.drop 117 = dktX6_leg_5 := dk_seg dksX6_leg_4 23 rfl rfl
theorem dX6_leg_0 : decode cX6_leg 0 = .ok (.aload_n 0, 1) := dk_42 (dk_at dksX6_leg_0 0 rfl rfl)
theorem dX6_leg_1 : decode cX6_leg 1 = .ok (.invokevirtual 176, 3) := dk_182 0 176 (dk_at dksX6_leg_0 1 rfl rfl)
theorem dX6_leg_4 : decode cX6_leg 4 = .ok (.istore_n 2, 1) := dk_61 (dk_at dksX6_leg_0 4 rfl rfl)
theorem dX6_leg_5 : decode cX6_leg 5 = .ok (.aload_n 0, 1) := dk_42 (dk_at dksX6_leg_0 5 rfl rfl)
theorem dX6_leg_6 : decode cX6_leg 6 = .ok (.getfield 21, 3) := dk_180 0 21 (dk_at dksX6_leg_0 6 rfl rfl)
theorem dX6_leg_9 : decode cX6_leg 9 = .ok (.getfield 179, 3) := dk_180 0 179 (dk_at dksX6_leg_0 9 rfl rfl)
theorem dX6_leg_12 : decode cX6_leg 12 = .ok (.aload_n 0, 1) := dk_42 (dk_at dksX6_leg_0 12 rfl rfl)
theorem dX6_leg_13 : decode cX6_leg 13 = .ok (.getfield 161, 3) := dk_180 0 161 (dk_at dksX6_leg_0 13 rfl rfl)
theorem dX6_leg_16 : decode cX6_leg 16 = .ok (.aaload, 1) := dk_50 (dk_at dksX6_leg_0 16 rfl rfl)
theorem dX6_leg_17 : decode cX6_leg 17 = .ok (.astore_n 3, 1) := dk_78 (dk_at dksX6_leg_0 17 rfl rfl)
theorem dX6_leg_18 : decode cX6_leg 18 = .ok (.aload_n 3, 1) := dk_45 (dk_at dksX6_leg_0 18 rfl rfl)
theorem dX6_leg_19 : decode cX6_leg 19 = .ok (.getfield 183, 3) := dk_180 0 183 (dk_at dksX6_leg_0 19 rfl rfl)
theorem dX6_leg_22 : decode cX6_leg 22 = .ok (.iload_n 1, 1) := dk_27 (dk_at dksX6_leg_0 22 rfl rfl)
theorem dX6_leg_23 : decode cX6_leg 23 = .ok (.iload_n 2, 1) := dk_28 (dk_at dksX6_leg_0 23 rfl rfl)
theorem dX6_leg_24 : decode cX6_leg 24 = .ok (.invokestatic 186, 3) := dk_184 0 186 (dk_at dksX6_leg_1 0 rfl rfl)
theorem dX6_leg_27 : decode cX6_leg 27 = .ok (.imul, 1) := dk_104 (dk_at dksX6_leg_1 3 rfl rfl)
theorem dX6_leg_28 : decode cX6_leg 28 = .ok (.iadd, 1) := dk_96 (dk_at dksX6_leg_1 4 rfl rfl)
theorem dX6_leg_29 : decode cX6_leg 29 = .ok (.istore 4, 2) := dk_54 4 (dk_at dksX6_leg_1 5 rfl rfl)
theorem dX6_leg_31 : decode cX6_leg 31 = .ok (.aload_n 3, 1) := dk_45 (dk_at dksX6_leg_1 7 rfl rfl)
theorem dX6_leg_32 : decode cX6_leg 32 = .ok (.getfield 190, 3) := dk_180 0 190 (dk_at dksX6_leg_1 8 rfl rfl)
theorem dX6_leg_35 : decode cX6_leg 35 = .ok (.iload_n 1, 1) := dk_27 (dk_at dksX6_leg_1 11 rfl rfl)
theorem dX6_leg_36 : decode cX6_leg 36 = .ok (.iload_n 2, 1) := dk_28 (dk_at dksX6_leg_1 12 rfl rfl)
theorem dX6_leg_37 : decode cX6_leg 37 = .ok (.invokestatic 193, 3) := dk_184 0 193 (dk_at dksX6_leg_1 13 rfl rfl)
theorem dX6_leg_40 : decode cX6_leg 40 = .ok (.imul, 1) := dk_104 (dk_at dksX6_leg_1 16 rfl rfl)
theorem dX6_leg_41 : decode cX6_leg 41 = .ok (.iadd, 1) := dk_96 (dk_at dksX6_leg_1 17 rfl rfl)
theorem dX6_leg_42 : decode cX6_leg 42 = .ok (.istore 5, 2) := dk_54 5 (dk_at dksX6_leg_1 18 rfl rfl)
theorem dX6_leg_44 : decode cX6_leg 44 = .ok (.aload_n 0, 1) := dk_42 (dk_at dksX6_leg_1 20 rfl rfl)
theorem dX6_leg_45 : decode cX6_leg 45 = .ok (.getfield 21, 3) := dk_180 0 21 (dk_at dksX6_leg_1 21 rfl rfl)
theorem dX6_leg_48 : decode cX6_leg 48 = .ok (.new 152, 3) := dk_187 0 152 (dk_at dksX6_leg_2 0 rfl rfl)
theorem dX6_leg_51 : decode cX6_leg 51 = .ok (.dup, 1) := dk_89 (dk_at dksX6_leg_2 3 rfl rfl)
theorem dX6_leg_52 : decode cX6_leg 52 = .ok (.iload 4, 2) := dk_21 4 (dk_at dksX6_leg_2 4 rfl rfl)
theorem dX6_leg_54 : decode cX6_leg 54 = .ok (.iload 5, 2) := dk_21 5 (dk_at dksX6_leg_2 6 rfl rfl)
theorem dX6_leg_56 : decode cX6_leg 56 = .ok (.aload_n 3, 1) := dk_45 (dk_at dksX6_leg_2 8 rfl rfl)
theorem dX6_leg_57 : decode cX6_leg 57 = .ok (.getfield 196, 3) := dk_180 0 196 (dk_at dksX6_leg_2 9 rfl rfl)
theorem dX6_leg_60 : decode cX6_leg 60 = .ok (.iconst 4, 1) := dk_7 (dk_at dksX6_leg_2 12 rfl rfl)
theorem dX6_leg_61 : decode cX6_leg 61 = .ok (.iconst 0, 1) := dk_3 (dk_at dksX6_leg_2 13 rfl rfl)
theorem dX6_leg_62 : decode cX6_leg 62 = .ok (.invokespecial 154, 3) := dk_183 0 154 (dk_at dksX6_leg_2 14 rfl rfl)
theorem dX6_leg_65 : decode cX6_leg 65 = .ok (.invokevirtual 157, 3) := dk_182 0 157 (dk_at dksX6_leg_2 17 rfl rfl)
theorem dX6_leg_68 : decode cX6_leg 68 = .ok (.istore 6, 2) := dk_54 6 (dk_at dksX6_leg_2 20 rfl rfl)
theorem dX6_leg_70 : decode cX6_leg 70 = .ok (.aload_n 0, 1) := dk_42 (dk_at dksX6_leg_2 22 rfl rfl)
theorem dX6_leg_71 : decode cX6_leg 71 = .ok (.getfield 21, 3) := dk_180 0 21 (dk_at dksX6_leg_3 0 rfl rfl)
theorem dX6_leg_74 : decode cX6_leg 74 = .ok (.getfield 179, 3) := dk_180 0 179 (dk_at dksX6_leg_3 3 rfl rfl)
theorem dX6_leg_77 : decode cX6_leg 77 = .ok (.aload_n 0, 1) := dk_42 (dk_at dksX6_leg_3 6 rfl rfl)
theorem dX6_leg_78 : decode cX6_leg 78 = .ok (.getfield 161, 3) := dk_180 0 161 (dk_at dksX6_leg_3 7 rfl rfl)
theorem dX6_leg_81 : decode cX6_leg 81 = .ok (.aload_n 3, 1) := dk_45 (dk_at dksX6_leg_3 10 rfl rfl)
theorem dX6_leg_82 : decode cX6_leg 82 = .ok (.iload_n 2, 1) := dk_28 (dk_at dksX6_leg_3 11 rfl rfl)
theorem dX6_leg_83 : decode cX6_leg 83 = .ok (.invokevirtual 199, 3) := dk_182 0 199 (dk_at dksX6_leg_3 12 rfl rfl)
theorem dX6_leg_86 : decode cX6_leg 86 = .ok (.aastore, 1) := dk_83 (dk_at dksX6_leg_3 15 rfl rfl)
theorem dX6_leg_87 : decode cX6_leg 87 = .ok (.aload_n 0, 1) := dk_42 (dk_at dksX6_leg_3 16 rfl rfl)
theorem dX6_leg_88 : decode cX6_leg 88 = .ok (.iload 6, 2) := dk_21 6 (dk_at dksX6_leg_3 17 rfl rfl)
theorem dX6_leg_90 : decode cX6_leg 90 = .ok (.putfield 161, 3) := dk_181 0 161 (dk_at dksX6_leg_3 19 rfl rfl)
theorem dX6_leg_93 : decode cX6_leg 93 = .ok (.aload_n 0, 1) := dk_42 (dk_at dksX6_leg_3 22 rfl rfl)
theorem dX6_leg_94 : decode cX6_leg 94 = .ok (.invokevirtual 72, 3) := dk_182 0 72 (dk_at dksX6_leg_4 0 rfl rfl)
theorem dX6_leg_97 : decode cX6_leg 97 = .ok (.aload_n 0, 1) := dk_42 (dk_at dksX6_leg_4 3 rfl rfl)
theorem dX6_leg_98 : decode cX6_leg 98 = .ok (.getfield 39, 3) := dk_180 0 39 (dk_at dksX6_leg_4 4 rfl rfl)
theorem dX6_leg_101 : decode cX6_leg 101 = .ok (.ifCond .ne 29, 3) := dk_154 0 29 (dk_at dksX6_leg_4 7 rfl rfl)
theorem dX6_leg_104 : decode cX6_leg 104 = .ok (.aload_n 0, 1) := dk_42 (dk_at dksX6_leg_4 10 rfl rfl)
theorem dX6_leg_105 : decode cX6_leg 105 = .ok (.getfield 17, 3) := dk_180 0 17 (dk_at dksX6_leg_4 11 rfl rfl)
theorem dX6_leg_108 : decode cX6_leg 108 = .ok (.ldc 203, 2) := dk_18 203 (dk_at dksX6_leg_4 14 rfl rfl)
theorem dX6_leg_110 : decode cX6_leg 110 = .ok (.invokevirtual 84, 3) := dk_182 0 84 (dk_at dksX6_leg_4 16 rfl rfl)
theorem dX6_leg_113 : decode cX6_leg 113 = .ok (.ifCond .eq 17, 3) := dk_153 0 17 (dk_at dksX6_leg_4 19 rfl rfl)
theorem dX6_leg_116 : decode cX6_leg 116 = .ok (.aload_n 0, 1) := dk_42 (dk_at dksX6_leg_4 22 rfl rfl)
theorem dX6_leg_117 : decode cX6_leg 117 = .ok (.getfield 21, 3) := dk_180 0 21 (dk_at dksX6_leg_5 0 rfl rfl)
theorem dX6_leg_120 : decode cX6_leg 120 = .ok (.iload 6, 2) := dk_21 6 (dk_at dksX6_leg_5 3 rfl rfl)
theorem dX6_leg_122 : decode cX6_leg 122 = .ok (.iconst 1, 1) := dk_4 (dk_at dksX6_leg_5 5 rfl rfl)
theorem dX6_leg_123 : decode cX6_leg 123 = .ok (.invokevirtual 204, 3) := dk_182 0 204 (dk_at dksX6_leg_5 6 rfl rfl)
theorem dX6_leg_126 : decode cX6_leg 126 = .ok (.aload_n 0, 1) := dk_42 (dk_at dksX6_leg_5 9 rfl rfl)
theorem dX6_leg_127 : decode cX6_leg 127 = .ok (.invokevirtual 72, 3) := dk_182 0 72 (dk_at dksX6_leg_5 10 rfl rfl)
theorem dX6_leg_130 : decode cX6_leg 130 = .ok (.return_, 1) := dk_177 (dk_at dksX6_leg_5 13 rfl rfl)
abbrev cX6_needRange : ByteArray := prog_7_method_5_code
def yX6_needRange : MethodName := ⟨RX6, "needRange", "(II)V"⟩
def dkwX6_needRange_0 : List UInt8 := [42, 180, 0, 42, 27, 161, 0, 11, 42, 180, 0, 42, 28, 164, 0, 9, 42, 5, 182, 0, 63, 191, 177]
abbrev dktX6_needRange_0 : List UInt8 := dkwX6_needRange_0 ++ []
theorem dksX6_needRange_0 : cX6_needRange.data.toList.drop 0 = dktX6_needRange_0 := by decide +kernel
theorem dX6_needRange_0 : decode cX6_needRange 0 = .ok (.aload_n 0, 1) := dk_42 (dk_at dksX6_needRange_0 0 rfl rfl)
theorem dX6_needRange_1 : decode cX6_needRange 1 = .ok (.getfield 42, 3) := dk_180 0 42 (dk_at dksX6_needRange_0 1 rfl rfl)
theorem dX6_needRange_4 : decode cX6_needRange 4 = .ok (.iload_n 1, 1) := dk_27 (dk_at dksX6_needRange_0 4 rfl rfl)
theorem dX6_needRange_5 : decode cX6_needRange 5 = .ok (.if_icmp .lt 11, 3) := dk_161 0 11 (dk_at dksX6_needRange_0 5 rfl rfl)
theorem dX6_needRange_8 : decode cX6_needRange 8 = .ok (.aload_n 0, 1) := dk_42 (dk_at dksX6_needRange_0 8 rfl rfl)
theorem dX6_needRange_9 : decode cX6_needRange 9 = .ok (.getfield 42, 3) := dk_180 0 42 (dk_at dksX6_needRange_0 9 rfl rfl)
theorem dX6_needRange_12 : decode cX6_needRange 12 = .ok (.iload_n 2, 1) := dk_28 (dk_at dksX6_needRange_0 12 rfl rfl)
theorem dX6_needRange_13 : decode cX6_needRange 13 = .ok (.if_icmp .le 9, 3) := dk_164 0 9 (dk_at dksX6_needRange_0 13 rfl rfl)
theorem dX6_needRange_16 : decode cX6_needRange 16 = .ok (.aload_n 0, 1) := dk_42 (dk_at dksX6_needRange_0 16 rfl rfl)
theorem dX6_needRange_17 : decode cX6_needRange 17 = .ok (.iconst 2, 1) := dk_5 (dk_at dksX6_needRange_0 17 rfl rfl)
theorem dX6_needRange_18 : decode cX6_needRange 18 = .ok (.invokevirtual 63, 3) := dk_182 0 63 (dk_at dksX6_needRange_0 18 rfl rfl)
theorem dX6_needRange_21 : decode cX6_needRange 21 = .ok (.athrow, 1) := dk_191 (dk_at dksX6_needRange_0 21 rfl rfl)
theorem dX6_needRange_22 : decode cX6_needRange 22 = .ok (.return_, 1) := dk_177 (dk_at dksX6_needRange_0 22 rfl rfl)
abbrev cX6_items : ByteArray := prog_7_method_12_code
def yX6_items : MethodName := ⟨RX6, "items", "()V"⟩
def dkwX6_items_2 : List UInt8 := [182, 0, 173, 167, 255, 211, 177]
abbrev dktX6_items_2 : List UInt8 := dkwX6_items_2 ++ []
def dkwX6_items_1 : List UInt8 := [60, 42, 182, 0, 72, 42, 180, 0, 39, 6, 160, 0, 11, 42, 27, 182, 0, 170, 167, 0, 8, 42, 27]
abbrev dktX6_items_1 : List UInt8 := dkwX6_items_1 ++ dktX6_items_2
def dkwX6_items_0 : List UInt8 := [42, 4, 182, 0, 75, 42, 180, 0, 39, 4, 160, 0, 43, 42, 4, 16, 19, 182, 0, 79, 42, 180, 0, 42]
abbrev dktX6_items_0 : List UInt8 := dkwX6_items_0 ++ dktX6_items_1
theorem dksX6_items_0 : cX6_items.data.toList.drop 0 = dktX6_items_0 := by decide +kernel
theorem dksX6_items_1 : cX6_items.data.toList.drop 24 = dktX6_items_1 := dk_seg dksX6_items_0 24 rfl rfl
theorem dksX6_items_2 : cX6_items.data.toList.drop 47 = dktX6_items_2 := dk_seg dksX6_items_1 23 rfl rfl
theorem dX6_items_0 : decode cX6_items 0 = .ok (.aload_n 0, 1) := dk_42 (dk_at dksX6_items_0 0 rfl rfl)
theorem dX6_items_1 : decode cX6_items 1 = .ok (.iconst 1, 1) := dk_4 (dk_at dksX6_items_0 1 rfl rfl)
theorem dX6_items_2 : decode cX6_items 2 = .ok (.invokevirtual 75, 3) := dk_182 0 75 (dk_at dksX6_items_0 2 rfl rfl)
theorem dX6_items_5 : decode cX6_items 5 = .ok (.aload_n 0, 1) := dk_42 (dk_at dksX6_items_0 5 rfl rfl)
theorem dX6_items_6 : decode cX6_items 6 = .ok (.getfield 39, 3) := dk_180 0 39 (dk_at dksX6_items_0 6 rfl rfl)
theorem dX6_items_9 : decode cX6_items 9 = .ok (.iconst 1, 1) := dk_4 (dk_at dksX6_items_0 9 rfl rfl)
theorem dX6_items_10 : decode cX6_items 10 = .ok (.if_icmp .ne 43, 3) := dk_160 0 43 (dk_at dksX6_items_0 10 rfl rfl)
theorem dX6_items_13 : decode cX6_items 13 = .ok (.aload_n 0, 1) := dk_42 (dk_at dksX6_items_0 13 rfl rfl)
theorem dX6_items_14 : decode cX6_items 14 = .ok (.iconst 1, 1) := dk_4 (dk_at dksX6_items_0 14 rfl rfl)
theorem dX6_items_15 : decode cX6_items 15 = .ok (.bipush 19, 2) := dk_16 19 (dk_at dksX6_items_0 15 rfl rfl)
theorem dX6_items_17 : decode cX6_items 17 = .ok (.invokevirtual 79, 3) := dk_182 0 79 (dk_at dksX6_items_0 17 rfl rfl)
theorem dX6_items_20 : decode cX6_items 20 = .ok (.aload_n 0, 1) := dk_42 (dk_at dksX6_items_0 20 rfl rfl)
theorem dX6_items_21 : decode cX6_items 21 = .ok (.getfield 42, 3) := dk_180 0 42 (dk_at dksX6_items_0 21 rfl rfl)
theorem dX6_items_24 : decode cX6_items 24 = .ok (.istore_n 1, 1) := dk_60 (dk_at dksX6_items_1 0 rfl rfl)
theorem dX6_items_25 : decode cX6_items 25 = .ok (.aload_n 0, 1) := dk_42 (dk_at dksX6_items_1 1 rfl rfl)
theorem dX6_items_26 : decode cX6_items 26 = .ok (.invokevirtual 72, 3) := dk_182 0 72 (dk_at dksX6_items_1 2 rfl rfl)
theorem dX6_items_29 : decode cX6_items 29 = .ok (.aload_n 0, 1) := dk_42 (dk_at dksX6_items_1 5 rfl rfl)
theorem dX6_items_30 : decode cX6_items 30 = .ok (.getfield 39, 3) := dk_180 0 39 (dk_at dksX6_items_1 6 rfl rfl)
theorem dX6_items_33 : decode cX6_items 33 = .ok (.iconst 3, 1) := dk_6 (dk_at dksX6_items_1 9 rfl rfl)
theorem dX6_items_34 : decode cX6_items 34 = .ok (.if_icmp .ne 11, 3) := dk_160 0 11 (dk_at dksX6_items_1 10 rfl rfl)
theorem dX6_items_37 : decode cX6_items 37 = .ok (.aload_n 0, 1) := dk_42 (dk_at dksX6_items_1 13 rfl rfl)
theorem dX6_items_38 : decode cX6_items 38 = .ok (.iload_n 1, 1) := dk_27 (dk_at dksX6_items_1 14 rfl rfl)
theorem dX6_items_39 : decode cX6_items 39 = .ok (.invokevirtual 170, 3) := dk_182 0 170 (dk_at dksX6_items_1 15 rfl rfl)
theorem dX6_items_42 : decode cX6_items 42 = .ok (.goto 8, 3) := dk_167 0 8 (dk_at dksX6_items_1 18 rfl rfl)
theorem dX6_items_45 : decode cX6_items 45 = .ok (.aload_n 0, 1) := dk_42 (dk_at dksX6_items_1 21 rfl rfl)
theorem dX6_items_46 : decode cX6_items 46 = .ok (.iload_n 1, 1) := dk_27 (dk_at dksX6_items_1 22 rfl rfl)
theorem dX6_items_47 : decode cX6_items 47 = .ok (.invokevirtual 173, 3) := dk_182 0 173 (dk_at dksX6_items_2 0 rfl rfl)
theorem dX6_items_50 : decode cX6_items 50 = .ok (.goto (-45), 3) := dk_167 255 211 (dk_at dksX6_items_2 3 rfl rfl)
theorem dX6_items_53 : decode cX6_items 53 = .ok (.return_, 1) := dk_177 (dk_at dksX6_items_2 6 rfl rfl)
abbrev cX6_init : ByteArray := prog_7_method_1_code
def yX6_init : MethodName := ⟨RX6, "<init>", "(LTrailMarkers;LTrailMarkers$Trails;)V"⟩
def dkwX6_init_0 : List UInt8 := [42, 43, 181, 0, 3, 42, 183, 0, 9, 42, 18, 15, 181, 0, 17, 42, 44, 181, 0, 21, 177]
abbrev dktX6_init_0 : List UInt8 := dkwX6_init_0 ++ []
theorem dksX6_init_0 : cX6_init.data.toList.drop 0 = dktX6_init_0 := by decide +kernel
theorem dX6_init_0 : decode cX6_init 0 = .ok (.aload_n 0, 1) := dk_42 (dk_at dksX6_init_0 0 rfl rfl)
theorem dX6_init_1 : decode cX6_init 1 = .ok (.aload_n 1, 1) := dk_43 (dk_at dksX6_init_0 1 rfl rfl)
theorem dX6_init_2 : decode cX6_init 2 = .ok (.putfield 3, 3) := dk_181 0 3 (dk_at dksX6_init_0 2 rfl rfl)
theorem dX6_init_5 : decode cX6_init 5 = .ok (.aload_n 0, 1) := dk_42 (dk_at dksX6_init_0 5 rfl rfl)
theorem dX6_init_6 : decode cX6_init 6 = .ok (.invokespecial 9, 3) := dk_183 0 9 (dk_at dksX6_init_0 6 rfl rfl)
theorem dX6_init_9 : decode cX6_init 9 = .ok (.aload_n 0, 1) := dk_42 (dk_at dksX6_init_0 9 rfl rfl)
theorem dX6_init_10 : decode cX6_init 10 = .ok (.ldc 15, 2) := dk_18 15 (dk_at dksX6_init_0 10 rfl rfl)
theorem dX6_init_12 : decode cX6_init 12 = .ok (.putfield 17, 3) := dk_181 0 17 (dk_at dksX6_init_0 12 rfl rfl)
theorem dX6_init_15 : decode cX6_init 15 = .ok (.aload_n 0, 1) := dk_42 (dk_at dksX6_init_0 15 rfl rfl)
theorem dX6_init_16 : decode cX6_init 16 = .ok (.aload_n 2, 1) := dk_44 (dk_at dksX6_init_0 16 rfl rfl)
theorem dX6_init_17 : decode cX6_init 17 = .ok (.putfield 21, 3) := dk_181 0 21 (dk_at dksX6_init_0 17 rfl rfl)
theorem dX6_init_20 : decode cX6_init 20 = .ok (.return_, 1) := dk_177 (dk_at dksX6_init_0 20 rfl rfl)
abbrev cX6_number : ByteArray := prog_7_method_6_code
def yX6_number : MethodName := ⟨RX6, "number", "(II)I"⟩
def dkwX6_number_0 : List UInt8 := [42, 182, 0, 72, 42, 4, 182, 0, 75, 42, 27, 28, 182, 0, 79, 42, 180, 0, 42, 172]
abbrev dktX6_number_0 : List UInt8 := dkwX6_number_0 ++ []
theorem dksX6_number_0 : cX6_number.data.toList.drop 0 = dktX6_number_0 := by decide +kernel
theorem dX6_number_0 : decode cX6_number 0 = .ok (.aload_n 0, 1) := dk_42 (dk_at dksX6_number_0 0 rfl rfl)
theorem dX6_number_1 : decode cX6_number 1 = .ok (.invokevirtual 72, 3) := dk_182 0 72 (dk_at dksX6_number_0 1 rfl rfl)
theorem dX6_number_4 : decode cX6_number 4 = .ok (.aload_n 0, 1) := dk_42 (dk_at dksX6_number_0 4 rfl rfl)
theorem dX6_number_5 : decode cX6_number 5 = .ok (.iconst 1, 1) := dk_4 (dk_at dksX6_number_0 5 rfl rfl)
theorem dX6_number_6 : decode cX6_number 6 = .ok (.invokevirtual 75, 3) := dk_182 0 75 (dk_at dksX6_number_0 6 rfl rfl)
theorem dX6_number_9 : decode cX6_number 9 = .ok (.aload_n 0, 1) := dk_42 (dk_at dksX6_number_0 9 rfl rfl)
theorem dX6_number_10 : decode cX6_number 10 = .ok (.iload_n 1, 1) := dk_27 (dk_at dksX6_number_0 10 rfl rfl)
theorem dX6_number_11 : decode cX6_number 11 = .ok (.iload_n 2, 1) := dk_28 (dk_at dksX6_number_0 11 rfl rfl)
theorem dX6_number_12 : decode cX6_number 12 = .ok (.invokevirtual 79, 3) := dk_182 0 79 (dk_at dksX6_number_0 12 rfl rfl)
theorem dX6_number_15 : decode cX6_number 15 = .ok (.aload_n 0, 1) := dk_42 (dk_at dksX6_number_0 15 rfl rfl)
theorem dX6_number_16 : decode cX6_number 16 = .ok (.getfield 42, 3) := dk_180 0 42 (dk_at dksX6_number_0 16 rfl rfl)
theorem dX6_number_19 : decode cX6_number 19 = .ok (.ireturn, 1) := dk_172 (dk_at dksX6_number_0 19 rfl rfl)
abbrev cX6_head : ByteArray := prog_7_method_7_code
def yX6_head : MethodName := ⟨RX6, "head", "()LTrailMarkers$Trails;"⟩
def dkwX6_head_3 : List UInt8 := [42, 182, 0, 72, 42, 5, 182, 0, 75, 42, 182, 0, 72, 42, 180, 0, 21, 176]
abbrev dktX6_head_3 : List UInt8 := dkwX6_head_3 ++ []
def dkwX6_head_2 : List UInt8 := [182, 0, 90, 62, 42, 187, 0, 93, 89, 27, 28, 29, 42, 3, 5, 182, 0, 90, 183, 0, 95, 181, 0, 21]
abbrev dktX6_head_2 : List UInt8 := dkwX6_head_2 ++ dktX6_head_3
def dkwX6_head_1 : List UInt8 := [182, 0, 63, 191, 42, 7, 16, 20, 182, 0, 90, 60, 42, 7, 16, 20, 182, 0, 90, 61, 42, 4, 16, 12]
abbrev dktX6_head_1 : List UInt8 := dkwX6_head_1 ++ dktX6_head_2
def dkwX6_head_0 : List UInt8 := [42, 182, 0, 72, 42, 3, 182, 0, 75, 42, 180, 0, 17, 18, 82, 182, 0, 84, 154, 0, 9, 42, 4]
abbrev dktX6_head_0 : List UInt8 := dkwX6_head_0 ++ dktX6_head_1
theorem dksX6_head_0 : cX6_head.data.toList.drop 0 = dktX6_head_0 := by decide +kernel
theorem dksX6_head_1 : cX6_head.data.toList.drop 23 = dktX6_head_1 := dk_seg dksX6_head_0 23 rfl rfl
theorem dksX6_head_2 : cX6_head.data.toList.drop 47 = dktX6_head_2 := dk_seg dksX6_head_1 24 rfl rfl
theorem dksX6_head_3 : cX6_head.data.toList.drop 71 = dktX6_head_3 := dk_seg dksX6_head_2 24 rfl rfl
theorem dX6_head_0 : decode cX6_head 0 = .ok (.aload_n 0, 1) := dk_42 (dk_at dksX6_head_0 0 rfl rfl)
theorem dX6_head_1 : decode cX6_head 1 = .ok (.invokevirtual 72, 3) := dk_182 0 72 (dk_at dksX6_head_0 1 rfl rfl)
theorem dX6_head_4 : decode cX6_head 4 = .ok (.aload_n 0, 1) := dk_42 (dk_at dksX6_head_0 4 rfl rfl)
theorem dX6_head_5 : decode cX6_head 5 = .ok (.iconst 0, 1) := dk_3 (dk_at dksX6_head_0 5 rfl rfl)
theorem dX6_head_6 : decode cX6_head 6 = .ok (.invokevirtual 75, 3) := dk_182 0 75 (dk_at dksX6_head_0 6 rfl rfl)
theorem dX6_head_9 : decode cX6_head 9 = .ok (.aload_n 0, 1) := dk_42 (dk_at dksX6_head_0 9 rfl rfl)
theorem dX6_head_10 : decode cX6_head 10 = .ok (.getfield 17, 3) := dk_180 0 17 (dk_at dksX6_head_0 10 rfl rfl)
theorem dX6_head_13 : decode cX6_head 13 = .ok (.ldc 82, 2) := dk_18 82 (dk_at dksX6_head_0 13 rfl rfl)
theorem dX6_head_15 : decode cX6_head 15 = .ok (.invokevirtual 84, 3) := dk_182 0 84 (dk_at dksX6_head_0 15 rfl rfl)
theorem dX6_head_18 : decode cX6_head 18 = .ok (.ifCond .ne 9, 3) := dk_154 0 9 (dk_at dksX6_head_0 18 rfl rfl)
theorem dX6_head_21 : decode cX6_head 21 = .ok (.aload_n 0, 1) := dk_42 (dk_at dksX6_head_0 21 rfl rfl)
theorem dX6_head_22 : decode cX6_head 22 = .ok (.iconst 1, 1) := dk_4 (dk_at dksX6_head_0 22 rfl rfl)
theorem dX6_head_23 : decode cX6_head 23 = .ok (.invokevirtual 63, 3) := dk_182 0 63 (dk_at dksX6_head_1 0 rfl rfl)
theorem dX6_head_26 : decode cX6_head 26 = .ok (.athrow, 1) := dk_191 (dk_at dksX6_head_1 3 rfl rfl)
theorem dX6_head_27 : decode cX6_head 27 = .ok (.aload_n 0, 1) := dk_42 (dk_at dksX6_head_1 4 rfl rfl)
theorem dX6_head_28 : decode cX6_head 28 = .ok (.iconst 4, 1) := dk_7 (dk_at dksX6_head_1 5 rfl rfl)
theorem dX6_head_29 : decode cX6_head 29 = .ok (.bipush 20, 2) := dk_16 20 (dk_at dksX6_head_1 6 rfl rfl)
theorem dX6_head_31 : decode cX6_head 31 = .ok (.invokevirtual 90, 3) := dk_182 0 90 (dk_at dksX6_head_1 8 rfl rfl)
theorem dX6_head_34 : decode cX6_head 34 = .ok (.istore_n 1, 1) := dk_60 (dk_at dksX6_head_1 11 rfl rfl)
theorem dX6_head_35 : decode cX6_head 35 = .ok (.aload_n 0, 1) := dk_42 (dk_at dksX6_head_1 12 rfl rfl)
theorem dX6_head_36 : decode cX6_head 36 = .ok (.iconst 4, 1) := dk_7 (dk_at dksX6_head_1 13 rfl rfl)
theorem dX6_head_37 : decode cX6_head 37 = .ok (.bipush 20, 2) := dk_16 20 (dk_at dksX6_head_1 14 rfl rfl)
theorem dX6_head_39 : decode cX6_head 39 = .ok (.invokevirtual 90, 3) := dk_182 0 90 (dk_at dksX6_head_1 16 rfl rfl)
theorem dX6_head_42 : decode cX6_head 42 = .ok (.istore_n 2, 1) := dk_61 (dk_at dksX6_head_1 19 rfl rfl)
theorem dX6_head_43 : decode cX6_head 43 = .ok (.aload_n 0, 1) := dk_42 (dk_at dksX6_head_1 20 rfl rfl)
theorem dX6_head_44 : decode cX6_head 44 = .ok (.iconst 1, 1) := dk_4 (dk_at dksX6_head_1 21 rfl rfl)
theorem dX6_head_45 : decode cX6_head 45 = .ok (.bipush 12, 2) := dk_16 12 (dk_at dksX6_head_1 22 rfl rfl)
theorem dX6_head_47 : decode cX6_head 47 = .ok (.invokevirtual 90, 3) := dk_182 0 90 (dk_at dksX6_head_2 0 rfl rfl)
theorem dX6_head_50 : decode cX6_head 50 = .ok (.istore_n 3, 1) := dk_62 (dk_at dksX6_head_2 3 rfl rfl)
theorem dX6_head_51 : decode cX6_head 51 = .ok (.aload_n 0, 1) := dk_42 (dk_at dksX6_head_2 4 rfl rfl)
theorem dX6_head_52 : decode cX6_head 52 = .ok (.new 93, 3) := dk_187 0 93 (dk_at dksX6_head_2 5 rfl rfl)
theorem dX6_head_55 : decode cX6_head 55 = .ok (.dup, 1) := dk_89 (dk_at dksX6_head_2 8 rfl rfl)
theorem dX6_head_56 : decode cX6_head 56 = .ok (.iload_n 1, 1) := dk_27 (dk_at dksX6_head_2 9 rfl rfl)
theorem dX6_head_57 : decode cX6_head 57 = .ok (.iload_n 2, 1) := dk_28 (dk_at dksX6_head_2 10 rfl rfl)
theorem dX6_head_58 : decode cX6_head 58 = .ok (.iload_n 3, 1) := dk_29 (dk_at dksX6_head_2 11 rfl rfl)
theorem dX6_head_59 : decode cX6_head 59 = .ok (.aload_n 0, 1) := dk_42 (dk_at dksX6_head_2 12 rfl rfl)
theorem dX6_head_60 : decode cX6_head 60 = .ok (.iconst 0, 1) := dk_3 (dk_at dksX6_head_2 13 rfl rfl)
theorem dX6_head_61 : decode cX6_head 61 = .ok (.iconst 2, 1) := dk_5 (dk_at dksX6_head_2 14 rfl rfl)
theorem dX6_head_62 : decode cX6_head 62 = .ok (.invokevirtual 90, 3) := dk_182 0 90 (dk_at dksX6_head_2 15 rfl rfl)
theorem dX6_head_65 : decode cX6_head 65 = .ok (.invokespecial 95, 3) := dk_183 0 95 (dk_at dksX6_head_2 18 rfl rfl)
theorem dX6_head_68 : decode cX6_head 68 = .ok (.putfield 21, 3) := dk_181 0 21 (dk_at dksX6_head_2 21 rfl rfl)
theorem dX6_head_71 : decode cX6_head 71 = .ok (.aload_n 0, 1) := dk_42 (dk_at dksX6_head_3 0 rfl rfl)
theorem dX6_head_72 : decode cX6_head 72 = .ok (.invokevirtual 72, 3) := dk_182 0 72 (dk_at dksX6_head_3 1 rfl rfl)
theorem dX6_head_75 : decode cX6_head 75 = .ok (.aload_n 0, 1) := dk_42 (dk_at dksX6_head_3 4 rfl rfl)
theorem dX6_head_76 : decode cX6_head 76 = .ok (.iconst 2, 1) := dk_5 (dk_at dksX6_head_3 5 rfl rfl)
theorem dX6_head_77 : decode cX6_head 77 = .ok (.invokevirtual 75, 3) := dk_182 0 75 (dk_at dksX6_head_3 6 rfl rfl)
theorem dX6_head_80 : decode cX6_head 80 = .ok (.aload_n 0, 1) := dk_42 (dk_at dksX6_head_3 9 rfl rfl)
theorem dX6_head_81 : decode cX6_head 81 = .ok (.invokevirtual 72, 3) := dk_182 0 72 (dk_at dksX6_head_3 10 rfl rfl)
theorem dX6_head_84 : decode cX6_head 84 = .ok (.aload_n 0, 1) := dk_42 (dk_at dksX6_head_3 13 rfl rfl)
theorem dX6_head_85 : decode cX6_head 85 = .ok (.getfield 21, 3) := dk_180 0 21 (dk_at dksX6_head_3 14 rfl rfl)
theorem dX6_head_88 : decode cX6_head 88 = .ok (.areturn, 1) := dk_176 (dk_at dksX6_head_3 17 rfl rfl)
abbrev cX6_colourWord : ByteArray := prog_7_method_10_code
def yX6_colourWord : MethodName := ⟨RX6, "colourWord", "()I"⟩
def dkwX6_colourWord_6 : List UInt8 := [3, 172, 4, 172, 5, 172, 6, 172, 42, 6, 182, 0, 63, 191]
abbrev dktX6_colourWord_6 : List UInt8 := dkwX6_colourWord_6 ++ []
def dkwX6_colourWord_5 : List UInt8 := [170, 0, 0, 0, 0, 38, 0, 0, 0, 0, 0, 0, 0, 3, 0, 0, 0, 30, 0, 0, 0, 32, 0, 0, 0, 34, 0, 0, 0, 36]
abbrev dktX6_colourWord_5 : List UInt8 := dkwX6_colourWord_5 ++ dktX6_colourWord_6
def dkwX6_colourWord_4 : List UInt8 := [153, 0, 5, 6, 61, 28]
abbrev dktX6_colourWord_4 : List UInt8 := dkwX6_colourWord_4 ++ dktX6_colourWord_5
def dkwX6_colourWord_3 : List UInt8 := [61, 167, 0, 28, 43, 18, 139, 182, 0, 84, 153, 0, 19, 5, 61, 167, 0, 14, 43, 18, 141, 182, 0, 84]
abbrev dktX6_colourWord_3 : List UInt8 := dkwX6_colourWord_3 ++ dktX6_colourWord_4
def dkwX6_colourWord_2 : List UInt8 := [43, 18, 135, 182, 0, 84, 153, 0, 47, 3, 61, 167, 0, 42, 43, 18, 137, 182, 0, 84, 153, 0, 33, 4]
abbrev dktX6_colourWord_2 : List UInt8 := dkwX6_colourWord_2 ++ dktX6_colourWord_3
def dkwX6_colourWord_1 : List UInt8 := [171, 0, 0, 0, 0, 0, 0, 97, 0, 0, 0, 4, 0, 1, 184, 145, 0, 0, 0, 44, 0, 46, 48, 90, 0, 0, 0, 58, 0, 48, 128, 96, 0, 0, 0, 86, 6, 189, 204, 41, 0, 0, 0, 72]
abbrev dktX6_colourWord_1 : List UInt8 := dkwX6_colourWord_1 ++ dktX6_colourWord_2
def dkwX6_colourWord_0 : List UInt8 := [42, 182, 0, 72, 42, 3, 182, 0, 75, 42, 180, 0, 17, 76, 2, 61, 43, 182, 0, 106]
abbrev dktX6_colourWord_0 : List UInt8 := dkwX6_colourWord_0 ++ dktX6_colourWord_1
theorem dksX6_colourWord_0 : cX6_colourWord.data.toList.drop 0 = dktX6_colourWord_0 := by decide +kernel
theorem dksX6_colourWord_1 : cX6_colourWord.data.toList.drop 20 = dktX6_colourWord_1 := dk_seg dksX6_colourWord_0 20 rfl rfl
theorem dksX6_colourWord_2 : cX6_colourWord.data.toList.drop 64 = dktX6_colourWord_2 := dk_seg dksX6_colourWord_1 44 rfl rfl
theorem dksX6_colourWord_3 : cX6_colourWord.data.toList.drop 88 = dktX6_colourWord_3 := dk_seg dksX6_colourWord_2 24 rfl rfl
theorem dksX6_colourWord_4 : cX6_colourWord.data.toList.drop 112 = dktX6_colourWord_4 := dk_seg dksX6_colourWord_3 24 rfl rfl
theorem dksX6_colourWord_5 : cX6_colourWord.data.toList.drop 118 = dktX6_colourWord_5 := dk_seg dksX6_colourWord_4 6 rfl rfl
theorem dksX6_colourWord_6 : cX6_colourWord.data.toList.drop 148 = dktX6_colourWord_6 := dk_seg dksX6_colourWord_5 30 rfl rfl
theorem dX6_colourWord_0 : decode cX6_colourWord 0 = .ok (.aload_n 0, 1) := dk_42 (dk_at dksX6_colourWord_0 0 rfl rfl)
theorem dX6_colourWord_1 : decode cX6_colourWord 1 = .ok (.invokevirtual 72, 3) := dk_182 0 72 (dk_at dksX6_colourWord_0 1 rfl rfl)
theorem dX6_colourWord_4 : decode cX6_colourWord 4 = .ok (.aload_n 0, 1) := dk_42 (dk_at dksX6_colourWord_0 4 rfl rfl)
theorem dX6_colourWord_5 : decode cX6_colourWord 5 = .ok (.iconst 0, 1) := dk_3 (dk_at dksX6_colourWord_0 5 rfl rfl)
theorem dX6_colourWord_6 : decode cX6_colourWord 6 = .ok (.invokevirtual 75, 3) := dk_182 0 75 (dk_at dksX6_colourWord_0 6 rfl rfl)
theorem dX6_colourWord_9 : decode cX6_colourWord 9 = .ok (.aload_n 0, 1) := dk_42 (dk_at dksX6_colourWord_0 9 rfl rfl)
theorem dX6_colourWord_10 : decode cX6_colourWord 10 = .ok (.getfield 17, 3) := dk_180 0 17 (dk_at dksX6_colourWord_0 10 rfl rfl)
theorem dX6_colourWord_13 : decode cX6_colourWord 13 = .ok (.astore_n 1, 1) := dk_76 (dk_at dksX6_colourWord_0 13 rfl rfl)
theorem dX6_colourWord_14 : decode cX6_colourWord 14 = .ok (.iconst (-1), 1) := dk_2 (dk_at dksX6_colourWord_0 14 rfl rfl)
theorem dX6_colourWord_15 : decode cX6_colourWord 15 = .ok (.istore_n 2, 1) := dk_61 (dk_at dksX6_colourWord_0 15 rfl rfl)
theorem dX6_colourWord_16 : decode cX6_colourWord 16 = .ok (.aload_n 1, 1) := dk_43 (dk_at dksX6_colourWord_0 16 rfl rfl)
theorem dX6_colourWord_17 : decode cX6_colourWord 17 = .ok (.invokevirtual 106, 3) := dk_182 0 106 (dk_at dksX6_colourWord_0 17 rfl rfl)
theorem dX6_colourWord_20 : decode cX6_colourWord 20 = .ok (.lookupswitch 97 #[(112785, 44), (3027034, 58), (3178592, 86), (113101865, 72)], 44) := by decide +kernel
theorem dX6_colourWord_64 : decode cX6_colourWord 64 = .ok (.aload_n 1, 1) := dk_43 (dk_at dksX6_colourWord_2 0 rfl rfl)
theorem dX6_colourWord_65 : decode cX6_colourWord 65 = .ok (.ldc 135, 2) := dk_18 135 (dk_at dksX6_colourWord_2 1 rfl rfl)
theorem dX6_colourWord_67 : decode cX6_colourWord 67 = .ok (.invokevirtual 84, 3) := dk_182 0 84 (dk_at dksX6_colourWord_2 3 rfl rfl)
theorem dX6_colourWord_70 : decode cX6_colourWord 70 = .ok (.ifCond .eq 47, 3) := dk_153 0 47 (dk_at dksX6_colourWord_2 6 rfl rfl)
theorem dX6_colourWord_73 : decode cX6_colourWord 73 = .ok (.iconst 0, 1) := dk_3 (dk_at dksX6_colourWord_2 9 rfl rfl)
theorem dX6_colourWord_74 : decode cX6_colourWord 74 = .ok (.istore_n 2, 1) := dk_61 (dk_at dksX6_colourWord_2 10 rfl rfl)
theorem dX6_colourWord_75 : decode cX6_colourWord 75 = .ok (.goto 42, 3) := dk_167 0 42 (dk_at dksX6_colourWord_2 11 rfl rfl)
theorem dX6_colourWord_78 : decode cX6_colourWord 78 = .ok (.aload_n 1, 1) := dk_43 (dk_at dksX6_colourWord_2 14 rfl rfl)
theorem dX6_colourWord_79 : decode cX6_colourWord 79 = .ok (.ldc 137, 2) := dk_18 137 (dk_at dksX6_colourWord_2 15 rfl rfl)
theorem dX6_colourWord_81 : decode cX6_colourWord 81 = .ok (.invokevirtual 84, 3) := dk_182 0 84 (dk_at dksX6_colourWord_2 17 rfl rfl)
theorem dX6_colourWord_84 : decode cX6_colourWord 84 = .ok (.ifCond .eq 33, 3) := dk_153 0 33 (dk_at dksX6_colourWord_2 20 rfl rfl)
theorem dX6_colourWord_87 : decode cX6_colourWord 87 = .ok (.iconst 1, 1) := dk_4 (dk_at dksX6_colourWord_2 23 rfl rfl)
theorem dX6_colourWord_88 : decode cX6_colourWord 88 = .ok (.istore_n 2, 1) := dk_61 (dk_at dksX6_colourWord_3 0 rfl rfl)
theorem dX6_colourWord_89 : decode cX6_colourWord 89 = .ok (.goto 28, 3) := dk_167 0 28 (dk_at dksX6_colourWord_3 1 rfl rfl)
theorem dX6_colourWord_92 : decode cX6_colourWord 92 = .ok (.aload_n 1, 1) := dk_43 (dk_at dksX6_colourWord_3 4 rfl rfl)
theorem dX6_colourWord_93 : decode cX6_colourWord 93 = .ok (.ldc 139, 2) := dk_18 139 (dk_at dksX6_colourWord_3 5 rfl rfl)
theorem dX6_colourWord_95 : decode cX6_colourWord 95 = .ok (.invokevirtual 84, 3) := dk_182 0 84 (dk_at dksX6_colourWord_3 7 rfl rfl)
theorem dX6_colourWord_98 : decode cX6_colourWord 98 = .ok (.ifCond .eq 19, 3) := dk_153 0 19 (dk_at dksX6_colourWord_3 10 rfl rfl)
theorem dX6_colourWord_101 : decode cX6_colourWord 101 = .ok (.iconst 2, 1) := dk_5 (dk_at dksX6_colourWord_3 13 rfl rfl)
theorem dX6_colourWord_102 : decode cX6_colourWord 102 = .ok (.istore_n 2, 1) := dk_61 (dk_at dksX6_colourWord_3 14 rfl rfl)
theorem dX6_colourWord_103 : decode cX6_colourWord 103 = .ok (.goto 14, 3) := dk_167 0 14 (dk_at dksX6_colourWord_3 15 rfl rfl)
theorem dX6_colourWord_106 : decode cX6_colourWord 106 = .ok (.aload_n 1, 1) := dk_43 (dk_at dksX6_colourWord_3 18 rfl rfl)
theorem dX6_colourWord_107 : decode cX6_colourWord 107 = .ok (.ldc 141, 2) := dk_18 141 (dk_at dksX6_colourWord_3 19 rfl rfl)
theorem dX6_colourWord_109 : decode cX6_colourWord 109 = .ok (.invokevirtual 84, 3) := dk_182 0 84 (dk_at dksX6_colourWord_3 21 rfl rfl)
theorem dX6_colourWord_112 : decode cX6_colourWord 112 = .ok (.ifCond .eq 5, 3) := dk_153 0 5 (dk_at dksX6_colourWord_4 0 rfl rfl)
theorem dX6_colourWord_115 : decode cX6_colourWord 115 = .ok (.iconst 3, 1) := dk_6 (dk_at dksX6_colourWord_4 3 rfl rfl)
theorem dX6_colourWord_116 : decode cX6_colourWord 116 = .ok (.istore_n 2, 1) := dk_61 (dk_at dksX6_colourWord_4 4 rfl rfl)
theorem dX6_colourWord_117 : decode cX6_colourWord 117 = .ok (.iload_n 2, 1) := dk_28 (dk_at dksX6_colourWord_4 5 rfl rfl)
theorem dX6_colourWord_118 : decode cX6_colourWord 118 = .ok (.tableswitch 38 0 3 #[30, 32, 34, 36], 30) := by decide +kernel
theorem dX6_colourWord_148 : decode cX6_colourWord 148 = .ok (.iconst 0, 1) := dk_3 (dk_at dksX6_colourWord_6 0 rfl rfl)
theorem dX6_colourWord_149 : decode cX6_colourWord 149 = .ok (.ireturn, 1) := dk_172 (dk_at dksX6_colourWord_6 1 rfl rfl)
theorem dX6_colourWord_150 : decode cX6_colourWord 150 = .ok (.iconst 1, 1) := dk_4 (dk_at dksX6_colourWord_6 2 rfl rfl)
theorem dX6_colourWord_151 : decode cX6_colourWord 151 = .ok (.ireturn, 1) := dk_172 (dk_at dksX6_colourWord_6 3 rfl rfl)
theorem dX6_colourWord_152 : decode cX6_colourWord 152 = .ok (.iconst 2, 1) := dk_5 (dk_at dksX6_colourWord_6 4 rfl rfl)
theorem dX6_colourWord_153 : decode cX6_colourWord 153 = .ok (.ireturn, 1) := dk_172 (dk_at dksX6_colourWord_6 5 rfl rfl)
theorem dX6_colourWord_154 : decode cX6_colourWord 154 = .ok (.iconst 3, 1) := dk_6 (dk_at dksX6_colourWord_6 6 rfl rfl)
theorem dX6_colourWord_155 : decode cX6_colourWord 155 = .ok (.ireturn, 1) := dk_172 (dk_at dksX6_colourWord_6 7 rfl rfl)
theorem dX6_colourWord_156 : decode cX6_colourWord 156 = .ok (.aload_n 0, 1) := dk_42 (dk_at dksX6_colourWord_6 8 rfl rfl)
theorem dX6_colourWord_157 : decode cX6_colourWord 157 = .ok (.iconst 3, 1) := dk_6 (dk_at dksX6_colourWord_6 9 rfl rfl)
theorem dX6_colourWord_158 : decode cX6_colourWord 158 = .ok (.invokevirtual 63, 3) := dk_182 0 63 (dk_at dksX6_colourWord_6 10 rfl rfl)
theorem dX6_colourWord_161 : decode cX6_colourWord 161 = .ok (.athrow, 1) := dk_191 (dk_at dksX6_colourWord_6 13 rfl rfl)
abbrev cX6_blaze : ByteArray := prog_7_method_11_code
def yX6_blaze : MethodName := ⟨RX6, "blaze", "()V"⟩
def dkwX6_blaze_3 : List UInt8 := [177]
abbrev dktX6_blaze_3 : List UInt8 := dkwX6_blaze_3 ++ []
def dkwX6_blaze_2 : List UInt8 := [7, 3, 183, 0, 154, 182, 0, 157, 181, 0, 161, 42, 3, 181, 0, 164, 42, 182, 0, 72, 42, 182, 0, 167]
abbrev dktX6_blaze_2 : List UInt8 := dkwX6_blaze_2 ++ dktX6_blaze_3
def dkwX6_blaze_1 : List UInt8 := [180, 0, 21, 180, 0, 149, 4, 100, 182, 0, 90, 62, 42, 42, 180, 0, 21, 187, 0, 152, 89, 28, 29, 27]
abbrev dktX6_blaze_1 : List UInt8 := dkwX6_blaze_1 ++ dktX6_blaze_2
def dkwX6_blaze_0 : List UInt8 := [42, 182, 0, 143, 60, 42, 3, 42, 180, 0, 21, 180, 0, 146, 4, 100, 182, 0, 90, 61, 42, 3, 42]
abbrev dktX6_blaze_0 : List UInt8 := dkwX6_blaze_0 ++ dktX6_blaze_1
theorem dksX6_blaze_0 : cX6_blaze.data.toList.drop 0 = dktX6_blaze_0 := by decide +kernel
theorem dksX6_blaze_1 : cX6_blaze.data.toList.drop 23 = dktX6_blaze_1 := dk_seg dksX6_blaze_0 23 rfl rfl
theorem dksX6_blaze_2 : cX6_blaze.data.toList.drop 47 = dktX6_blaze_2 := dk_seg dksX6_blaze_1 24 rfl rfl
theorem dksX6_blaze_3 : cX6_blaze.data.toList.drop 71 = dktX6_blaze_3 := dk_seg dksX6_blaze_2 24 rfl rfl
theorem dX6_blaze_0 : decode cX6_blaze 0 = .ok (.aload_n 0, 1) := dk_42 (dk_at dksX6_blaze_0 0 rfl rfl)
theorem dX6_blaze_1 : decode cX6_blaze 1 = .ok (.invokevirtual 143, 3) := dk_182 0 143 (dk_at dksX6_blaze_0 1 rfl rfl)
theorem dX6_blaze_4 : decode cX6_blaze 4 = .ok (.istore_n 1, 1) := dk_60 (dk_at dksX6_blaze_0 4 rfl rfl)
theorem dX6_blaze_5 : decode cX6_blaze 5 = .ok (.aload_n 0, 1) := dk_42 (dk_at dksX6_blaze_0 5 rfl rfl)
theorem dX6_blaze_6 : decode cX6_blaze 6 = .ok (.iconst 0, 1) := dk_3 (dk_at dksX6_blaze_0 6 rfl rfl)
theorem dX6_blaze_7 : decode cX6_blaze 7 = .ok (.aload_n 0, 1) := dk_42 (dk_at dksX6_blaze_0 7 rfl rfl)
theorem dX6_blaze_8 : decode cX6_blaze 8 = .ok (.getfield 21, 3) := dk_180 0 21 (dk_at dksX6_blaze_0 8 rfl rfl)
theorem dX6_blaze_11 : decode cX6_blaze 11 = .ok (.getfield 146, 3) := dk_180 0 146 (dk_at dksX6_blaze_0 11 rfl rfl)
theorem dX6_blaze_14 : decode cX6_blaze 14 = .ok (.iconst 1, 1) := dk_4 (dk_at dksX6_blaze_0 14 rfl rfl)
theorem dX6_blaze_15 : decode cX6_blaze 15 = .ok (.isub, 1) := dk_100 (dk_at dksX6_blaze_0 15 rfl rfl)
theorem dX6_blaze_16 : decode cX6_blaze 16 = .ok (.invokevirtual 90, 3) := dk_182 0 90 (dk_at dksX6_blaze_0 16 rfl rfl)
theorem dX6_blaze_19 : decode cX6_blaze 19 = .ok (.istore_n 2, 1) := dk_61 (dk_at dksX6_blaze_0 19 rfl rfl)
theorem dX6_blaze_20 : decode cX6_blaze 20 = .ok (.aload_n 0, 1) := dk_42 (dk_at dksX6_blaze_0 20 rfl rfl)
theorem dX6_blaze_21 : decode cX6_blaze 21 = .ok (.iconst 0, 1) := dk_3 (dk_at dksX6_blaze_0 21 rfl rfl)
theorem dX6_blaze_22 : decode cX6_blaze 22 = .ok (.aload_n 0, 1) := dk_42 (dk_at dksX6_blaze_0 22 rfl rfl)
theorem dX6_blaze_23 : decode cX6_blaze 23 = .ok (.getfield 21, 3) := dk_180 0 21 (dk_at dksX6_blaze_1 0 rfl rfl)
theorem dX6_blaze_26 : decode cX6_blaze 26 = .ok (.getfield 149, 3) := dk_180 0 149 (dk_at dksX6_blaze_1 3 rfl rfl)
theorem dX6_blaze_29 : decode cX6_blaze 29 = .ok (.iconst 1, 1) := dk_4 (dk_at dksX6_blaze_1 6 rfl rfl)
theorem dX6_blaze_30 : decode cX6_blaze 30 = .ok (.isub, 1) := dk_100 (dk_at dksX6_blaze_1 7 rfl rfl)
theorem dX6_blaze_31 : decode cX6_blaze 31 = .ok (.invokevirtual 90, 3) := dk_182 0 90 (dk_at dksX6_blaze_1 8 rfl rfl)
theorem dX6_blaze_34 : decode cX6_blaze 34 = .ok (.istore_n 3, 1) := dk_62 (dk_at dksX6_blaze_1 11 rfl rfl)
theorem dX6_blaze_35 : decode cX6_blaze 35 = .ok (.aload_n 0, 1) := dk_42 (dk_at dksX6_blaze_1 12 rfl rfl)
theorem dX6_blaze_36 : decode cX6_blaze 36 = .ok (.aload_n 0, 1) := dk_42 (dk_at dksX6_blaze_1 13 rfl rfl)
theorem dX6_blaze_37 : decode cX6_blaze 37 = .ok (.getfield 21, 3) := dk_180 0 21 (dk_at dksX6_blaze_1 14 rfl rfl)
theorem dX6_blaze_40 : decode cX6_blaze 40 = .ok (.new 152, 3) := dk_187 0 152 (dk_at dksX6_blaze_1 17 rfl rfl)
theorem dX6_blaze_43 : decode cX6_blaze 43 = .ok (.dup, 1) := dk_89 (dk_at dksX6_blaze_1 20 rfl rfl)
theorem dX6_blaze_44 : decode cX6_blaze 44 = .ok (.iload_n 2, 1) := dk_28 (dk_at dksX6_blaze_1 21 rfl rfl)
theorem dX6_blaze_45 : decode cX6_blaze 45 = .ok (.iload_n 3, 1) := dk_29 (dk_at dksX6_blaze_1 22 rfl rfl)
theorem dX6_blaze_46 : decode cX6_blaze 46 = .ok (.iload_n 1, 1) := dk_27 (dk_at dksX6_blaze_1 23 rfl rfl)
theorem dX6_blaze_47 : decode cX6_blaze 47 = .ok (.iconst 4, 1) := dk_7 (dk_at dksX6_blaze_2 0 rfl rfl)
theorem dX6_blaze_48 : decode cX6_blaze 48 = .ok (.iconst 0, 1) := dk_3 (dk_at dksX6_blaze_2 1 rfl rfl)
theorem dX6_blaze_49 : decode cX6_blaze 49 = .ok (.invokespecial 154, 3) := dk_183 0 154 (dk_at dksX6_blaze_2 2 rfl rfl)
theorem dX6_blaze_52 : decode cX6_blaze 52 = .ok (.invokevirtual 157, 3) := dk_182 0 157 (dk_at dksX6_blaze_2 5 rfl rfl)
theorem dX6_blaze_55 : decode cX6_blaze 55 = .ok (.putfield 161, 3) := dk_181 0 161 (dk_at dksX6_blaze_2 8 rfl rfl)
theorem dX6_blaze_58 : decode cX6_blaze 58 = .ok (.aload_n 0, 1) := dk_42 (dk_at dksX6_blaze_2 11 rfl rfl)
theorem dX6_blaze_59 : decode cX6_blaze 59 = .ok (.iconst 0, 1) := dk_3 (dk_at dksX6_blaze_2 12 rfl rfl)
theorem dX6_blaze_60 : decode cX6_blaze 60 = .ok (.putfield 164, 3) := dk_181 0 164 (dk_at dksX6_blaze_2 13 rfl rfl)
theorem dX6_blaze_63 : decode cX6_blaze 63 = .ok (.aload_n 0, 1) := dk_42 (dk_at dksX6_blaze_2 16 rfl rfl)
theorem dX6_blaze_64 : decode cX6_blaze 64 = .ok (.invokevirtual 72, 3) := dk_182 0 72 (dk_at dksX6_blaze_2 17 rfl rfl)
theorem dX6_blaze_67 : decode cX6_blaze 67 = .ok (.aload_n 0, 1) := dk_42 (dk_at dksX6_blaze_2 20 rfl rfl)
theorem dX6_blaze_68 : decode cX6_blaze 68 = .ok (.invokevirtual 167, 3) := dk_182 0 167 (dk_at dksX6_blaze_2 21 rfl rfl)
theorem dX6_blaze_71 : decode cX6_blaze 71 = .ok (.return_, 1) := dk_177 (dk_at dksX6_blaze_3 0 rfl rfl)
abbrev cX6_blockAll : ByteArray := prog_7_method_16_code
def yX6_blockAll : MethodName := ⟨RX6, "blockAll", "()V"⟩
def dkwX6_blockAll_2 : List UInt8 := [180, 0, 149, 4, 100, 182, 0, 90, 182, 0, 217, 42, 182, 0, 72, 167, 255, 203, 177]
abbrev dktX6_blockAll_2 : List UInt8 := dkwX6_blockAll_2 ++ []
def dkwX6_blockAll_1 : List UInt8 := [180, 0, 146, 4, 100, 182, 0, 79, 42, 180, 0, 42, 60, 42, 180, 0, 21, 27, 42, 3, 42, 180, 0, 21]
abbrev dktX6_blockAll_1 : List UInt8 := dkwX6_blockAll_1 ++ dktX6_blockAll_2
def dkwX6_blockAll_0 : List UInt8 := [42, 182, 0, 72, 42, 4, 182, 0, 75, 42, 180, 0, 39, 4, 160, 0, 51, 42, 3, 42, 180, 0, 21]
abbrev dktX6_blockAll_0 : List UInt8 := dkwX6_blockAll_0 ++ dktX6_blockAll_1
theorem dksX6_blockAll_0 : cX6_blockAll.data.toList.drop 0 = dktX6_blockAll_0 := by decide +kernel
theorem dksX6_blockAll_1 : cX6_blockAll.data.toList.drop 23 = dktX6_blockAll_1 := dk_seg dksX6_blockAll_0 23 rfl rfl
theorem dksX6_blockAll_2 : cX6_blockAll.data.toList.drop 47 = dktX6_blockAll_2 := dk_seg dksX6_blockAll_1 24 rfl rfl
theorem dX6_blockAll_0 : decode cX6_blockAll 0 = .ok (.aload_n 0, 1) := dk_42 (dk_at dksX6_blockAll_0 0 rfl rfl)
theorem dX6_blockAll_1 : decode cX6_blockAll 1 = .ok (.invokevirtual 72, 3) := dk_182 0 72 (dk_at dksX6_blockAll_0 1 rfl rfl)
theorem dX6_blockAll_4 : decode cX6_blockAll 4 = .ok (.aload_n 0, 1) := dk_42 (dk_at dksX6_blockAll_0 4 rfl rfl)
theorem dX6_blockAll_5 : decode cX6_blockAll 5 = .ok (.iconst 1, 1) := dk_4 (dk_at dksX6_blockAll_0 5 rfl rfl)
theorem dX6_blockAll_6 : decode cX6_blockAll 6 = .ok (.invokevirtual 75, 3) := dk_182 0 75 (dk_at dksX6_blockAll_0 6 rfl rfl)
theorem dX6_blockAll_9 : decode cX6_blockAll 9 = .ok (.aload_n 0, 1) := dk_42 (dk_at dksX6_blockAll_0 9 rfl rfl)
theorem dX6_blockAll_10 : decode cX6_blockAll 10 = .ok (.getfield 39, 3) := dk_180 0 39 (dk_at dksX6_blockAll_0 10 rfl rfl)
theorem dX6_blockAll_13 : decode cX6_blockAll 13 = .ok (.iconst 1, 1) := dk_4 (dk_at dksX6_blockAll_0 13 rfl rfl)
theorem dX6_blockAll_14 : decode cX6_blockAll 14 = .ok (.if_icmp .ne 51, 3) := dk_160 0 51 (dk_at dksX6_blockAll_0 14 rfl rfl)
theorem dX6_blockAll_17 : decode cX6_blockAll 17 = .ok (.aload_n 0, 1) := dk_42 (dk_at dksX6_blockAll_0 17 rfl rfl)
theorem dX6_blockAll_18 : decode cX6_blockAll 18 = .ok (.iconst 0, 1) := dk_3 (dk_at dksX6_blockAll_0 18 rfl rfl)
theorem dX6_blockAll_19 : decode cX6_blockAll 19 = .ok (.aload_n 0, 1) := dk_42 (dk_at dksX6_blockAll_0 19 rfl rfl)
theorem dX6_blockAll_20 : decode cX6_blockAll 20 = .ok (.getfield 21, 3) := dk_180 0 21 (dk_at dksX6_blockAll_0 20 rfl rfl)
theorem dX6_blockAll_23 : decode cX6_blockAll 23 = .ok (.getfield 146, 3) := dk_180 0 146 (dk_at dksX6_blockAll_1 0 rfl rfl)
theorem dX6_blockAll_26 : decode cX6_blockAll 26 = .ok (.iconst 1, 1) := dk_4 (dk_at dksX6_blockAll_1 3 rfl rfl)
theorem dX6_blockAll_27 : decode cX6_blockAll 27 = .ok (.isub, 1) := dk_100 (dk_at dksX6_blockAll_1 4 rfl rfl)
theorem dX6_blockAll_28 : decode cX6_blockAll 28 = .ok (.invokevirtual 79, 3) := dk_182 0 79 (dk_at dksX6_blockAll_1 5 rfl rfl)
theorem dX6_blockAll_31 : decode cX6_blockAll 31 = .ok (.aload_n 0, 1) := dk_42 (dk_at dksX6_blockAll_1 8 rfl rfl)
theorem dX6_blockAll_32 : decode cX6_blockAll 32 = .ok (.getfield 42, 3) := dk_180 0 42 (dk_at dksX6_blockAll_1 9 rfl rfl)
theorem dX6_blockAll_35 : decode cX6_blockAll 35 = .ok (.istore_n 1, 1) := dk_60 (dk_at dksX6_blockAll_1 12 rfl rfl)
theorem dX6_blockAll_36 : decode cX6_blockAll 36 = .ok (.aload_n 0, 1) := dk_42 (dk_at dksX6_blockAll_1 13 rfl rfl)
theorem dX6_blockAll_37 : decode cX6_blockAll 37 = .ok (.getfield 21, 3) := dk_180 0 21 (dk_at dksX6_blockAll_1 14 rfl rfl)
theorem dX6_blockAll_40 : decode cX6_blockAll 40 = .ok (.iload_n 1, 1) := dk_27 (dk_at dksX6_blockAll_1 17 rfl rfl)
theorem dX6_blockAll_41 : decode cX6_blockAll 41 = .ok (.aload_n 0, 1) := dk_42 (dk_at dksX6_blockAll_1 18 rfl rfl)
theorem dX6_blockAll_42 : decode cX6_blockAll 42 = .ok (.iconst 0, 1) := dk_3 (dk_at dksX6_blockAll_1 19 rfl rfl)
theorem dX6_blockAll_43 : decode cX6_blockAll 43 = .ok (.aload_n 0, 1) := dk_42 (dk_at dksX6_blockAll_1 20 rfl rfl)
theorem dX6_blockAll_44 : decode cX6_blockAll 44 = .ok (.getfield 21, 3) := dk_180 0 21 (dk_at dksX6_blockAll_1 21 rfl rfl)
theorem dX6_blockAll_47 : decode cX6_blockAll 47 = .ok (.getfield 149, 3) := dk_180 0 149 (dk_at dksX6_blockAll_2 0 rfl rfl)
theorem dX6_blockAll_50 : decode cX6_blockAll 50 = .ok (.iconst 1, 1) := dk_4 (dk_at dksX6_blockAll_2 3 rfl rfl)
theorem dX6_blockAll_51 : decode cX6_blockAll 51 = .ok (.isub, 1) := dk_100 (dk_at dksX6_blockAll_2 4 rfl rfl)
theorem dX6_blockAll_52 : decode cX6_blockAll 52 = .ok (.invokevirtual 90, 3) := dk_182 0 90 (dk_at dksX6_blockAll_2 5 rfl rfl)
theorem dX6_blockAll_55 : decode cX6_blockAll 55 = .ok (.invokevirtual 217, 3) := dk_182 0 217 (dk_at dksX6_blockAll_2 8 rfl rfl)
theorem dX6_blockAll_58 : decode cX6_blockAll 58 = .ok (.aload_n 0, 1) := dk_42 (dk_at dksX6_blockAll_2 11 rfl rfl)
theorem dX6_blockAll_59 : decode cX6_blockAll 59 = .ok (.invokevirtual 72, 3) := dk_182 0 72 (dk_at dksX6_blockAll_2 12 rfl rfl)
theorem dX6_blockAll_62 : decode cX6_blockAll 62 = .ok (.goto (-53), 3) := dk_167 255 203 (dk_at dksX6_blockAll_2 15 rfl rfl)
theorem dX6_blockAll_65 : decode cX6_blockAll 65 = .ok (.return_, 1) := dk_177 (dk_at dksX6_blockAll_2 18 rfl rfl)
abbrev cX6_changeAll : ByteArray := prog_7_method_17_code
def yX6_changeAll : MethodName := ⟨RX6, "changeAll", "(Z)V"⟩
def dkwX6_changeAll_2 : List UInt8 := [167, 255, 218, 177]
abbrev dktX6_changeAll_2 : List UInt8 := dkwX6_changeAll_2 ++ []
def dkwX6_changeAll_1 : List UInt8 := [180, 0, 220, 4, 100, 182, 0, 79, 42, 180, 0, 21, 42, 180, 0, 42, 27, 182, 0, 204, 42, 182, 0, 72]
abbrev dktX6_changeAll_1 : List UInt8 := dkwX6_changeAll_1 ++ dktX6_changeAll_2
def dkwX6_changeAll_0 : List UInt8 := [42, 182, 0, 72, 42, 4, 182, 0, 75, 42, 180, 0, 39, 4, 160, 0, 36, 42, 3, 42, 180, 0, 21]
abbrev dktX6_changeAll_0 : List UInt8 := dkwX6_changeAll_0 ++ dktX6_changeAll_1
theorem dksX6_changeAll_0 : cX6_changeAll.data.toList.drop 0 = dktX6_changeAll_0 := by decide +kernel
theorem dksX6_changeAll_1 : cX6_changeAll.data.toList.drop 23 = dktX6_changeAll_1 := dk_seg dksX6_changeAll_0 23 rfl rfl
theorem dksX6_changeAll_2 : cX6_changeAll.data.toList.drop 47 = dktX6_changeAll_2 := dk_seg dksX6_changeAll_1 24 rfl rfl
theorem dX6_changeAll_0 : decode cX6_changeAll 0 = .ok (.aload_n 0, 1) := dk_42 (dk_at dksX6_changeAll_0 0 rfl rfl)
theorem dX6_changeAll_1 : decode cX6_changeAll 1 = .ok (.invokevirtual 72, 3) := dk_182 0 72 (dk_at dksX6_changeAll_0 1 rfl rfl)
theorem dX6_changeAll_4 : decode cX6_changeAll 4 = .ok (.aload_n 0, 1) := dk_42 (dk_at dksX6_changeAll_0 4 rfl rfl)
theorem dX6_changeAll_5 : decode cX6_changeAll 5 = .ok (.iconst 1, 1) := dk_4 (dk_at dksX6_changeAll_0 5 rfl rfl)
theorem dX6_changeAll_6 : decode cX6_changeAll 6 = .ok (.invokevirtual 75, 3) := dk_182 0 75 (dk_at dksX6_changeAll_0 6 rfl rfl)
theorem dX6_changeAll_9 : decode cX6_changeAll 9 = .ok (.aload_n 0, 1) := dk_42 (dk_at dksX6_changeAll_0 9 rfl rfl)
theorem dX6_changeAll_10 : decode cX6_changeAll 10 = .ok (.getfield 39, 3) := dk_180 0 39 (dk_at dksX6_changeAll_0 10 rfl rfl)
theorem dX6_changeAll_13 : decode cX6_changeAll 13 = .ok (.iconst 1, 1) := dk_4 (dk_at dksX6_changeAll_0 13 rfl rfl)
theorem dX6_changeAll_14 : decode cX6_changeAll 14 = .ok (.if_icmp .ne 36, 3) := dk_160 0 36 (dk_at dksX6_changeAll_0 14 rfl rfl)
theorem dX6_changeAll_17 : decode cX6_changeAll 17 = .ok (.aload_n 0, 1) := dk_42 (dk_at dksX6_changeAll_0 17 rfl rfl)
theorem dX6_changeAll_18 : decode cX6_changeAll 18 = .ok (.iconst 0, 1) := dk_3 (dk_at dksX6_changeAll_0 18 rfl rfl)
theorem dX6_changeAll_19 : decode cX6_changeAll 19 = .ok (.aload_n 0, 1) := dk_42 (dk_at dksX6_changeAll_0 19 rfl rfl)
theorem dX6_changeAll_20 : decode cX6_changeAll 20 = .ok (.getfield 21, 3) := dk_180 0 21 (dk_at dksX6_changeAll_0 20 rfl rfl)
theorem dX6_changeAll_23 : decode cX6_changeAll 23 = .ok (.getfield 220, 3) := dk_180 0 220 (dk_at dksX6_changeAll_1 0 rfl rfl)
theorem dX6_changeAll_26 : decode cX6_changeAll 26 = .ok (.iconst 1, 1) := dk_4 (dk_at dksX6_changeAll_1 3 rfl rfl)
theorem dX6_changeAll_27 : decode cX6_changeAll 27 = .ok (.isub, 1) := dk_100 (dk_at dksX6_changeAll_1 4 rfl rfl)
theorem dX6_changeAll_28 : decode cX6_changeAll 28 = .ok (.invokevirtual 79, 3) := dk_182 0 79 (dk_at dksX6_changeAll_1 5 rfl rfl)
theorem dX6_changeAll_31 : decode cX6_changeAll 31 = .ok (.aload_n 0, 1) := dk_42 (dk_at dksX6_changeAll_1 8 rfl rfl)
theorem dX6_changeAll_32 : decode cX6_changeAll 32 = .ok (.getfield 21, 3) := dk_180 0 21 (dk_at dksX6_changeAll_1 9 rfl rfl)
theorem dX6_changeAll_35 : decode cX6_changeAll 35 = .ok (.aload_n 0, 1) := dk_42 (dk_at dksX6_changeAll_1 12 rfl rfl)
theorem dX6_changeAll_36 : decode cX6_changeAll 36 = .ok (.getfield 42, 3) := dk_180 0 42 (dk_at dksX6_changeAll_1 13 rfl rfl)
theorem dX6_changeAll_39 : decode cX6_changeAll 39 = .ok (.iload_n 1, 1) := dk_27 (dk_at dksX6_changeAll_1 16 rfl rfl)
theorem dX6_changeAll_40 : decode cX6_changeAll 40 = .ok (.invokevirtual 204, 3) := dk_182 0 204 (dk_at dksX6_changeAll_1 17 rfl rfl)
theorem dX6_changeAll_43 : decode cX6_changeAll 43 = .ok (.aload_n 0, 1) := dk_42 (dk_at dksX6_changeAll_1 20 rfl rfl)
theorem dX6_changeAll_44 : decode cX6_changeAll 44 = .ok (.invokevirtual 72, 3) := dk_182 0 72 (dk_at dksX6_changeAll_1 21 rfl rfl)
theorem dX6_changeAll_47 : decode cX6_changeAll 47 = .ok (.goto (-38), 3) := dk_167 255 218 (dk_at dksX6_changeAll_2 0 rfl rfl)
theorem dX6_changeAll_50 : decode cX6_changeAll 50 = .ok (.return_, 1) := dk_177 (dk_at dksX6_changeAll_2 3 rfl rfl)
abbrev cX6_command : ByteArray := prog_7_method_9_code
def yX6_command : MethodName := ⟨RX6, "command", "()V"⟩
def dkwX6_command_10 : List UInt8 := [182, 0, 72, 167, 0, 9, 42, 4, 182, 0, 63, 191, 177]
abbrev dktX6_command_10 : List UInt8 := dkwX6_command_10 ++ []
def dkwX6_command_9 : List UInt8 := [182, 0, 72, 167, 0, 31, 42, 180, 0, 21, 180, 0, 131, 4, 42, 3, 5, 182, 0, 90, 79, 42]
abbrev dktX6_command_9 : List UInt8 := dkwX6_command_9 ++ dktX6_command_10
def dkwX6_command_8 : List UInt8 := [182, 0, 127, 167, 0, 54, 42, 180, 0, 21, 180, 0, 131, 3, 42, 4, 16, 12, 182, 0, 90, 79, 42]
abbrev dktX6_command_8 : List UInt8 := dkwX6_command_8 ++ dktX6_command_9
def dkwX6_command_7 : List UInt8 := [42, 182, 0, 122, 167, 0, 77, 42, 182, 0, 124, 167, 0, 70, 42, 4, 182, 0, 127, 167, 0, 62, 42, 3]
abbrev dktX6_command_7 : List UInt8 := dkwX6_command_7 ++ dktX6_command_8
def dkwX6_command_6 : List UInt8 := [170, 0, 0, 0, 0, 113, 0, 0, 0, 0, 0, 0, 0, 5, 0, 0, 0, 38, 0, 0, 0, 45, 0, 0, 0, 52, 0, 0, 0, 60, 0, 0, 0, 68, 0, 0, 0, 91]
abbrev dktX6_command_6 : List UInt8 := dkwX6_command_6 ++ dktX6_command_7
def dkwX6_command_5 : List UInt8 := [18, 120, 182, 0, 84, 153, 0, 5, 8, 61, 28]
abbrev dktX6_command_5 : List UInt8 := dkwX6_command_5 ++ dktX6_command_6
def dkwX6_command_4 : List UInt8 := [153, 0, 33, 6, 61, 167, 0, 28, 43, 18, 118, 182, 0, 84, 153, 0, 19, 7, 61, 167, 0, 14, 43]
abbrev dktX6_command_4 : List UInt8 := dkwX6_command_4 ++ dktX6_command_5
def dkwX6_command_3 : List UInt8 := [61, 167, 0, 56, 43, 18, 114, 182, 0, 84, 153, 0, 47, 5, 61, 167, 0, 42, 43, 18, 116, 182, 0, 84]
abbrev dktX6_command_3 : List UInt8 := dkwX6_command_3 ++ dktX6_command_4
def dkwX6_command_2 : List UInt8 := [43, 18, 110, 182, 0, 84, 153, 0, 75, 3, 61, 167, 0, 70, 43, 18, 112, 182, 0, 84, 153, 0, 61, 4]
abbrev dktX6_command_2 : List UInt8 := dkwX6_command_2 ++ dktX6_command_3
def dkwX6_command_1 : List UInt8 := [171, 0, 0, 0, 138, 0, 0, 0, 6, 0, 1, 142, 214, 0, 0, 0, 113, 0, 50, 199, 21, 0, 0, 0, 85, 0, 51, 21, 78, 0, 0, 0, 99, 0, 51, 36, 252, 0, 0, 0, 127, 5, 151, 146, 194, 0, 0, 0, 57, 5, 151, 196, 141, 0, 0, 0, 71]
abbrev dktX6_command_1 : List UInt8 := dkwX6_command_1 ++ dktX6_command_2
def dkwX6_command_0 : List UInt8 := [42, 180, 0, 17, 76, 2, 61, 43, 182, 0, 106]
abbrev dktX6_command_0 : List UInt8 := dkwX6_command_0 ++ dktX6_command_1
theorem dksX6_command_0 : cX6_command.data.toList.drop 0 = dktX6_command_0 := by decide +kernel
theorem dksX6_command_1 : cX6_command.data.toList.drop 11 = dktX6_command_1 := dk_seg dksX6_command_0 11 rfl rfl
theorem dksX6_command_2 : cX6_command.data.toList.drop 68 = dktX6_command_2 := dk_seg dksX6_command_1 57 rfl rfl
theorem dksX6_command_3 : cX6_command.data.toList.drop 92 = dktX6_command_3 := dk_seg dksX6_command_2 24 rfl rfl
theorem dksX6_command_4 : cX6_command.data.toList.drop 116 = dktX6_command_4 := dk_seg dksX6_command_3 24 rfl rfl
theorem dksX6_command_5 : cX6_command.data.toList.drop 139 = dktX6_command_5 := dk_seg dksX6_command_4 23 rfl rfl
theorem dksX6_command_6 : cX6_command.data.toList.drop 150 = dktX6_command_6 := dk_seg dksX6_command_5 11 rfl rfl
theorem dksX6_command_7 : cX6_command.data.toList.drop 188 = dktX6_command_7 := dk_seg dksX6_command_6 38 rfl rfl
theorem dksX6_command_8 : cX6_command.data.toList.drop 212 = dktX6_command_8 := dk_seg dksX6_command_7 24 rfl rfl
theorem dksX6_command_9 : cX6_command.data.toList.drop 235 = dktX6_command_9 := dk_seg dksX6_command_8 23 rfl rfl
theorem dksX6_command_10 : cX6_command.data.toList.drop 257 = dktX6_command_10 := dk_seg dksX6_command_9 22 rfl rfl
theorem dX6_command_0 : decode cX6_command 0 = .ok (.aload_n 0, 1) := dk_42 (dk_at dksX6_command_0 0 rfl rfl)
theorem dX6_command_1 : decode cX6_command 1 = .ok (.getfield 17, 3) := dk_180 0 17 (dk_at dksX6_command_0 1 rfl rfl)
theorem dX6_command_4 : decode cX6_command 4 = .ok (.astore_n 1, 1) := dk_76 (dk_at dksX6_command_0 4 rfl rfl)
theorem dX6_command_5 : decode cX6_command 5 = .ok (.iconst (-1), 1) := dk_2 (dk_at dksX6_command_0 5 rfl rfl)
theorem dX6_command_6 : decode cX6_command 6 = .ok (.istore_n 2, 1) := dk_61 (dk_at dksX6_command_0 6 rfl rfl)
theorem dX6_command_7 : decode cX6_command 7 = .ok (.aload_n 1, 1) := dk_43 (dk_at dksX6_command_0 7 rfl rfl)
theorem dX6_command_8 : decode cX6_command 8 = .ok (.invokevirtual 106, 3) := dk_182 0 106 (dk_at dksX6_command_0 8 rfl rfl)
theorem dX6_command_11 : decode cX6_command 11 = .ok (.lookupswitch 138 #[(102102, 113), (3327765, 85), (3347790, 99), (3351804, 127), (93819586, 57), (93832333, 71)], 57) := by decide +kernel
theorem dX6_command_68 : decode cX6_command 68 = .ok (.aload_n 1, 1) := dk_43 (dk_at dksX6_command_2 0 rfl rfl)
theorem dX6_command_69 : decode cX6_command 69 = .ok (.ldc 110, 2) := dk_18 110 (dk_at dksX6_command_2 1 rfl rfl)
theorem dX6_command_71 : decode cX6_command 71 = .ok (.invokevirtual 84, 3) := dk_182 0 84 (dk_at dksX6_command_2 3 rfl rfl)
theorem dX6_command_74 : decode cX6_command 74 = .ok (.ifCond .eq 75, 3) := dk_153 0 75 (dk_at dksX6_command_2 6 rfl rfl)
theorem dX6_command_77 : decode cX6_command 77 = .ok (.iconst 0, 1) := dk_3 (dk_at dksX6_command_2 9 rfl rfl)
theorem dX6_command_78 : decode cX6_command 78 = .ok (.istore_n 2, 1) := dk_61 (dk_at dksX6_command_2 10 rfl rfl)
theorem dX6_command_79 : decode cX6_command 79 = .ok (.goto 70, 3) := dk_167 0 70 (dk_at dksX6_command_2 11 rfl rfl)
theorem dX6_command_82 : decode cX6_command 82 = .ok (.aload_n 1, 1) := dk_43 (dk_at dksX6_command_2 14 rfl rfl)
theorem dX6_command_83 : decode cX6_command 83 = .ok (.ldc 112, 2) := dk_18 112 (dk_at dksX6_command_2 15 rfl rfl)
theorem dX6_command_85 : decode cX6_command 85 = .ok (.invokevirtual 84, 3) := dk_182 0 84 (dk_at dksX6_command_2 17 rfl rfl)
theorem dX6_command_88 : decode cX6_command 88 = .ok (.ifCond .eq 61, 3) := dk_153 0 61 (dk_at dksX6_command_2 20 rfl rfl)
theorem dX6_command_91 : decode cX6_command 91 = .ok (.iconst 1, 1) := dk_4 (dk_at dksX6_command_2 23 rfl rfl)
theorem dX6_command_92 : decode cX6_command 92 = .ok (.istore_n 2, 1) := dk_61 (dk_at dksX6_command_3 0 rfl rfl)
theorem dX6_command_93 : decode cX6_command 93 = .ok (.goto 56, 3) := dk_167 0 56 (dk_at dksX6_command_3 1 rfl rfl)
theorem dX6_command_96 : decode cX6_command 96 = .ok (.aload_n 1, 1) := dk_43 (dk_at dksX6_command_3 4 rfl rfl)
theorem dX6_command_97 : decode cX6_command 97 = .ok (.ldc 114, 2) := dk_18 114 (dk_at dksX6_command_3 5 rfl rfl)
theorem dX6_command_99 : decode cX6_command 99 = .ok (.invokevirtual 84, 3) := dk_182 0 84 (dk_at dksX6_command_3 7 rfl rfl)
theorem dX6_command_102 : decode cX6_command 102 = .ok (.ifCond .eq 47, 3) := dk_153 0 47 (dk_at dksX6_command_3 10 rfl rfl)
theorem dX6_command_105 : decode cX6_command 105 = .ok (.iconst 2, 1) := dk_5 (dk_at dksX6_command_3 13 rfl rfl)
theorem dX6_command_106 : decode cX6_command 106 = .ok (.istore_n 2, 1) := dk_61 (dk_at dksX6_command_3 14 rfl rfl)
theorem dX6_command_107 : decode cX6_command 107 = .ok (.goto 42, 3) := dk_167 0 42 (dk_at dksX6_command_3 15 rfl rfl)
theorem dX6_command_110 : decode cX6_command 110 = .ok (.aload_n 1, 1) := dk_43 (dk_at dksX6_command_3 18 rfl rfl)
theorem dX6_command_111 : decode cX6_command 111 = .ok (.ldc 116, 2) := dk_18 116 (dk_at dksX6_command_3 19 rfl rfl)
theorem dX6_command_113 : decode cX6_command 113 = .ok (.invokevirtual 84, 3) := dk_182 0 84 (dk_at dksX6_command_3 21 rfl rfl)
theorem dX6_command_116 : decode cX6_command 116 = .ok (.ifCond .eq 33, 3) := dk_153 0 33 (dk_at dksX6_command_4 0 rfl rfl)
theorem dX6_command_119 : decode cX6_command 119 = .ok (.iconst 3, 1) := dk_6 (dk_at dksX6_command_4 3 rfl rfl)
theorem dX6_command_120 : decode cX6_command 120 = .ok (.istore_n 2, 1) := dk_61 (dk_at dksX6_command_4 4 rfl rfl)
theorem dX6_command_121 : decode cX6_command 121 = .ok (.goto 28, 3) := dk_167 0 28 (dk_at dksX6_command_4 5 rfl rfl)
theorem dX6_command_124 : decode cX6_command 124 = .ok (.aload_n 1, 1) := dk_43 (dk_at dksX6_command_4 8 rfl rfl)
theorem dX6_command_125 : decode cX6_command 125 = .ok (.ldc 118, 2) := dk_18 118 (dk_at dksX6_command_4 9 rfl rfl)
theorem dX6_command_127 : decode cX6_command 127 = .ok (.invokevirtual 84, 3) := dk_182 0 84 (dk_at dksX6_command_4 11 rfl rfl)
theorem dX6_command_130 : decode cX6_command 130 = .ok (.ifCond .eq 19, 3) := dk_153 0 19 (dk_at dksX6_command_4 14 rfl rfl)
theorem dX6_command_133 : decode cX6_command 133 = .ok (.iconst 4, 1) := dk_7 (dk_at dksX6_command_4 17 rfl rfl)
theorem dX6_command_134 : decode cX6_command 134 = .ok (.istore_n 2, 1) := dk_61 (dk_at dksX6_command_4 18 rfl rfl)
theorem dX6_command_135 : decode cX6_command 135 = .ok (.goto 14, 3) := dk_167 0 14 (dk_at dksX6_command_4 19 rfl rfl)
theorem dX6_command_138 : decode cX6_command 138 = .ok (.aload_n 1, 1) := dk_43 (dk_at dksX6_command_4 22 rfl rfl)
theorem dX6_command_139 : decode cX6_command 139 = .ok (.ldc 120, 2) := dk_18 120 (dk_at dksX6_command_5 0 rfl rfl)
theorem dX6_command_141 : decode cX6_command 141 = .ok (.invokevirtual 84, 3) := dk_182 0 84 (dk_at dksX6_command_5 2 rfl rfl)
theorem dX6_command_144 : decode cX6_command 144 = .ok (.ifCond .eq 5, 3) := dk_153 0 5 (dk_at dksX6_command_5 5 rfl rfl)
theorem dX6_command_147 : decode cX6_command 147 = .ok (.iconst 5, 1) := dk_8 (dk_at dksX6_command_5 8 rfl rfl)
theorem dX6_command_148 : decode cX6_command 148 = .ok (.istore_n 2, 1) := dk_61 (dk_at dksX6_command_5 9 rfl rfl)
theorem dX6_command_149 : decode cX6_command 149 = .ok (.iload_n 2, 1) := dk_28 (dk_at dksX6_command_5 10 rfl rfl)
theorem dX6_command_150 : decode cX6_command 150 = .ok (.tableswitch 113 0 5 #[38, 45, 52, 60, 68, 91], 38) := by decide +kernel
theorem dX6_command_188 : decode cX6_command 188 = .ok (.aload_n 0, 1) := dk_42 (dk_at dksX6_command_7 0 rfl rfl)
theorem dX6_command_189 : decode cX6_command 189 = .ok (.invokevirtual 122, 3) := dk_182 0 122 (dk_at dksX6_command_7 1 rfl rfl)
theorem dX6_command_192 : decode cX6_command 192 = .ok (.goto 77, 3) := dk_167 0 77 (dk_at dksX6_command_7 4 rfl rfl)
theorem dX6_command_195 : decode cX6_command 195 = .ok (.aload_n 0, 1) := dk_42 (dk_at dksX6_command_7 7 rfl rfl)
theorem dX6_command_196 : decode cX6_command 196 = .ok (.invokevirtual 124, 3) := dk_182 0 124 (dk_at dksX6_command_7 8 rfl rfl)
theorem dX6_command_199 : decode cX6_command 199 = .ok (.goto 70, 3) := dk_167 0 70 (dk_at dksX6_command_7 11 rfl rfl)
theorem dX6_command_202 : decode cX6_command 202 = .ok (.aload_n 0, 1) := dk_42 (dk_at dksX6_command_7 14 rfl rfl)
theorem dX6_command_203 : decode cX6_command 203 = .ok (.iconst 1, 1) := dk_4 (dk_at dksX6_command_7 15 rfl rfl)
theorem dX6_command_204 : decode cX6_command 204 = .ok (.invokevirtual 127, 3) := dk_182 0 127 (dk_at dksX6_command_7 16 rfl rfl)
theorem dX6_command_207 : decode cX6_command 207 = .ok (.goto 62, 3) := dk_167 0 62 (dk_at dksX6_command_7 19 rfl rfl)
theorem dX6_command_210 : decode cX6_command 210 = .ok (.aload_n 0, 1) := dk_42 (dk_at dksX6_command_7 22 rfl rfl)
theorem dX6_command_211 : decode cX6_command 211 = .ok (.iconst 0, 1) := dk_3 (dk_at dksX6_command_7 23 rfl rfl)
theorem dX6_command_212 : decode cX6_command 212 = .ok (.invokevirtual 127, 3) := dk_182 0 127 (dk_at dksX6_command_8 0 rfl rfl)
theorem dX6_command_215 : decode cX6_command 215 = .ok (.goto 54, 3) := dk_167 0 54 (dk_at dksX6_command_8 3 rfl rfl)
theorem dX6_command_218 : decode cX6_command 218 = .ok (.aload_n 0, 1) := dk_42 (dk_at dksX6_command_8 6 rfl rfl)
theorem dX6_command_219 : decode cX6_command 219 = .ok (.getfield 21, 3) := dk_180 0 21 (dk_at dksX6_command_8 7 rfl rfl)
theorem dX6_command_222 : decode cX6_command 222 = .ok (.getfield 131, 3) := dk_180 0 131 (dk_at dksX6_command_8 10 rfl rfl)
theorem dX6_command_225 : decode cX6_command 225 = .ok (.iconst 0, 1) := dk_3 (dk_at dksX6_command_8 13 rfl rfl)
theorem dX6_command_226 : decode cX6_command 226 = .ok (.aload_n 0, 1) := dk_42 (dk_at dksX6_command_8 14 rfl rfl)
theorem dX6_command_227 : decode cX6_command 227 = .ok (.iconst 1, 1) := dk_4 (dk_at dksX6_command_8 15 rfl rfl)
theorem dX6_command_228 : decode cX6_command 228 = .ok (.bipush 12, 2) := dk_16 12 (dk_at dksX6_command_8 16 rfl rfl)
theorem dX6_command_230 : decode cX6_command 230 = .ok (.invokevirtual 90, 3) := dk_182 0 90 (dk_at dksX6_command_8 18 rfl rfl)
theorem dX6_command_233 : decode cX6_command 233 = .ok (.iastore, 1) := dk_79 (dk_at dksX6_command_8 21 rfl rfl)
theorem dX6_command_234 : decode cX6_command 234 = .ok (.aload_n 0, 1) := dk_42 (dk_at dksX6_command_8 22 rfl rfl)
theorem dX6_command_235 : decode cX6_command 235 = .ok (.invokevirtual 72, 3) := dk_182 0 72 (dk_at dksX6_command_9 0 rfl rfl)
theorem dX6_command_238 : decode cX6_command 238 = .ok (.goto 31, 3) := dk_167 0 31 (dk_at dksX6_command_9 3 rfl rfl)
theorem dX6_command_241 : decode cX6_command 241 = .ok (.aload_n 0, 1) := dk_42 (dk_at dksX6_command_9 6 rfl rfl)
theorem dX6_command_242 : decode cX6_command 242 = .ok (.getfield 21, 3) := dk_180 0 21 (dk_at dksX6_command_9 7 rfl rfl)
theorem dX6_command_245 : decode cX6_command 245 = .ok (.getfield 131, 3) := dk_180 0 131 (dk_at dksX6_command_9 10 rfl rfl)
theorem dX6_command_248 : decode cX6_command 248 = .ok (.iconst 1, 1) := dk_4 (dk_at dksX6_command_9 13 rfl rfl)
theorem dX6_command_249 : decode cX6_command 249 = .ok (.aload_n 0, 1) := dk_42 (dk_at dksX6_command_9 14 rfl rfl)
theorem dX6_command_250 : decode cX6_command 250 = .ok (.iconst 0, 1) := dk_3 (dk_at dksX6_command_9 15 rfl rfl)
theorem dX6_command_251 : decode cX6_command 251 = .ok (.iconst 2, 1) := dk_5 (dk_at dksX6_command_9 16 rfl rfl)
theorem dX6_command_252 : decode cX6_command 252 = .ok (.invokevirtual 90, 3) := dk_182 0 90 (dk_at dksX6_command_9 17 rfl rfl)
theorem dX6_command_255 : decode cX6_command 255 = .ok (.iastore, 1) := dk_79 (dk_at dksX6_command_9 20 rfl rfl)
theorem dX6_command_256 : decode cX6_command 256 = .ok (.aload_n 0, 1) := dk_42 (dk_at dksX6_command_9 21 rfl rfl)
theorem dX6_command_257 : decode cX6_command 257 = .ok (.invokevirtual 72, 3) := dk_182 0 72 (dk_at dksX6_command_10 0 rfl rfl)
theorem dX6_command_260 : decode cX6_command 260 = .ok (.goto 9, 3) := dk_167 0 9 (dk_at dksX6_command_10 3 rfl rfl)
theorem dX6_command_263 : decode cX6_command 263 = .ok (.aload_n 0, 1) := dk_42 (dk_at dksX6_command_10 6 rfl rfl)
theorem dX6_command_264 : decode cX6_command 264 = .ok (.iconst 1, 1) := dk_4 (dk_at dksX6_command_10 7 rfl rfl)
theorem dX6_command_265 : decode cX6_command 265 = .ok (.invokevirtual 63, 3) := dk_182 0 63 (dk_at dksX6_command_10 8 rfl rfl)
theorem dX6_command_268 : decode cX6_command 268 = .ok (.athrow, 1) := dk_191 (dk_at dksX6_command_10 11 rfl rfl)
theorem dX6_command_269 : decode cX6_command 269 = .ok (.return_, 1) := dk_177 (dk_at dksX6_command_10 12 rfl rfl)
abbrev cX6_commands : ByteArray := prog_7_method_8_code
def yX6_commands : MethodName := ⟨RX6, "commands", "()I"⟩
def dkwX6_commands_2 : List UInt8 := [132, 1, 1, 167, 255, 210, 27, 172]
abbrev dktX6_commands_2 : List UInt8 := dkwX6_commands_2 ++ []
def dkwX6_commands_1 : List UInt8 := [187, 0, 67, 89, 44, 42, 180, 0, 36, 183, 0, 103, 191, 42, 5, 182, 0, 75, 42, 182, 0, 72]
abbrev dktX6_commands_1 : List UInt8 := dkwX6_commands_1 ++ dktX6_commands_2
def dkwX6_commands_0 : List UInt8 := [3, 60, 42, 180, 0, 39, 8, 159, 0, 44, 42, 3, 182, 0, 75, 42, 182, 0, 98, 167, 0, 17, 77]
abbrev dktX6_commands_0 : List UInt8 := dkwX6_commands_0 ++ dktX6_commands_1
theorem dksX6_commands_0 : cX6_commands.data.toList.drop 0 = dktX6_commands_0 := by decide +kernel
theorem dksX6_commands_1 : cX6_commands.data.toList.drop 23 = dktX6_commands_1 := dk_seg dksX6_commands_0 23 rfl rfl
theorem dksX6_commands_2 : cX6_commands.data.toList.drop 45 = dktX6_commands_2 := dk_seg dksX6_commands_1 22 rfl rfl
theorem dX6_commands_0 : decode cX6_commands 0 = .ok (.iconst 0, 1) := dk_3 (dk_at dksX6_commands_0 0 rfl rfl)
theorem dX6_commands_1 : decode cX6_commands 1 = .ok (.istore_n 1, 1) := dk_60 (dk_at dksX6_commands_0 1 rfl rfl)
theorem dX6_commands_2 : decode cX6_commands 2 = .ok (.aload_n 0, 1) := dk_42 (dk_at dksX6_commands_0 2 rfl rfl)
theorem dX6_commands_3 : decode cX6_commands 3 = .ok (.getfield 39, 3) := dk_180 0 39 (dk_at dksX6_commands_0 3 rfl rfl)
theorem dX6_commands_6 : decode cX6_commands 6 = .ok (.iconst 5, 1) := dk_8 (dk_at dksX6_commands_0 6 rfl rfl)
theorem dX6_commands_7 : decode cX6_commands 7 = .ok (.if_icmp .eq 44, 3) := dk_159 0 44 (dk_at dksX6_commands_0 7 rfl rfl)
theorem dX6_commands_10 : decode cX6_commands 10 = .ok (.aload_n 0, 1) := dk_42 (dk_at dksX6_commands_0 10 rfl rfl)
theorem dX6_commands_11 : decode cX6_commands 11 = .ok (.iconst 0, 1) := dk_3 (dk_at dksX6_commands_0 11 rfl rfl)
theorem dX6_commands_12 : decode cX6_commands 12 = .ok (.invokevirtual 75, 3) := dk_182 0 75 (dk_at dksX6_commands_0 12 rfl rfl)
theorem dX6_commands_15 : decode cX6_commands 15 = .ok (.aload_n 0, 1) := dk_42 (dk_at dksX6_commands_0 15 rfl rfl)
theorem dX6_commands_16 : decode cX6_commands 16 = .ok (.invokevirtual 98, 3) := dk_182 0 98 (dk_at dksX6_commands_0 16 rfl rfl)
theorem dX6_commands_19 : decode cX6_commands 19 = .ok (.goto 17, 3) := dk_167 0 17 (dk_at dksX6_commands_0 19 rfl rfl)
theorem dX6_commands_22 : decode cX6_commands 22 = .ok (.astore_n 2, 1) := dk_77 (dk_at dksX6_commands_0 22 rfl rfl)
theorem dX6_commands_23 : decode cX6_commands 23 = .ok (.new 67, 3) := dk_187 0 67 (dk_at dksX6_commands_1 0 rfl rfl)
theorem dX6_commands_26 : decode cX6_commands 26 = .ok (.dup, 1) := dk_89 (dk_at dksX6_commands_1 3 rfl rfl)
theorem dX6_commands_27 : decode cX6_commands 27 = .ok (.aload_n 2, 1) := dk_44 (dk_at dksX6_commands_1 4 rfl rfl)
theorem dX6_commands_28 : decode cX6_commands 28 = .ok (.aload_n 0, 1) := dk_42 (dk_at dksX6_commands_1 5 rfl rfl)
theorem dX6_commands_29 : decode cX6_commands 29 = .ok (.getfield 36, 3) := dk_180 0 36 (dk_at dksX6_commands_1 6 rfl rfl)
theorem dX6_commands_32 : decode cX6_commands 32 = .ok (.invokespecial 103, 3) := dk_183 0 103 (dk_at dksX6_commands_1 9 rfl rfl)
theorem dX6_commands_35 : decode cX6_commands 35 = .ok (.athrow, 1) := dk_191 (dk_at dksX6_commands_1 12 rfl rfl)
theorem dX6_commands_36 : decode cX6_commands 36 = .ok (.aload_n 0, 1) := dk_42 (dk_at dksX6_commands_1 13 rfl rfl)
theorem dX6_commands_37 : decode cX6_commands 37 = .ok (.iconst 2, 1) := dk_5 (dk_at dksX6_commands_1 14 rfl rfl)
theorem dX6_commands_38 : decode cX6_commands 38 = .ok (.invokevirtual 75, 3) := dk_182 0 75 (dk_at dksX6_commands_1 15 rfl rfl)
theorem dX6_commands_41 : decode cX6_commands 41 = .ok (.aload_n 0, 1) := dk_42 (dk_at dksX6_commands_1 18 rfl rfl)
theorem dX6_commands_42 : decode cX6_commands 42 = .ok (.invokevirtual 72, 3) := dk_182 0 72 (dk_at dksX6_commands_1 19 rfl rfl)
theorem dX6_commands_45 : decode cX6_commands 45 = .ok (.iinc 1 1, 3) := dk_132 1 1 (dk_at dksX6_commands_2 0 rfl rfl)
theorem dX6_commands_48 : decode cX6_commands 48 = .ok (.goto (-46), 3) := dk_167 255 210 (dk_at dksX6_commands_2 3 rfl rfl)
theorem dX6_commands_51 : decode cX6_commands 51 = .ok (.iload_n 1, 1) := dk_27 (dk_at dksX6_commands_2 6 rfl rfl)
theorem dX6_commands_52 : decode cX6_commands 52 = .ok (.ireturn, 1) := dk_172 (dk_at dksX6_commands_2 7 rfl rfl)
theorem q155 : (Jvm.Cond.initialized "TrailMarkers$Reader") ∈ lw_all := lw_g (lw_at lw_m1 18 rfl) rfl
theorem q162 : (Jvm.Cond.initialized "TrailMarkers$TextException") ∈ lw_all := lw_g (lw_at lw_m1 25 rfl) rfl
theorem q214 : (Jvm.Cond.fieldLink "TrailMarkers$Reader" (146 : Nat) "TrailMarkers$Trails" "width" "I") ∈ lw_all := lw_g (lw_at lw_m1 77 rfl) rfl
theorem q217 : (Jvm.Cond.fieldLink "TrailMarkers$Reader" (149 : Nat) "TrailMarkers$Trails" "height" "I") ∈ lw_all := lw_g (lw_at lw_m1 80 rfl) rfl
theorem q222 : (Jvm.Cond.fieldLink "TrailMarkers$Reader" (179 : Nat) "TrailMarkers$Trails" "posts" "[LTrailMarkers$Post;") ∈ lw_all := lw_g (lw_at lw_m1 85 rfl) rfl
theorem q226 : (Jvm.Cond.fieldLink "TrailMarkers$Reader" (220 : Nat) "TrailMarkers$Trails" "postCount" "I") ∈ lw_all := lw_g (lw_at lw_m1 89 rfl) rfl
theorem q233 : (Jvm.Cond.fieldLink "TrailMarkers$Reader" (131 : Nat) "TrailMarkers$Trails" "settings" "[I") ∈ lw_all := lw_g (lw_at lw_m1 96 rfl) rfl
theorem q288 : (Jvm.Cond.fieldLink "TrailMarkers$Reader" (183 : Nat) "TrailMarkers$Post" "x" "I") ∈ lw_all := lw_g (lw_at lw_m1 151 rfl) rfl
theorem q292 : (Jvm.Cond.fieldLink "TrailMarkers$Reader" (190 : Nat) "TrailMarkers$Post" "y" "I") ∈ lw_all := lw_g (lw_at lw_m1 155 rfl) rfl
theorem q295 : (Jvm.Cond.fieldLink "TrailMarkers$Reader" (196 : Nat) "TrailMarkers$Post" "colour" "I") ∈ lw_all := lw_g (lw_at lw_m1 158 rfl) rfl
theorem q316 : (Jvm.Cond.instanceMethod ({ cls := "TrailMarkers$Trails", name := "add", desc := "(LTrailMarkers$Post;)I" } : Jvm.MethodName)) ∈ lw_all := lw_g (lw_at lw_m1 179 rfl) rfl
theorem q317 : (Jvm.Cond.selects "TrailMarkers$Trails" ({ cls := "TrailMarkers$Trails", name := "add", desc := "(LTrailMarkers$Post;)I" } : Jvm.MethodName) ({ cls := "TrailMarkers$Trails", name := "add", desc := "(LTrailMarkers$Post;)I" } : Jvm.MethodName)) ∈ lw_all := lw_g (lw_at lw_m1 180 rfl) rfl
theorem q318 : (Jvm.Cond.code ({ cls := "TrailMarkers$Trails", name := "add", desc := "(LTrailMarkers$Post;)I" } : Jvm.MethodName) prog_9_method_9_code (2 : Nat) (Option.some Jvm.ClassFile.FieldType.int)) ∈ lw_all := lw_g (lw_at lw_m1 181 rfl) rfl
theorem q411 : (Jvm.Cond.instanceMethod ({ cls := "TrailMarkers$Trails", name := "change", desc := "(IZ)V" } : Jvm.MethodName)) ∈ lw_all := lw_g (lw_at lw_m2 34 rfl) rfl
theorem q412 : (Jvm.Cond.selects "TrailMarkers$Trails" ({ cls := "TrailMarkers$Trails", name := "change", desc := "(IZ)V" } : Jvm.MethodName) ({ cls := "TrailMarkers$Trails", name := "change", desc := "(IZ)V" } : Jvm.MethodName)) ∈ lw_all := lw_g (lw_at lw_m2 35 rfl) rfl
theorem q413 : (Jvm.Cond.code ({ cls := "TrailMarkers$Trails", name := "change", desc := "(IZ)V" } : Jvm.MethodName) prog_9_method_13_code (3 : Nat) (Option.none : Option Jvm.ClassFile.FieldType)) ∈ lw_all := lw_g (lw_at lw_m2 36 rfl) rfl
theorem q421 : (Jvm.Cond.instanceMethod ({ cls := "TrailMarkers$Trails", name := "layBlock", desc := "(II)V" } : Jvm.MethodName)) ∈ lw_all := lw_g (lw_at lw_m2 44 rfl) rfl
theorem q422 : (Jvm.Cond.selects "TrailMarkers$Trails" ({ cls := "TrailMarkers$Trails", name := "layBlock", desc := "(II)V" } : Jvm.MethodName) ({ cls := "TrailMarkers$Trails", name := "layBlock", desc := "(II)V" } : Jvm.MethodName)) ∈ lw_all := lw_g (lw_at lw_m2 45 rfl) rfl
theorem q423 : (Jvm.Cond.code ({ cls := "TrailMarkers$Trails", name := "layBlock", desc := "(II)V" } : Jvm.MethodName) prog_9_method_11_code (3 : Nat) (Option.none : Option Jvm.ClassFile.FieldType)) ∈ lw_all := lw_g (lw_at lw_m2 46 rfl) rfl
theorem q425 : (Jvm.Cond.fieldLinkNest "TrailMarkers$Reader" (32 : Nat) "TrailMarkers" "input" "[B" "TrailMarkers") ∈ lw_tbl := lw_at lw_m2 48 rfl
theorem q427 : (Jvm.Cond.fieldLinkNest "TrailMarkers$Reader" (29 : Nat) "TrailMarkers" "inputLength" "I" "TrailMarkers") ∈ lw_tbl := lw_at lw_m2 50 rfl
theorem q472 : (Jvm.Cond.methodLink "TrailMarkers$Reader" (9 : Nat) ({ cls := "java/lang/Object", name := "<init>", desc := "()V" } : Jvm.MethodName)) ∈ lw_all := lw_g (lw_at lw_m2 95 rfl) rfl
theorem q474 : (Jvm.Cond.fieldLink "TrailMarkers$Reader" (21 : Nat) "TrailMarkers$Reader" "to" "LTrailMarkers$Trails;") ∈ lw_all := lw_g (lw_at lw_m2 97 rfl) rfl
theorem q475 : (Jvm.Cond.fieldLink "TrailMarkers$Reader" (25 : Nat) "TrailMarkers$Reader" "at" "I") ∈ lw_all := lw_g (lw_at lw_m2 98 rfl) rfl
theorem q476 : (Jvm.Cond.fieldLink "TrailMarkers$Reader" (36 : Nat) "TrailMarkers$Reader" "start" "I") ∈ lw_all := lw_g (lw_at lw_m2 99 rfl) rfl
theorem q477 : (Jvm.Cond.fieldLink "TrailMarkers$Reader" (39 : Nat) "TrailMarkers$Reader" "type" "I") ∈ lw_all := lw_g (lw_at lw_m2 100 rfl) rfl
theorem q478 : (Jvm.Cond.fieldLink "TrailMarkers$Reader" (42 : Nat) "TrailMarkers$Reader" "value" "I") ∈ lw_all := lw_g (lw_at lw_m2 101 rfl) rfl
theorem q479 : (Jvm.Cond.fieldLink "TrailMarkers$Reader" (17 : Nat) "TrailMarkers$Reader" "word" "Ljava/lang/String;") ∈ lw_all := lw_g (lw_at lw_m2 102 rfl) rfl
theorem q480 : (Jvm.Cond.fieldLink "TrailMarkers$Reader" (161 : Nat) "TrailMarkers$Reader" "latest" "I") ∈ lw_all := lw_g (lw_at lw_m2 103 rfl) rfl
theorem q481 : (Jvm.Cond.fieldLink "TrailMarkers$Reader" (164 : Nat) "TrailMarkers$Reader" "open" "I") ∈ lw_all := lw_g (lw_at lw_m2 104 rfl) rfl
theorem q482 : (Jvm.Cond.fieldLink "TrailMarkers$Reader" (3 : Nat) "TrailMarkers$Reader" "this$0" "LTrailMarkers;") ∈ lw_all := lw_g (lw_at lw_m2 105 rfl) rfl
theorem q506 : (Jvm.Cond.methodLink "TrailMarkers$Reader" (72 : Nat) ({ cls := "TrailMarkers$Reader", name := "advance", desc := "()V" } : Jvm.MethodName)) ∈ lw_all := lw_g (lw_at lw_m2 129 rfl) rfl
theorem q507 : (Jvm.Cond.instanceMethod ({ cls := "TrailMarkers$Reader", name := "advance", desc := "()V" } : Jvm.MethodName)) ∈ lw_all := lw_g (lw_at lw_m2 130 rfl) rfl
theorem q508 : (Jvm.Cond.selects "TrailMarkers$Reader" ({ cls := "TrailMarkers$Reader", name := "advance", desc := "()V" } : Jvm.MethodName) ({ cls := "TrailMarkers$Reader", name := "advance", desc := "()V" } : Jvm.MethodName)) ∈ lw_all := lw_g (lw_at lw_m2 131 rfl) rfl
theorem q509 : (Jvm.Cond.code ({ cls := "TrailMarkers$Reader", name := "advance", desc := "()V" } : Jvm.MethodName) prog_7_method_2_code (3 : Nat) (Option.none : Option Jvm.ClassFile.FieldType)) ∈ lw_all := lw_g (lw_at lw_m2 132 rfl) rfl
theorem q510 : (Jvm.Cond.constant "TrailMarkers$Reader" (45 : Nat) (100000 : Int32)) ∈ lw_all := lw_g (lw_at lw_m2 133 rfl) rfl
theorem q511 : (Jvm.Cond.methodLink "TrailMarkers$Reader" (46 : Nat) ({ cls := "java/lang/Math", name := "min", desc := "(II)I" } : Jvm.MethodName)) ∈ lw_all := lw_g (lw_at lw_m2 134 rfl) rfl
theorem q514 : (Jvm.Cond.classLink "TrailMarkers$Reader" (52 : Nat) "java/lang/StringBuilder") ∈ lw_all := lw_g (lw_at lw_m2 137 rfl) rfl
theorem q516 : (Jvm.Cond.methodLink "TrailMarkers$Reader" (54 : Nat) ({ cls := "java/lang/StringBuilder", name := "<init>", desc := "()V" } : Jvm.MethodName)) ∈ lw_all := lw_g (lw_at lw_m2 139 rfl) rfl
theorem q546 : (Jvm.Cond.methodLink "TrailMarkers$Reader" (55 : Nat) ({ cls := "java/lang/StringBuilder", name := "append", desc := "(C)Ljava/lang/StringBuilder;" } : Jvm.MethodName)) ∈ lw_all := lw_g (lw_at lw_m2 169 rfl) rfl
theorem q639 : (Jvm.Cond.methodLink "TrailMarkers$Reader" (59 : Nat) ({ cls := "java/lang/StringBuilder", name := "toString", desc := "()Ljava/lang/String;" } : Jvm.MethodName)) ∈ lw_all := lw_g (lw_at lw_m3 22 rfl) rfl
theorem q640 : (Jvm.Cond.instanceMethod ({ cls := "java/lang/StringBuilder", name := "toString", desc := "()Ljava/lang/String;" } : Jvm.MethodName)) ∈ lw_all := lw_g (lw_at lw_m3 23 rfl) rfl
theorem q641 : (Jvm.Cond.selects "java/lang/StringBuilder" ({ cls := "java/lang/StringBuilder", name := "toString", desc := "()Ljava/lang/String;" } : Jvm.MethodName) ({ cls := "java/lang/StringBuilder", name := "toString", desc := "()Ljava/lang/String;" } : Jvm.MethodName)) ∈ lw_all := lw_g (lw_at lw_m3 24 rfl) rfl
theorem q642 : (Jvm.Cond.code ({ cls := "java/lang/StringBuilder", name := "toString", desc := "()Ljava/lang/String;" } : Jvm.MethodName) prog_37_method_42_code (1 : Nat) (Option.some (Jvm.ClassFile.FieldType.object "java/lang/String"))) ∈ lw_all := lw_g (lw_at lw_m3 25 rfl) rfl
theorem q802 : (Jvm.Cond.methodLink "TrailMarkers$Reader" (63 : Nat) ({ cls := "TrailMarkers$Reader", name := "error", desc := "(I)LTrailMarkers$TextException;" } : Jvm.MethodName)) ∈ lw_all := lw_g (lw_at lw_m3 185 rfl) rfl
theorem q804 : (Jvm.Cond.instanceMethod ({ cls := "TrailMarkers$Reader", name := "error", desc := "(I)LTrailMarkers$TextException;" } : Jvm.MethodName)) ∈ lw_all := lw_g (lw_at lw_m3 187 rfl) rfl
theorem q805 : (Jvm.Cond.code ({ cls := "TrailMarkers$Reader", name := "error", desc := "(I)LTrailMarkers$TextException;" } : Jvm.MethodName) prog_7_method_3_code (2 : Nat) (Option.some (Jvm.ClassFile.FieldType.object "TrailMarkers$TextException"))) ∈ lw_all := lw_g (lw_at lw_m3 188 rfl) rfl
theorem q806 : (Jvm.Cond.classLink "TrailMarkers$Reader" (67 : Nat) "TrailMarkers$TextException") ∈ lw_all := lw_g (lw_at lw_m3 189 rfl) rfl
theorem q807 : (Jvm.Cond.instantiable "TrailMarkers$TextException" (8 : Nat)) ∈ lw_all := lw_g (lw_at lw_m3 190 rfl) rfl
theorem q815 : (Jvm.Cond.methodLink "TrailMarkers$Reader" (69 : Nat) ({ cls := "TrailMarkers$TextException", name := "<init>", desc := "(II)V" } : Jvm.MethodName)) ∈ lw_all := lw_g (lw_at lw_m3 198 rfl) rfl
theorem q816 : (Jvm.Cond.instanceMethod ({ cls := "TrailMarkers$TextException", name := "<init>", desc := "(II)V" } : Jvm.MethodName)) ∈ lw_all := lw_g (lw_at lw_m3 199 rfl) rfl
theorem q817 : (Jvm.Cond.code ({ cls := "TrailMarkers$TextException", name := "<init>", desc := "(II)V" } : Jvm.MethodName) prog_8_method_1_code (3 : Nat) (Option.none : Option Jvm.ClassFile.FieldType)) ∈ lw_all := lw_g (lw_at lw_m3 200 rfl) rfl
theorem q829 : (Jvm.Cond.methodLink "TrailMarkers$Reader" (75 : Nat) ({ cls := "TrailMarkers$Reader", name := "expect", desc := "(I)V" } : Jvm.MethodName)) ∈ lw_all := lw_g (lw_at lw_m3 212 rfl) rfl
theorem q831 : (Jvm.Cond.instanceMethod ({ cls := "TrailMarkers$Reader", name := "expect", desc := "(I)V" } : Jvm.MethodName)) ∈ lw_all := lw_g (lw_at lw_m3 214 rfl) rfl
theorem q832 : (Jvm.Cond.code ({ cls := "TrailMarkers$Reader", name := "expect", desc := "(I)V" } : Jvm.MethodName) prog_7_method_4_code (2 : Nat) (Option.none : Option Jvm.ClassFile.FieldType)) ∈ lw_all := lw_g (lw_at lw_m3 215 rfl) rfl
theorem q834 : (Jvm.Cond.methodLink "TrailMarkers$Reader" (84 : Nat) ({ cls := "java/lang/String", name := "equals", desc := "(Ljava/lang/Object;)Z" } : Jvm.MethodName)) ∈ lw_all := lw_g (lw_at lw_m3 217 rfl) rfl
theorem q836 : (Jvm.Cond.selects "java/lang/String" ({ cls := "java/lang/String", name := "equals", desc := "(Ljava/lang/Object;)Z" } : Jvm.MethodName) ({ cls := "java/lang/String", name := "equals", desc := "(Ljava/lang/Object;)Z" } : Jvm.MethodName)) ∈ lw_all := lw_g (lw_at lw_m3 219 rfl) rfl
theorem q842 : (Jvm.Cond.methodLink "TrailMarkers$Reader" (90 : Nat) ({ cls := "TrailMarkers$Reader", name := "number", desc := "(II)I" } : Jvm.MethodName)) ∈ lw_all := lw_g (lw_at lw_m3 225 rfl) rfl
theorem q844 : (Jvm.Cond.instanceMethod ({ cls := "TrailMarkers$Reader", name := "number", desc := "(II)I" } : Jvm.MethodName)) ∈ lw_all := lw_g (lw_at lw_m3 227 rfl) rfl
theorem q845 : (Jvm.Cond.code ({ cls := "TrailMarkers$Reader", name := "number", desc := "(II)I" } : Jvm.MethodName) prog_7_method_6_code (3 : Nat) (Option.some Jvm.ClassFile.FieldType.int)) ∈ lw_all := lw_g (lw_at lw_m3 228 rfl) rfl
theorem q846 : (Jvm.Cond.methodLink "TrailMarkers$Reader" (79 : Nat) ({ cls := "TrailMarkers$Reader", name := "needRange", desc := "(II)V" } : Jvm.MethodName)) ∈ lw_all := lw_g (lw_at lw_m3 229 rfl) rfl
theorem q848 : (Jvm.Cond.instanceMethod ({ cls := "TrailMarkers$Reader", name := "needRange", desc := "(II)V" } : Jvm.MethodName)) ∈ lw_all := lw_g (lw_at lw_m3 231 rfl) rfl
theorem q849 : (Jvm.Cond.code ({ cls := "TrailMarkers$Reader", name := "needRange", desc := "(II)V" } : Jvm.MethodName) prog_7_method_5_code (3 : Nat) (Option.none : Option Jvm.ClassFile.FieldType)) ∈ lw_all := lw_g (lw_at lw_m3 232 rfl) rfl
theorem q850 : (Jvm.Cond.classLink "TrailMarkers$Reader" (93 : Nat) "TrailMarkers$Trails") ∈ lw_all := lw_g (lw_at lw_m3 233 rfl) rfl
theorem q851 : (Jvm.Cond.methodLink "TrailMarkers$Reader" (95 : Nat) ({ cls := "TrailMarkers$Trails", name := "<init>", desc := "(IIII)V" } : Jvm.MethodName)) ∈ lw_all := lw_g (lw_at lw_m3 234 rfl) rfl
theorem q856 : (Jvm.Cond.classLink "TrailMarkers$Reader" (101 : Nat) "TrailMarkers$PlaceException") ∈ lw_all := lw_g (lw_at lw_m3 239 rfl) rfl
theorem q857 : (Jvm.Cond.methodLink "TrailMarkers$Reader" (98 : Nat) ({ cls := "TrailMarkers$Reader", name := "command", desc := "()V" } : Jvm.MethodName)) ∈ lw_all := lw_g (lw_at lw_m4 0 rfl) rfl
theorem q859 : (Jvm.Cond.instanceMethod ({ cls := "TrailMarkers$Reader", name := "command", desc := "()V" } : Jvm.MethodName)) ∈ lw_all := lw_g (lw_at lw_m4 2 rfl) rfl
theorem q860 : (Jvm.Cond.code ({ cls := "TrailMarkers$Reader", name := "command", desc := "()V" } : Jvm.MethodName) prog_7_method_9_code (3 : Nat) (Option.none : Option Jvm.ClassFile.FieldType)) ∈ lw_all := lw_g (lw_at lw_m4 3 rfl) rfl
theorem q861 : (Jvm.Cond.methodLink "TrailMarkers$Reader" (106 : Nat) ({ cls := "java/lang/String", name := "hashCode", desc := "()I" } : Jvm.MethodName)) ∈ lw_all := lw_g (lw_at lw_m4 4 rfl) rfl
theorem q863 : (Jvm.Cond.selects "java/lang/String" ({ cls := "java/lang/String", name := "hashCode", desc := "()I" } : Jvm.MethodName) ({ cls := "java/lang/String", name := "hashCode", desc := "()I" } : Jvm.MethodName)) ∈ lw_all := lw_g (lw_at lw_m4 6 rfl) rfl
theorem q928 : (Jvm.Cond.methodLink "TrailMarkers$Reader" (122 : Nat) ({ cls := "TrailMarkers$Reader", name := "blaze", desc := "()V" } : Jvm.MethodName)) ∈ lw_all := lw_g (lw_at lw_m4 71 rfl) rfl
theorem q930 : (Jvm.Cond.instanceMethod ({ cls := "TrailMarkers$Reader", name := "blaze", desc := "()V" } : Jvm.MethodName)) ∈ lw_all := lw_g (lw_at lw_m4 73 rfl) rfl
theorem q931 : (Jvm.Cond.code ({ cls := "TrailMarkers$Reader", name := "blaze", desc := "()V" } : Jvm.MethodName) prog_7_method_11_code (4 : Nat) (Option.none : Option Jvm.ClassFile.FieldType)) ∈ lw_all := lw_g (lw_at lw_m4 74 rfl) rfl
theorem q932 : (Jvm.Cond.methodLink "TrailMarkers$Reader" (143 : Nat) ({ cls := "TrailMarkers$Reader", name := "colourWord", desc := "()I" } : Jvm.MethodName)) ∈ lw_all := lw_g (lw_at lw_m4 75 rfl) rfl
theorem q934 : (Jvm.Cond.instanceMethod ({ cls := "TrailMarkers$Reader", name := "colourWord", desc := "()I" } : Jvm.MethodName)) ∈ lw_all := lw_g (lw_at lw_m4 77 rfl) rfl
theorem q935 : (Jvm.Cond.code ({ cls := "TrailMarkers$Reader", name := "colourWord", desc := "()I" } : Jvm.MethodName) prog_7_method_10_code (3 : Nat) (Option.some Jvm.ClassFile.FieldType.int)) ∈ lw_all := lw_g (lw_at lw_m4 78 rfl) rfl
theorem q940 : (Jvm.Cond.classLink "TrailMarkers$Reader" (152 : Nat) "TrailMarkers$Post") ∈ lw_all := lw_g (lw_at lw_m4 83 rfl) rfl
theorem q941 : (Jvm.Cond.methodLink "TrailMarkers$Reader" (154 : Nat) ({ cls := "TrailMarkers$Post", name := "<init>", desc := "(IIIIZ)V" } : Jvm.MethodName)) ∈ lw_all := lw_g (lw_at lw_m4 84 rfl) rfl
theorem q942 : (Jvm.Cond.methodLink "TrailMarkers$Reader" (157 : Nat) ({ cls := "TrailMarkers$Trails", name := "add", desc := "(LTrailMarkers$Post;)I" } : Jvm.MethodName)) ∈ lw_all := lw_g (lw_at lw_m4 85 rfl) rfl
theorem q943 : (Jvm.Cond.methodLink "TrailMarkers$Reader" (167 : Nat) ({ cls := "TrailMarkers$Reader", name := "items", desc := "()V" } : Jvm.MethodName)) ∈ lw_all := lw_g (lw_at lw_m4 86 rfl) rfl
theorem q945 : (Jvm.Cond.instanceMethod ({ cls := "TrailMarkers$Reader", name := "items", desc := "()V" } : Jvm.MethodName)) ∈ lw_all := lw_g (lw_at lw_m4 88 rfl) rfl
theorem q946 : (Jvm.Cond.code ({ cls := "TrailMarkers$Reader", name := "items", desc := "()V" } : Jvm.MethodName) prog_7_method_12_code (2 : Nat) (Option.none : Option Jvm.ClassFile.FieldType)) ∈ lw_all := lw_g (lw_at lw_m4 89 rfl) rfl
theorem q947 : (Jvm.Cond.methodLink "TrailMarkers$Reader" (170 : Nat) ({ cls := "TrailMarkers$Reader", name := "group", desc := "(I)V" } : Jvm.MethodName)) ∈ lw_all := lw_g (lw_at lw_m4 90 rfl) rfl
theorem q949 : (Jvm.Cond.instanceMethod ({ cls := "TrailMarkers$Reader", name := "group", desc := "(I)V" } : Jvm.MethodName)) ∈ lw_all := lw_g (lw_at lw_m4 92 rfl) rfl
theorem q950 : (Jvm.Cond.code ({ cls := "TrailMarkers$Reader", name := "group", desc := "(I)V" } : Jvm.MethodName) prog_7_method_13_code (4 : Nat) (Option.none : Option Jvm.ClassFile.FieldType)) ∈ lw_all := lw_g (lw_at lw_m4 93 rfl) rfl
theorem q951 : (Jvm.Cond.methodLink "TrailMarkers$Reader" (173 : Nat) ({ cls := "TrailMarkers$Reader", name := "leg", desc := "(I)V" } : Jvm.MethodName)) ∈ lw_all := lw_g (lw_at lw_m4 94 rfl) rfl
theorem q953 : (Jvm.Cond.instanceMethod ({ cls := "TrailMarkers$Reader", name := "leg", desc := "(I)V" } : Jvm.MethodName)) ∈ lw_all := lw_g (lw_at lw_m4 96 rfl) rfl
theorem q954 : (Jvm.Cond.code ({ cls := "TrailMarkers$Reader", name := "leg", desc := "(I)V" } : Jvm.MethodName) prog_7_method_14_code (7 : Nat) (Option.none : Option Jvm.ClassFile.FieldType)) ∈ lw_all := lw_g (lw_at lw_m4 97 rfl) rfl
theorem q955 : (Jvm.Cond.methodLink "TrailMarkers$Reader" (176 : Nat) ({ cls := "TrailMarkers$Reader", name := "directionOfWord", desc := "()I" } : Jvm.MethodName)) ∈ lw_all := lw_g (lw_at lw_m4 98 rfl) rfl
theorem q957 : (Jvm.Cond.instanceMethod ({ cls := "TrailMarkers$Reader", name := "directionOfWord", desc := "()I" } : Jvm.MethodName)) ∈ lw_all := lw_g (lw_at lw_m4 100 rfl) rfl
theorem q958 : (Jvm.Cond.code ({ cls := "TrailMarkers$Reader", name := "directionOfWord", desc := "()I" } : Jvm.MethodName) prog_7_method_15_code (2 : Nat) (Option.some Jvm.ClassFile.FieldType.int)) ∈ lw_all := lw_g (lw_at lw_m4 101 rfl) rfl
theorem q959 : (Jvm.Cond.methodLink "TrailMarkers$Reader" (208 : Nat) ({ cls := "java/lang/String", name := "length", desc := "()I" } : Jvm.MethodName)) ∈ lw_all := lw_g (lw_at lw_m4 102 rfl) rfl
theorem q960 : (Jvm.Cond.methodLink "TrailMarkers$Reader" (211 : Nat) ({ cls := "java/lang/String", name := "charAt", desc := "(I)C" } : Jvm.MethodName)) ∈ lw_all := lw_g (lw_at lw_m4 103 rfl) rfl
theorem q972 : (Jvm.Cond.methodLinkNest "TrailMarkers$Reader" (186 : Nat) ({ cls := "TrailMarkers", name := "stepX", desc := "(I)I" } : Jvm.MethodName) "TrailMarkers") ∈ lw_tbl := lw_at lw_m4 115 rfl
theorem q975 : (Jvm.Cond.methodLinkNest "TrailMarkers$Reader" (193 : Nat) ({ cls := "TrailMarkers", name := "stepY", desc := "(I)I" } : Jvm.MethodName) "TrailMarkers") ∈ lw_tbl := lw_at lw_m4 118 rfl
theorem q978 : (Jvm.Cond.methodLink "TrailMarkers$Reader" (199 : Nat) ({ cls := "TrailMarkers$Post", name := "turned", desc := "(I)LTrailMarkers$Post;" } : Jvm.MethodName)) ∈ lw_all := lw_g (lw_at lw_m4 121 rfl) rfl
theorem q979 : (Jvm.Cond.instanceMethod ({ cls := "TrailMarkers$Post", name := "turned", desc := "(I)LTrailMarkers$Post;" } : Jvm.MethodName)) ∈ lw_all := lw_g (lw_at lw_m4 122 rfl) rfl
theorem q980 : (Jvm.Cond.selects "TrailMarkers$Post" ({ cls := "TrailMarkers$Post", name := "turned", desc := "(I)LTrailMarkers$Post;" } : Jvm.MethodName) ({ cls := "TrailMarkers$Post", name := "turned", desc := "(I)LTrailMarkers$Post;" } : Jvm.MethodName)) ∈ lw_all := lw_g (lw_at lw_m4 123 rfl) rfl
theorem q981 : (Jvm.Cond.code ({ cls := "TrailMarkers$Post", name := "turned", desc := "(I)LTrailMarkers$Post;" } : Jvm.MethodName) prog_6_method_2_code (2 : Nat) (Option.some (Jvm.ClassFile.FieldType.object "TrailMarkers$Post"))) ∈ lw_all := lw_g (lw_at lw_m4 124 rfl) rfl
theorem q983 : (Jvm.Cond.methodLink "TrailMarkers$Reader" (204 : Nat) ({ cls := "TrailMarkers$Trails", name := "change", desc := "(IZ)V" } : Jvm.MethodName)) ∈ lw_all := lw_g (lw_at lw_m4 126 rfl) rfl
theorem q984 : (Jvm.Cond.methodLink "TrailMarkers$Reader" (124 : Nat) ({ cls := "TrailMarkers$Reader", name := "blockAll", desc := "()V" } : Jvm.MethodName)) ∈ lw_all := lw_g (lw_at lw_m4 127 rfl) rfl
theorem q986 : (Jvm.Cond.instanceMethod ({ cls := "TrailMarkers$Reader", name := "blockAll", desc := "()V" } : Jvm.MethodName)) ∈ lw_all := lw_g (lw_at lw_m4 129 rfl) rfl
theorem q987 : (Jvm.Cond.code ({ cls := "TrailMarkers$Reader", name := "blockAll", desc := "()V" } : Jvm.MethodName) prog_7_method_16_code (2 : Nat) (Option.none : Option Jvm.ClassFile.FieldType)) ∈ lw_all := lw_g (lw_at lw_m4 130 rfl) rfl
theorem q988 : (Jvm.Cond.methodLink "TrailMarkers$Reader" (217 : Nat) ({ cls := "TrailMarkers$Trails", name := "layBlock", desc := "(II)V" } : Jvm.MethodName)) ∈ lw_all := lw_g (lw_at lw_m4 131 rfl) rfl
theorem q989 : (Jvm.Cond.methodLink "TrailMarkers$Reader" (127 : Nat) ({ cls := "TrailMarkers$Reader", name := "changeAll", desc := "(Z)V" } : Jvm.MethodName)) ∈ lw_all := lw_g (lw_at lw_m4 132 rfl) rfl
theorem q991 : (Jvm.Cond.instanceMethod ({ cls := "TrailMarkers$Reader", name := "changeAll", desc := "(Z)V" } : Jvm.MethodName)) ∈ lw_all := lw_g (lw_at lw_m4 134 rfl) rfl
theorem q992 : (Jvm.Cond.code ({ cls := "TrailMarkers$Reader", name := "changeAll", desc := "(Z)V" } : Jvm.MethodName) prog_7_method_17_code (2 : Nat) (Option.none : Option Jvm.ClassFile.FieldType)) ∈ lw_all := lw_g (lw_at lw_m4 135 rfl) rfl
theorem q993 : (Jvm.Cond.methodLink "TrailMarkers$Reader" (103 : Nat) ({ cls := "TrailMarkers$TextException", name := "<init>", desc := "(LTrailMarkers$PlaceException;I)V" } : Jvm.MethodName)) ∈ lw_all := lw_g (lw_at lw_m4 136 rfl) rfl
theorem q994 : (Jvm.Cond.instanceMethod ({ cls := "TrailMarkers$TextException", name := "<init>", desc := "(LTrailMarkers$PlaceException;I)V" } : Jvm.MethodName)) ∈ lw_all := lw_g (lw_at lw_m4 137 rfl) rfl
theorem q995 : (Jvm.Cond.code ({ cls := "TrailMarkers$TextException", name := "<init>", desc := "(LTrailMarkers$PlaceException;I)V" } : Jvm.MethodName) prog_8_method_2_code (3 : Nat) (Option.none : Option Jvm.ClassFile.FieldType)) ∈ lw_all := lw_g (lw_at lw_m4 138 rfl) rfl
theorem cf_X6 : CF 5 RX6 TX6 9 := ⟨rfl, in_X6, ⟨tyX6, tyX6_ok⟩, nmX6⟩
theorem fa_X6_39 : FA "TrailMarkers$Reader" 39 5 3 := ⟨RX6, TX6, 9, "TrailMarkers$Reader", cf_X6, by decide, q477, Or.inl rfl⟩
theorem fa_X6_42 : FA "TrailMarkers$Reader" 42 5 4 := ⟨RX6, TX6, 9, "TrailMarkers$Reader", cf_X6, by decide, q478, Or.inl rfl⟩
theorem m_X6_173 : MV "TrailMarkers$Reader" 173 yX6_leg cX6_leg 7 (Option.none : Option Jvm.ClassFile.FieldType) 1 := ⟨q951, q953, qs15, q155, q954, by decide +kernel, by decide +kernel, by decide +kernel⟩
theorem m_X6_170 : MV "TrailMarkers$Reader" 170 yX6_group cX6_group 4 (Option.none : Option Jvm.ClassFile.FieldType) 1 := ⟨q947, q949, qs14, q155, q950, by decide +kernel, by decide +kernel, by decide +kernel⟩
theorem m_X6_72 : MV "TrailMarkers$Reader" 72 yX6_advance cX6_advance 3 (Option.none : Option Jvm.ClassFile.FieldType) 0 := ⟨q506, q507, q508, q155, q509, by decide +kernel, by decide +kernel, by decide +kernel⟩
theorem m_X6_79 : MV "TrailMarkers$Reader" 79 yX6_needRange cX6_needRange 3 (Option.none : Option Jvm.ClassFile.FieldType) 2 := ⟨q846, q848, qs9, q155, q849, by decide +kernel, by decide +kernel, by decide +kernel⟩
theorem m_X6_75 : MV "TrailMarkers$Reader" 75 yX6_expect cX6_expect 2 (Option.none : Option Jvm.ClassFile.FieldType) 1 := ⟨q829, q831, qs7, q155, q832, by decide +kernel, by decide +kernel, by decide +kernel⟩
theorem fa_X6_164 : FA "TrailMarkers$Reader" 164 5 7 := ⟨RX6, TX6, 9, "TrailMarkers$Reader", cf_X6, by decide, q481, Or.inl rfl⟩
theorem fa_X6_25 : FA "TrailMarkers$Reader" 25 5 1 := ⟨RX6, TX6, 9, "TrailMarkers$Reader", cf_X6, by decide, q475, Or.inl rfl⟩
theorem fp_X6_164 : FP "TrailMarkers$Reader" 164 5 7 (tyX6 7) false := ⟨RX6, TX6, 9, "TrailMarkers$Reader", cf_X6, by decide, q481, Or.inl rfl, tyX6_ok 7 (by decide), rfl, fun h9 => nomatch h9⟩
theorem fp_X6_25 : FP "TrailMarkers$Reader" 25 5 1 (tyX6 1) false := ⟨RX6, TX6, 9, "TrailMarkers$Reader", cf_X6, by decide, q475, Or.inl rfl, tyX6_ok 1 (by decide), rfl, fun h9 => nomatch h9⟩
theorem m_X6_167 : MV "TrailMarkers$Reader" 167 yX6_items cX6_items 2 (Option.none : Option Jvm.ClassFile.FieldType) 0 := ⟨q943, q945, qs13, q155, q946, by decide +kernel, by decide +kernel, by decide +kernel⟩
theorem m_X6_63 : MV "TrailMarkers$Reader" 63 yX6_error cX6_error 2 (Option.some (Jvm.ClassFile.FieldType.object "TrailMarkers$TextException")) 1 := ⟨q802, q804, qs6, q155, q805, by decide +kernel, by decide +kernel, by decide +kernel⟩
theorem fp_X6_3 : FP "TrailMarkers$Reader" 3 5 8 (tyX6 8) true := ⟨RX6, TX6, 9, "TrailMarkers$Reader", cf_X6, by decide, q482, Or.inl rfl, tyX6_ok 8 (by decide), rfl, fun _ => rfl⟩
theorem fp_X6_17 : FP "TrailMarkers$Reader" 17 5 5 (tyX6 5) false := ⟨RX6, TX6, 9, "TrailMarkers$Reader", cf_X6, by decide, q479, Or.inl rfl, tyX6_ok 5 (by decide), rfl, fun h9 => nomatch h9⟩
theorem fp_X6_21 : FP "TrailMarkers$Reader" 21 5 0 (tyX6 0) false := ⟨RX6, TX6, 9, "TrailMarkers$Reader", cf_X6, by decide, q474, Or.inl rfl, tyX6_ok 0 (by decide), rfl, fun h9 => nomatch h9⟩
theorem fa_X6_17 : FA "TrailMarkers$Reader" 17 5 5 := ⟨RX6, TX6, 9, "TrailMarkers$Reader", cf_X6, by decide, q479, Or.inl rfl⟩
theorem nw_X6_93 : NW "TrailMarkers$Reader" 93 1 7 [vI 0, vI 0, vR none, vI 0, vR none, vI 0, vR none] := ⟨RX2, TX2, 7, tyX2, cf_X2, tyX2_ok, rfl, q850, q206, q139⟩
theorem fa_X6_21 : FA "TrailMarkers$Reader" 21 5 0 := ⟨RX6, TX6, 9, "TrailMarkers$Reader", cf_X6, by decide, q474, Or.inl rfl⟩
theorem m_X6_95 : MI "TrailMarkers$Reader" 95 yX2_init cX2_init 5 4 := ⟨q851, q208, rfl, q139, q209, by decide +kernel, by decide +kernel, by decide +kernel⟩
theorem m_X6_90 : MV "TrailMarkers$Reader" 90 yX6_number cX6_number 3 (Option.some Jvm.ClassFile.FieldType.int) 2 := ⟨q842, q844, qs8, q155, q845, by decide +kernel, by decide +kernel, by decide +kernel⟩
theorem m_X6_84 : MV "TrailMarkers$Reader" 84 yJ4_equals cJ4_equals 3 (Option.some Jvm.ClassFile.FieldType.boolean) 1 := ⟨q834, q835, q836, q147, q837, by decide +kernel, by decide +kernel, by decide +kernel⟩
theorem fa_X6_3 : FA "TrailMarkers$Reader" 3 5 8 := ⟨RX6, TX6, 9, "TrailMarkers$Reader", cf_X6, by decide, q482, Or.inl rfl⟩
theorem cf_X1 : CF 0 RX1 TX1 9 := ⟨rfl, in_X1, ⟨tyX1, tyX1_ok⟩, nmX1⟩
theorem fan_X6_29 : FAN "TrailMarkers$Reader" 29 0 2 := ⟨RX1, TX1, 9, "TrailMarkers", cf_X1, by decide, q427⟩
theorem fan_X6_32 : FAN "TrailMarkers$Reader" 32 0 1 := ⟨RX1, TX1, 9, "TrailMarkers", cf_X1, by decide, q425⟩
theorem fp_X6_36 : FP "TrailMarkers$Reader" 36 5 2 (tyX6 2) false := ⟨RX6, TX6, 9, "TrailMarkers$Reader", cf_X6, by decide, q476, Or.inl rfl, tyX6_ok 2 (by decide), rfl, fun h9 => nomatch h9⟩
theorem fp_X6_39 : FP "TrailMarkers$Reader" 39 5 3 (tyX6 3) false := ⟨RX6, TX6, 9, "TrailMarkers$Reader", cf_X6, by decide, q477, Or.inl rfl, tyX6_ok 3 (by decide), rfl, fun h9 => nomatch h9⟩
theorem fp_X6_42 : FP "TrailMarkers$Reader" 42 5 4 (tyX6 4) false := ⟨RX6, TX6, 9, "TrailMarkers$Reader", cf_X6, by decide, q478, Or.inl rfl, tyX6_ok 4 (by decide), rfl, fun h9 => nomatch h9⟩
theorem nw_X6_52 : NW "TrailMarkers$Reader" 52 14 4 [vR none, vI 0, vI 0, vI 0] := ⟨RJ12, TJ12, 4, tyJ12, cf_J12, tyJ12_ok, rfl, q514, q515, q157⟩
theorem m_X6_55 : MV "TrailMarkers$Reader" 55 yJ12_append cJ12_append 2 (Option.some (Jvm.ClassFile.FieldType.object "java/lang/StringBuilder")) 1 := ⟨q546, q547, q548, q157, q549, by decide +kernel, by decide +kernel, by decide +kernel⟩
theorem m_X6_59 : MV "TrailMarkers$Reader" 59 yJ12_toString cJ12_toString 1 (Option.some (Jvm.ClassFile.FieldType.object "java/lang/String")) 0 := ⟨q639, q640, q641, q157, q642, by decide +kernel, by decide +kernel, by decide +kernel⟩
theorem m_X6_54 : MI "TrailMarkers$Reader" 54 yJ12_init cJ12_init 1 0 := ⟨q516, q517, rfl, q157, q518, by decide +kernel, by decide +kernel, by decide +kernel⟩
theorem nw_X6_67 : NW "TrailMarkers$Reader" 67 6 8 [vR none, vR none, vR none, vR none, vR none, vI 0, vI 0, vI 0] := ⟨RX7, TX7, 8, tyX7, cf_X7, tyX7_ok, rfl, q806, q807, q162⟩
theorem fa_X6_36 : FA "TrailMarkers$Reader" 36 5 2 := ⟨RX6, TX6, 9, "TrailMarkers$Reader", cf_X6, by decide, q476, Or.inl rfl⟩
theorem m_X6_69 : MI "TrailMarkers$Reader" 69 yX7_init cX7_init 3 2 := ⟨q815, q816, rfl, q162, q817, by decide +kernel, by decide +kernel, by decide +kernel⟩
theorem m_X6_98 : MV "TrailMarkers$Reader" 98 yX6_command cX6_command 3 (Option.none : Option Jvm.ClassFile.FieldType) 0 := ⟨q857, q859, qs10, q155, q860, by decide +kernel, by decide +kernel, by decide +kernel⟩
theorem m_X6_103 : MI "TrailMarkers$Reader" 103 yX7_init_2 cX7_init_2 3 2 := ⟨q993, q994, rfl, q162, q995, by decide +kernel, by decide +kernel, by decide +kernel⟩
theorem fa_X6_131_X2 : FA "TrailMarkers$Reader" 131 1 6 := ⟨RX2, TX2, 7, "TrailMarkers$Trails", cf_X2, by decide, q233, Or.inl rfl⟩
theorem m_X6_122 : MV "TrailMarkers$Reader" 122 yX6_blaze cX6_blaze 4 (Option.none : Option Jvm.ClassFile.FieldType) 0 := ⟨q928, q930, qs11, q155, q931, by decide +kernel, by decide +kernel, by decide +kernel⟩
theorem m_X6_124 : MV "TrailMarkers$Reader" 124 yX6_blockAll cX6_blockAll 2 (Option.none : Option Jvm.ClassFile.FieldType) 0 := ⟨q984, q986, qs17, q155, q987, by decide +kernel, by decide +kernel, by decide +kernel⟩
theorem m_X6_127 : MV "TrailMarkers$Reader" 127 yX6_changeAll cX6_changeAll 2 (Option.none : Option Jvm.ClassFile.FieldType) 1 := ⟨q989, q991, qs18, q155, q992, by decide +kernel, by decide +kernel, by decide +kernel⟩
theorem m_X6_106 : MV "TrailMarkers$Reader" 106 yJ4_hashCode cJ4_hashCode 2 (Option.some Jvm.ClassFile.FieldType.int) 0 := ⟨q861, q862, q863, q147, q864, by decide +kernel, by decide +kernel, by decide +kernel⟩
theorem fa_X6_146_X2 : FA "TrailMarkers$Reader" 146 1 0 := ⟨RX2, TX2, 7, "TrailMarkers$Trails", cf_X2, by decide, q214, Or.inl rfl⟩
theorem fa_X6_149_X2 : FA "TrailMarkers$Reader" 149 1 1 := ⟨RX2, TX2, 7, "TrailMarkers$Trails", cf_X2, by decide, q217, Or.inl rfl⟩
theorem nw_X6_152 : NW "TrailMarkers$Reader" 152 2 5 [vI 0, vI 0, vI 0, vI 0, vI 0] := ⟨RX3, TX3, 5, tyX3, cf_X3, tyX3_ok, rfl, q940, q280, q142⟩
theorem fp_X6_161 : FP "TrailMarkers$Reader" 161 5 6 (tyX6 6) false := ⟨RX6, TX6, 9, "TrailMarkers$Reader", cf_X6, by decide, q480, Or.inl rfl, tyX6_ok 6 (by decide), rfl, fun h9 => nomatch h9⟩
theorem m_X6_157 : MV "TrailMarkers$Reader" 157 yX2_add cX2_add 2 (Option.some Jvm.ClassFile.FieldType.int) 1 := ⟨q942, q316, q317, q139, q318, by decide +kernel, by decide +kernel, by decide +kernel⟩
theorem m_X6_154 : MI "TrailMarkers$Reader" 154 yX3_init cX3_init 6 5 := ⟨q941, q282, rfl, q142, q283, by decide +kernel, by decide +kernel, by decide +kernel⟩
theorem m_X6_143 : MV "TrailMarkers$Reader" 143 yX6_colourWord cX6_colourWord 3 (Option.some Jvm.ClassFile.FieldType.int) 0 := ⟨q932, q934, qs12, q155, q935, by decide +kernel, by decide +kernel, by decide +kernel⟩
theorem fa_X6_179_X2 : FA "TrailMarkers$Reader" 179 1 2 := ⟨RX2, TX2, 7, "TrailMarkers$Trails", cf_X2, by decide, q222, Or.inl rfl⟩
theorem fa_X6_161 : FA "TrailMarkers$Reader" 161 5 6 := ⟨RX6, TX6, 9, "TrailMarkers$Reader", cf_X6, by decide, q480, Or.inl rfl⟩
theorem fa_X6_183_X3 : FA "TrailMarkers$Reader" 183 2 0 := ⟨RX3, TX3, 5, "TrailMarkers$Post", cf_X3, by decide, q288, Or.inl rfl⟩
theorem fa_X6_190_X3 : FA "TrailMarkers$Reader" 190 2 1 := ⟨RX3, TX3, 5, "TrailMarkers$Post", cf_X3, by decide, q292, Or.inl rfl⟩
theorem fa_X6_196_X3 : FA "TrailMarkers$Reader" 196 2 2 := ⟨RX3, TX3, 5, "TrailMarkers$Post", cf_X3, by decide, q295, Or.inl rfl⟩
theorem m_X6_204 : MV "TrailMarkers$Reader" 204 yX2_change cX2_change 3 (Option.none : Option Jvm.ClassFile.FieldType) 2 := ⟨q983, q411, q412, q139, q413, by decide +kernel, by decide +kernel, by decide +kernel⟩
theorem m_X6_199 : MV "TrailMarkers$Reader" 199 yX3_turned cX3_turned 2 (Option.some (Jvm.ClassFile.FieldType.object "TrailMarkers$Post")) 1 := ⟨q978, q979, q980, q142, q981, by decide +kernel, by decide +kernel, by decide +kernel⟩
theorem m_X6_193 : MSN "TrailMarkers$Reader" 193 yX1_stepY "TrailMarkers" cX1_stepY 1 (Option.some Jvm.ClassFile.FieldType.int) 1 := ⟨q975, q976, q138, q977, by decide +kernel, by decide +kernel, by decide +kernel⟩
theorem m_X6_186 : MSN "TrailMarkers$Reader" 186 yX1_stepX "TrailMarkers" cX1_stepX 1 (Option.some Jvm.ClassFile.FieldType.int) 1 := ⟨q972, q973, q138, q974, by decide +kernel, by decide +kernel, by decide +kernel⟩
theorem m_X6_176 : MV "TrailMarkers$Reader" 176 yX6_directionOfWord cX6_directionOfWord 2 (Option.some Jvm.ClassFile.FieldType.int) 0 := ⟨q955, q957, qs16, q155, q958, by decide +kernel, by decide +kernel, by decide +kernel⟩
theorem m_X6_211 : MV "TrailMarkers$Reader" 211 yJ4_charAt cJ4_charAt 2 (Option.some Jvm.ClassFile.FieldType.char) 1 := ⟨q960, q961, q962, q147, q963, by decide +kernel, by decide +kernel, by decide +kernel⟩
theorem m_X6_208 : MV "TrailMarkers$Reader" 208 yJ4_length cJ4_length 1 (Option.some Jvm.ClassFile.FieldType.int) 0 := ⟨q959, q738, q739, q147, q740, by decide +kernel, by decide +kernel, by decide +kernel⟩
theorem m_X6_217 : MV "TrailMarkers$Reader" 217 yX2_layBlock cX2_layBlock 3 (Option.none : Option Jvm.ClassFile.FieldType) 2 := ⟨q988, q421, q422, q139, q423, by decide +kernel, by decide +kernel, by decide +kernel⟩
theorem fa_X6_220_X2 : FA "TrailMarkers$Reader" 220 1 3 := ⟨RX2, TX2, 7, "TrailMarkers$Trails", cf_X2, by decide, q226, Or.inl rfl⟩
