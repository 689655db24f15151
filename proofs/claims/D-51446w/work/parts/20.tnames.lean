set_option maxRecDepth 100000
abbrev cX5_copy : ByteArray := prog_13_method_6_code
def yX5_copy : MethodName := ⟨RX5, "copy", "([II[II)V"⟩
def dkwX5_copy_0 : List UInt8 := [42, 27, 44, 29, 17, 2, 14, 184, 0, 109, 177]
abbrev dktX5_copy_0 : List UInt8 := dkwX5_copy_0 ++ []
theorem dksX5_copy_0 : cX5_copy.data.toList.drop 0 = dktX5_copy_0 := by decide +kernel
theorem dX5_copy_0 : decode cX5_copy 0 = .ok (.aload_n 0, 1) := dk_42 (dk_at dksX5_copy_0 0 rfl rfl)
theorem dX5_copy_1 : decode cX5_copy 1 = .ok (.iload_n 1, 1) := dk_27 (dk_at dksX5_copy_0 1 rfl rfl)
theorem dX5_copy_2 : decode cX5_copy 2 = .ok (.aload_n 2, 1) := dk_44 (dk_at dksX5_copy_0 2 rfl rfl)
theorem dX5_copy_3 : decode cX5_copy 3 = .ok (.iload_n 3, 1) := dk_29 (dk_at dksX5_copy_0 3 rfl rfl)
theorem dX5_copy_4 : decode cX5_copy 4 = .ok (.sipush 526, 3) := dk_17 2 14 (dk_at dksX5_copy_0 4 rfl rfl)
theorem dX5_copy_7 : decode cX5_copy 7 = .ok (.invokestatic 109, 3) := dk_184 0 109 (dk_at dksX5_copy_0 7 rfl rfl)
theorem dX5_copy_10 : decode cX5_copy 10 = .ok (.return_, 1) := dk_177 (dk_at dksX5_copy_0 10 rfl rfl)
abbrev cX5_isIn : ByteArray := prog_13_method_5_code
def yX5_isIn : MethodName := ⟨RX5, "isIn", "(III)Z"⟩
def dkwX5_isIn_0 : List UInt8 := [26, 27, 161, 0, 12, 26, 28, 163, 0, 7, 4, 167, 0, 4, 3, 172]
abbrev dktX5_isIn_0 : List UInt8 := dkwX5_isIn_0 ++ []
theorem dksX5_isIn_0 : cX5_isIn.data.toList.drop 0 = dktX5_isIn_0 := by decide +kernel
theorem dX5_isIn_0 : decode cX5_isIn 0 = .ok (.iload_n 0, 1) := dk_26 (dk_at dksX5_isIn_0 0 rfl rfl)
theorem dX5_isIn_1 : decode cX5_isIn 1 = .ok (.iload_n 1, 1) := dk_27 (dk_at dksX5_isIn_0 1 rfl rfl)
theorem dX5_isIn_2 : decode cX5_isIn 2 = .ok (.if_icmp .lt 12, 3) := dk_161 0 12 (dk_at dksX5_isIn_0 2 rfl rfl)
theorem dX5_isIn_5 : decode cX5_isIn 5 = .ok (.iload_n 0, 1) := dk_26 (dk_at dksX5_isIn_0 5 rfl rfl)
theorem dX5_isIn_6 : decode cX5_isIn 6 = .ok (.iload_n 2, 1) := dk_28 (dk_at dksX5_isIn_0 6 rfl rfl)
theorem dX5_isIn_7 : decode cX5_isIn 7 = .ok (.if_icmp .gt 7, 3) := dk_163 0 7 (dk_at dksX5_isIn_0 7 rfl rfl)
theorem dX5_isIn_10 : decode cX5_isIn 10 = .ok (.iconst 1, 1) := dk_4 (dk_at dksX5_isIn_0 10 rfl rfl)
theorem dX5_isIn_11 : decode cX5_isIn 11 = .ok (.goto 4, 3) := dk_167 0 4 (dk_at dksX5_isIn_0 11 rfl rfl)
theorem dX5_isIn_14 : decode cX5_isIn 14 = .ok (.iconst 0, 1) := dk_3 (dk_at dksX5_isIn_0 14 rfl rfl)
theorem dX5_isIn_15 : decode cX5_isIn 15 = .ok (.ireturn, 1) := dk_172 (dk_at dksX5_isIn_0 15 rfl rfl)
abbrev cX5_isDigit : ByteArray := prog_13_method_39_code
def yX5_isDigit : MethodName := ⟨RX5, "isDigit", "(I)Z"⟩
def dkwX5_isDigit_1 : List UInt8 := [4, 167, 0, 4, 3, 172]
abbrev dktX5_isDigit_1 : List UInt8 := dkwX5_isDigit_1 ++ []
def dkwX5_isDigit_0 : List UInt8 := [27, 42, 180, 0, 93, 162, 0, 23, 42, 180, 0, 29, 27, 46, 16, 48, 16, 57, 184, 0, 119, 153, 0, 7]
abbrev dktX5_isDigit_0 : List UInt8 := dkwX5_isDigit_0 ++ dktX5_isDigit_1
theorem dksX5_isDigit_0 : cX5_isDigit.data.toList.drop 0 = dktX5_isDigit_0 := by decide +kernel
theorem dksX5_isDigit_1 : cX5_isDigit.data.toList.drop 24 = dktX5_isDigit_1 := dk_seg dksX5_isDigit_0 24 rfl rfl
theorem dX5_isDigit_0 : decode cX5_isDigit 0 = .ok (.iload_n 1, 1) := dk_27 (dk_at dksX5_isDigit_0 0 rfl rfl)
theorem dX5_isDigit_1 : decode cX5_isDigit 1 = .ok (.aload_n 0, 1) := dk_42 (dk_at dksX5_isDigit_0 1 rfl rfl)
theorem dX5_isDigit_2 : decode cX5_isDigit 2 = .ok (.getfield 93, 3) := dk_180 0 93 (dk_at dksX5_isDigit_0 2 rfl rfl)
theorem dX5_isDigit_5 : decode cX5_isDigit 5 = .ok (.if_icmp .ge 23, 3) := dk_162 0 23 (dk_at dksX5_isDigit_0 5 rfl rfl)
theorem dX5_isDigit_8 : decode cX5_isDigit 8 = .ok (.aload_n 0, 1) := dk_42 (dk_at dksX5_isDigit_0 8 rfl rfl)
theorem dX5_isDigit_9 : decode cX5_isDigit 9 = .ok (.getfield 29, 3) := dk_180 0 29 (dk_at dksX5_isDigit_0 9 rfl rfl)
theorem dX5_isDigit_12 : decode cX5_isDigit 12 = .ok (.iload_n 1, 1) := dk_27 (dk_at dksX5_isDigit_0 12 rfl rfl)
theorem dX5_isDigit_13 : decode cX5_isDigit 13 = .ok (.iaload, 1) := dk_46 (dk_at dksX5_isDigit_0 13 rfl rfl)
theorem dX5_isDigit_14 : decode cX5_isDigit 14 = .ok (.bipush 48, 2) := dk_16 48 (dk_at dksX5_isDigit_0 14 rfl rfl)
theorem dX5_isDigit_16 : decode cX5_isDigit 16 = .ok (.bipush 57, 2) := dk_16 57 (dk_at dksX5_isDigit_0 16 rfl rfl)
theorem dX5_isDigit_18 : decode cX5_isDigit 18 = .ok (.invokestatic 119, 3) := dk_184 0 119 (dk_at dksX5_isDigit_0 18 rfl rfl)
theorem dX5_isDigit_21 : decode cX5_isDigit 21 = .ok (.ifCond .eq 7, 3) := dk_153 0 7 (dk_at dksX5_isDigit_0 21 rfl rfl)
theorem dX5_isDigit_24 : decode cX5_isDigit 24 = .ok (.iconst 1, 1) := dk_4 (dk_at dksX5_isDigit_1 0 rfl rfl)
theorem dX5_isDigit_25 : decode cX5_isDigit 25 = .ok (.goto 4, 3) := dk_167 0 4 (dk_at dksX5_isDigit_1 1 rfl rfl)
theorem dX5_isDigit_28 : decode cX5_isDigit 28 = .ok (.iconst 0, 1) := dk_3 (dk_at dksX5_isDigit_1 4 rfl rfl)
theorem dX5_isDigit_29 : decode cX5_isDigit 29 = .ok (.ireturn, 1) := dk_172 (dk_at dksX5_isDigit_1 5 rfl rfl)
abbrev cX5_isLetter : ByteArray := prog_13_method_38_code
def yX5_isLetter : MethodName := ⟨RX5, "isLetter", "(I)Z"⟩
def dkwX5_isLetter_1 : List UInt8 := [4, 167, 0, 4, 3, 172]
abbrev dktX5_isLetter_1 : List UInt8 := dkwX5_isLetter_1 ++ []
def dkwX5_isLetter_0 : List UInt8 := [27, 42, 180, 0, 93, 162, 0, 23, 42, 180, 0, 29, 27, 46, 16, 97, 16, 122, 184, 0, 119, 153, 0, 7]
abbrev dktX5_isLetter_0 : List UInt8 := dkwX5_isLetter_0 ++ dktX5_isLetter_1
theorem dksX5_isLetter_0 : cX5_isLetter.data.toList.drop 0 = dktX5_isLetter_0 := by decide +kernel
theorem dksX5_isLetter_1 : cX5_isLetter.data.toList.drop 24 = dktX5_isLetter_1 := dk_seg dksX5_isLetter_0 24 rfl rfl
theorem dX5_isLetter_0 : decode cX5_isLetter 0 = .ok (.iload_n 1, 1) := dk_27 (dk_at dksX5_isLetter_0 0 rfl rfl)
theorem dX5_isLetter_1 : decode cX5_isLetter 1 = .ok (.aload_n 0, 1) := dk_42 (dk_at dksX5_isLetter_0 1 rfl rfl)
theorem dX5_isLetter_2 : decode cX5_isLetter 2 = .ok (.getfield 93, 3) := dk_180 0 93 (dk_at dksX5_isLetter_0 2 rfl rfl)
theorem dX5_isLetter_5 : decode cX5_isLetter 5 = .ok (.if_icmp .ge 23, 3) := dk_162 0 23 (dk_at dksX5_isLetter_0 5 rfl rfl)
theorem dX5_isLetter_8 : decode cX5_isLetter 8 = .ok (.aload_n 0, 1) := dk_42 (dk_at dksX5_isLetter_0 8 rfl rfl)
theorem dX5_isLetter_9 : decode cX5_isLetter 9 = .ok (.getfield 29, 3) := dk_180 0 29 (dk_at dksX5_isLetter_0 9 rfl rfl)
theorem dX5_isLetter_12 : decode cX5_isLetter 12 = .ok (.iload_n 1, 1) := dk_27 (dk_at dksX5_isLetter_0 12 rfl rfl)
theorem dX5_isLetter_13 : decode cX5_isLetter 13 = .ok (.iaload, 1) := dk_46 (dk_at dksX5_isLetter_0 13 rfl rfl)
theorem dX5_isLetter_14 : decode cX5_isLetter 14 = .ok (.bipush 97, 2) := dk_16 97 (dk_at dksX5_isLetter_0 14 rfl rfl)
theorem dX5_isLetter_16 : decode cX5_isLetter 16 = .ok (.bipush 122, 2) := dk_16 122 (dk_at dksX5_isLetter_0 16 rfl rfl)
theorem dX5_isLetter_18 : decode cX5_isLetter 18 = .ok (.invokestatic 119, 3) := dk_184 0 119 (dk_at dksX5_isLetter_0 18 rfl rfl)
theorem dX5_isLetter_21 : decode cX5_isLetter 21 = .ok (.ifCond .eq 7, 3) := dk_153 0 7 (dk_at dksX5_isLetter_0 21 rfl rfl)
theorem dX5_isLetter_24 : decode cX5_isLetter 24 = .ok (.iconst 1, 1) := dk_4 (dk_at dksX5_isLetter_1 0 rfl rfl)
theorem dX5_isLetter_25 : decode cX5_isLetter 25 = .ok (.goto 4, 3) := dk_167 0 4 (dk_at dksX5_isLetter_1 1 rfl rfl)
theorem dX5_isLetter_28 : decode cX5_isLetter 28 = .ok (.iconst 0, 1) := dk_3 (dk_at dksX5_isLetter_1 4 rfl rfl)
theorem dX5_isLetter_29 : decode cX5_isLetter 29 = .ok (.ireturn, 1) := dk_172 (dk_at dksX5_isLetter_1 5 rfl rfl)
abbrev cX5_next : ByteArray := prog_13_method_40_code
def yX5_next : MethodName := ⟨RX5, "next", "()V"⟩
def dkwX5_next_10 : List UInt8 := [180, 1, 6, 4, 96, 181, 1, 6, 177]
abbrev dktX5_next_10 : List UInt8 := dkwX5_next_10 ++ []
def dkwX5_next_9 : List UInt8 := [180, 0, 29, 42, 180, 1, 6, 46, 16, 41, 160, 0, 7, 6, 167, 0, 4, 7, 181, 1, 12, 42, 89]
abbrev dktX5_next_9 : List UInt8 := dkwX5_next_9 ++ dktX5_next_10
def dkwX5_next_8 : List UInt8 := [180, 1, 6, 46, 16, 59, 159, 0, 31, 42, 180, 0, 29, 42, 180, 1, 6, 46, 16, 40, 159, 0, 17, 42]
abbrev dktX5_next_8 : List UInt8 := dkwX5_next_8 ++ dktX5_next_9
def dkwX5_next_7 : List UInt8 := [181, 1, 21, 42, 89, 180, 1, 6, 4, 96, 181, 1, 6, 167, 255, 205, 42, 42, 180, 0, 29, 42]
abbrev dktX5_next_7 : List UInt8 := dkwX5_next_7 ++ dktX5_next_8
def dkwX5_next_6 : List UInt8 := [180, 1, 21, 16, 10, 104, 42, 180, 0, 29, 42, 180, 1, 6, 46, 96, 16, 48, 100, 184, 1, 25]
abbrev dktX5_next_6 : List UInt8 := dkwX5_next_6 ++ dktX5_next_7
def dkwX5_next_5 : List UInt8 := [181, 1, 12, 42, 3, 181, 1, 21, 42, 42, 180, 1, 6, 182, 1, 18, 153, 0, 107, 42, 19, 1, 24, 42]
abbrev dktX5_next_5 : List UInt8 := dkwX5_next_5 ++ dktX5_next_6
def dkwX5_next_4 : List UInt8 := [180, 1, 6, 4, 96, 181, 1, 6, 167, 255, 235, 42, 42, 180, 1, 6, 182, 1, 18, 153, 0, 67, 42, 5]
abbrev dktX5_next_4 : List UInt8 := dkwX5_next_4 ++ dktX5_next_5
def dkwX5_next_3 : List UInt8 := [182, 1, 15, 153, 0, 32, 42, 4, 181, 1, 12, 42, 42, 180, 1, 6, 182, 1, 15, 153, 0, 152, 42, 89]
abbrev dktX5_next_3 : List UInt8 := dkwX5_next_3 ++ dktX5_next_4
def dkwX5_next_2 : List UInt8 := [42, 180, 1, 6, 42, 180, 0, 93, 160, 0, 11, 42, 3, 181, 1, 12, 167, 0, 179, 42, 42, 180, 1, 6]
abbrev dktX5_next_2 : List UInt8 := dkwX5_next_2 ++ dktX5_next_3
def dkwX5_next_1 : List UInt8 := [160, 0, 16, 42, 89, 180, 1, 6, 4, 96, 181, 1, 6, 167, 255, 221, 42, 42, 180, 1, 6, 181, 1, 9]
abbrev dktX5_next_1 : List UInt8 := dkwX5_next_1 ++ dktX5_next_2
def dkwX5_next_0 : List UInt8 := [42, 180, 1, 6, 42, 180, 0, 93, 162, 0, 30, 42, 180, 0, 29, 42, 180, 1, 6, 46, 16, 32]
abbrev dktX5_next_0 : List UInt8 := dkwX5_next_0 ++ dktX5_next_1
theorem dksX5_next_0 : cX5_next.data.toList.drop 0 = dktX5_next_0 := by decide +kernel
theorem dksX5_next_1 : cX5_next.data.toList.drop 22 = dktX5_next_1 := dk_seg dksX5_next_0 22 rfl rfl
theorem dksX5_next_2 : cX5_next.data.toList.drop 46 = dktX5_next_2 := dk_seg dksX5_next_1 24 rfl rfl
theorem dksX5_next_3 : cX5_next.data.toList.drop 70 = dktX5_next_3 := dk_seg dksX5_next_2 24 rfl rfl
theorem dksX5_next_4 : cX5_next.data.toList.drop 94 = dktX5_next_4 := dk_seg dksX5_next_3 24 rfl rfl
theorem dksX5_next_5 : cX5_next.data.toList.drop 118 = dktX5_next_5 := dk_seg dksX5_next_4 24 rfl rfl
theorem dksX5_next_6 : cX5_next.data.toList.drop 142 = dktX5_next_6 := dk_seg dksX5_next_5 24 rfl rfl
theorem dksX5_next_7 : cX5_next.data.toList.drop 164 = dktX5_next_7 := dk_seg dksX5_next_6 22 rfl rfl
theorem dksX5_next_8 : cX5_next.data.toList.drop 186 = dktX5_next_8 := dk_seg dksX5_next_7 22 rfl rfl
theorem dksX5_next_9 : cX5_next.data.toList.drop 210 = dktX5_next_9 := dk_seg dksX5_next_8 24 rfl rfl
theorem dksX5_next_10 : cX5_next.data.toList.drop 233 = dktX5_next_10 := dk_seg dksX5_next_9 23 rfl rfl
theorem dX5_next_0 : decode cX5_next 0 = .ok (.aload_n 0, 1) := dk_42 (dk_at dksX5_next_0 0 rfl rfl)
theorem dX5_next_1 : decode cX5_next 1 = .ok (.getfield 262, 3) := dk_180 1 6 (dk_at dksX5_next_0 1 rfl rfl)
theorem dX5_next_4 : decode cX5_next 4 = .ok (.aload_n 0, 1) := dk_42 (dk_at dksX5_next_0 4 rfl rfl)
theorem dX5_next_5 : decode cX5_next 5 = .ok (.getfield 93, 3) := dk_180 0 93 (dk_at dksX5_next_0 5 rfl rfl)
theorem dX5_next_8 : decode cX5_next 8 = .ok (.if_icmp .ge 30, 3) := dk_162 0 30 (dk_at dksX5_next_0 8 rfl rfl)
theorem dX5_next_11 : decode cX5_next 11 = .ok (.aload_n 0, 1) := dk_42 (dk_at dksX5_next_0 11 rfl rfl)
theorem dX5_next_12 : decode cX5_next 12 = .ok (.getfield 29, 3) := dk_180 0 29 (dk_at dksX5_next_0 12 rfl rfl)
theorem dX5_next_15 : decode cX5_next 15 = .ok (.aload_n 0, 1) := dk_42 (dk_at dksX5_next_0 15 rfl rfl)
theorem dX5_next_16 : decode cX5_next 16 = .ok (.getfield 262, 3) := dk_180 1 6 (dk_at dksX5_next_0 16 rfl rfl)
theorem dX5_next_19 : decode cX5_next 19 = .ok (.iaload, 1) := dk_46 (dk_at dksX5_next_0 19 rfl rfl)
theorem dX5_next_20 : decode cX5_next 20 = .ok (.bipush 32, 2) := dk_16 32 (dk_at dksX5_next_0 20 rfl rfl)
theorem dX5_next_22 : decode cX5_next 22 = .ok (.if_icmp .ne 16, 3) := dk_160 0 16 (dk_at dksX5_next_1 0 rfl rfl)
theorem dX5_next_25 : decode cX5_next 25 = .ok (.aload_n 0, 1) := dk_42 (dk_at dksX5_next_1 3 rfl rfl)
theorem dX5_next_26 : decode cX5_next 26 = .ok (.dup, 1) := dk_89 (dk_at dksX5_next_1 4 rfl rfl)
theorem dX5_next_27 : decode cX5_next 27 = .ok (.getfield 262, 3) := dk_180 1 6 (dk_at dksX5_next_1 5 rfl rfl)
theorem dX5_next_30 : decode cX5_next 30 = .ok (.iconst 1, 1) := dk_4 (dk_at dksX5_next_1 8 rfl rfl)
theorem dX5_next_31 : decode cX5_next 31 = .ok (.iadd, 1) := dk_96 (dk_at dksX5_next_1 9 rfl rfl)
theorem dX5_next_32 : decode cX5_next 32 = .ok (.putfield 262, 3) := dk_181 1 6 (dk_at dksX5_next_1 10 rfl rfl)
theorem dX5_next_35 : decode cX5_next 35 = .ok (.goto (-35), 3) := dk_167 255 221 (dk_at dksX5_next_1 13 rfl rfl)
theorem dX5_next_38 : decode cX5_next 38 = .ok (.aload_n 0, 1) := dk_42 (dk_at dksX5_next_1 16 rfl rfl)
theorem dX5_next_39 : decode cX5_next 39 = .ok (.aload_n 0, 1) := dk_42 (dk_at dksX5_next_1 17 rfl rfl)
theorem dX5_next_40 : decode cX5_next 40 = .ok (.getfield 262, 3) := dk_180 1 6 (dk_at dksX5_next_1 18 rfl rfl)
theorem dX5_next_43 : decode cX5_next 43 = .ok (.putfield 265, 3) := dk_181 1 9 (dk_at dksX5_next_1 21 rfl rfl)
theorem dX5_next_46 : decode cX5_next 46 = .ok (.aload_n 0, 1) := dk_42 (dk_at dksX5_next_2 0 rfl rfl)
theorem dX5_next_47 : decode cX5_next 47 = .ok (.getfield 262, 3) := dk_180 1 6 (dk_at dksX5_next_2 1 rfl rfl)
theorem dX5_next_50 : decode cX5_next 50 = .ok (.aload_n 0, 1) := dk_42 (dk_at dksX5_next_2 4 rfl rfl)
theorem dX5_next_51 : decode cX5_next 51 = .ok (.getfield 93, 3) := dk_180 0 93 (dk_at dksX5_next_2 5 rfl rfl)
theorem dX5_next_54 : decode cX5_next 54 = .ok (.if_icmp .ne 11, 3) := dk_160 0 11 (dk_at dksX5_next_2 8 rfl rfl)
theorem dX5_next_57 : decode cX5_next 57 = .ok (.aload_n 0, 1) := dk_42 (dk_at dksX5_next_2 11 rfl rfl)
theorem dX5_next_58 : decode cX5_next 58 = .ok (.iconst 0, 1) := dk_3 (dk_at dksX5_next_2 12 rfl rfl)
theorem dX5_next_59 : decode cX5_next 59 = .ok (.putfield 268, 3) := dk_181 1 12 (dk_at dksX5_next_2 13 rfl rfl)
theorem dX5_next_62 : decode cX5_next 62 = .ok (.goto 179, 3) := dk_167 0 179 (dk_at dksX5_next_2 16 rfl rfl)
theorem dX5_next_65 : decode cX5_next 65 = .ok (.aload_n 0, 1) := dk_42 (dk_at dksX5_next_2 19 rfl rfl)
theorem dX5_next_66 : decode cX5_next 66 = .ok (.aload_n 0, 1) := dk_42 (dk_at dksX5_next_2 20 rfl rfl)
theorem dX5_next_67 : decode cX5_next 67 = .ok (.getfield 262, 3) := dk_180 1 6 (dk_at dksX5_next_2 21 rfl rfl)
theorem dX5_next_70 : decode cX5_next 70 = .ok (.invokevirtual 271, 3) := dk_182 1 15 (dk_at dksX5_next_3 0 rfl rfl)
theorem dX5_next_73 : decode cX5_next 73 = .ok (.ifCond .eq 32, 3) := dk_153 0 32 (dk_at dksX5_next_3 3 rfl rfl)
theorem dX5_next_76 : decode cX5_next 76 = .ok (.aload_n 0, 1) := dk_42 (dk_at dksX5_next_3 6 rfl rfl)
theorem dX5_next_77 : decode cX5_next 77 = .ok (.iconst 1, 1) := dk_4 (dk_at dksX5_next_3 7 rfl rfl)
theorem dX5_next_78 : decode cX5_next 78 = .ok (.putfield 268, 3) := dk_181 1 12 (dk_at dksX5_next_3 8 rfl rfl)
theorem dX5_next_81 : decode cX5_next 81 = .ok (.aload_n 0, 1) := dk_42 (dk_at dksX5_next_3 11 rfl rfl)
theorem dX5_next_82 : decode cX5_next 82 = .ok (.aload_n 0, 1) := dk_42 (dk_at dksX5_next_3 12 rfl rfl)
theorem dX5_next_83 : decode cX5_next 83 = .ok (.getfield 262, 3) := dk_180 1 6 (dk_at dksX5_next_3 13 rfl rfl)
theorem dX5_next_86 : decode cX5_next 86 = .ok (.invokevirtual 271, 3) := dk_182 1 15 (dk_at dksX5_next_3 16 rfl rfl)
theorem dX5_next_89 : decode cX5_next 89 = .ok (.ifCond .eq 152, 3) := dk_153 0 152 (dk_at dksX5_next_3 19 rfl rfl)
theorem dX5_next_92 : decode cX5_next 92 = .ok (.aload_n 0, 1) := dk_42 (dk_at dksX5_next_3 22 rfl rfl)
theorem dX5_next_93 : decode cX5_next 93 = .ok (.dup, 1) := dk_89 (dk_at dksX5_next_3 23 rfl rfl)
theorem dX5_next_94 : decode cX5_next 94 = .ok (.getfield 262, 3) := dk_180 1 6 (dk_at dksX5_next_4 0 rfl rfl)
theorem dX5_next_97 : decode cX5_next 97 = .ok (.iconst 1, 1) := dk_4 (dk_at dksX5_next_4 3 rfl rfl)
theorem dX5_next_98 : decode cX5_next 98 = .ok (.iadd, 1) := dk_96 (dk_at dksX5_next_4 4 rfl rfl)
theorem dX5_next_99 : decode cX5_next 99 = .ok (.putfield 262, 3) := dk_181 1 6 (dk_at dksX5_next_4 5 rfl rfl)
theorem dX5_next_102 : decode cX5_next 102 = .ok (.goto (-21), 3) := dk_167 255 235 (dk_at dksX5_next_4 8 rfl rfl)
theorem dX5_next_105 : decode cX5_next 105 = .ok (.aload_n 0, 1) := dk_42 (dk_at dksX5_next_4 11 rfl rfl)
theorem dX5_next_106 : decode cX5_next 106 = .ok (.aload_n 0, 1) := dk_42 (dk_at dksX5_next_4 12 rfl rfl)
theorem dX5_next_107 : decode cX5_next 107 = .ok (.getfield 262, 3) := dk_180 1 6 (dk_at dksX5_next_4 13 rfl rfl)
theorem dX5_next_110 : decode cX5_next 110 = .ok (.invokevirtual 274, 3) := dk_182 1 18 (dk_at dksX5_next_4 16 rfl rfl)
theorem dX5_next_113 : decode cX5_next 113 = .ok (.ifCond .eq 67, 3) := dk_153 0 67 (dk_at dksX5_next_4 19 rfl rfl)
theorem dX5_next_116 : decode cX5_next 116 = .ok (.aload_n 0, 1) := dk_42 (dk_at dksX5_next_4 22 rfl rfl)
theorem dX5_next_117 : decode cX5_next 117 = .ok (.iconst 2, 1) := dk_5 (dk_at dksX5_next_4 23 rfl rfl)
theorem dX5_next_118 : decode cX5_next 118 = .ok (.putfield 268, 3) := dk_181 1 12 (dk_at dksX5_next_5 0 rfl rfl)
theorem dX5_next_121 : decode cX5_next 121 = .ok (.aload_n 0, 1) := dk_42 (dk_at dksX5_next_5 3 rfl rfl)
theorem dX5_next_122 : decode cX5_next 122 = .ok (.iconst 0, 1) := dk_3 (dk_at dksX5_next_5 4 rfl rfl)
theorem dX5_next_123 : decode cX5_next 123 = .ok (.putfield 277, 3) := dk_181 1 21 (dk_at dksX5_next_5 5 rfl rfl)
theorem dX5_next_126 : decode cX5_next 126 = .ok (.aload_n 0, 1) := dk_42 (dk_at dksX5_next_5 8 rfl rfl)
theorem dX5_next_127 : decode cX5_next 127 = .ok (.aload_n 0, 1) := dk_42 (dk_at dksX5_next_5 9 rfl rfl)
theorem dX5_next_128 : decode cX5_next 128 = .ok (.getfield 262, 3) := dk_180 1 6 (dk_at dksX5_next_5 10 rfl rfl)
theorem dX5_next_131 : decode cX5_next 131 = .ok (.invokevirtual 274, 3) := dk_182 1 18 (dk_at dksX5_next_5 13 rfl rfl)
theorem dX5_next_134 : decode cX5_next 134 = .ok (.ifCond .eq 107, 3) := dk_153 0 107 (dk_at dksX5_next_5 16 rfl rfl)
theorem dX5_next_137 : decode cX5_next 137 = .ok (.aload_n 0, 1) := dk_42 (dk_at dksX5_next_5 19 rfl rfl)
theorem dX5_next_138 : decode cX5_next 138 = .ok (.ldc_w 280, 3) := dk_19 1 24 (dk_at dksX5_next_5 20 rfl rfl)
theorem dX5_next_141 : decode cX5_next 141 = .ok (.aload_n 0, 1) := dk_42 (dk_at dksX5_next_5 23 rfl rfl)
theorem dX5_next_142 : decode cX5_next 142 = .ok (.getfield 277, 3) := dk_180 1 21 (dk_at dksX5_next_6 0 rfl rfl)
theorem dX5_next_145 : decode cX5_next 145 = .ok (.bipush 10, 2) := dk_16 10 (dk_at dksX5_next_6 3 rfl rfl)
theorem dX5_next_147 : decode cX5_next 147 = .ok (.imul, 1) := dk_104 (dk_at dksX5_next_6 5 rfl rfl)
theorem dX5_next_148 : decode cX5_next 148 = .ok (.aload_n 0, 1) := dk_42 (dk_at dksX5_next_6 6 rfl rfl)
theorem dX5_next_149 : decode cX5_next 149 = .ok (.getfield 29, 3) := dk_180 0 29 (dk_at dksX5_next_6 7 rfl rfl)
theorem dX5_next_152 : decode cX5_next 152 = .ok (.aload_n 0, 1) := dk_42 (dk_at dksX5_next_6 10 rfl rfl)
theorem dX5_next_153 : decode cX5_next 153 = .ok (.getfield 262, 3) := dk_180 1 6 (dk_at dksX5_next_6 11 rfl rfl)
theorem dX5_next_156 : decode cX5_next 156 = .ok (.iaload, 1) := dk_46 (dk_at dksX5_next_6 14 rfl rfl)
theorem dX5_next_157 : decode cX5_next 157 = .ok (.iadd, 1) := dk_96 (dk_at dksX5_next_6 15 rfl rfl)
theorem dX5_next_158 : decode cX5_next 158 = .ok (.bipush 48, 2) := dk_16 48 (dk_at dksX5_next_6 16 rfl rfl)
theorem dX5_next_160 : decode cX5_next 160 = .ok (.isub, 1) := dk_100 (dk_at dksX5_next_6 18 rfl rfl)
theorem dX5_next_161 : decode cX5_next 161 = .ok (.invokestatic 281, 3) := dk_184 1 25 (dk_at dksX5_next_6 19 rfl rfl)
theorem dX5_next_164 : decode cX5_next 164 = .ok (.putfield 277, 3) := dk_181 1 21 (dk_at dksX5_next_7 0 rfl rfl)
theorem dX5_next_167 : decode cX5_next 167 = .ok (.aload_n 0, 1) := dk_42 (dk_at dksX5_next_7 3 rfl rfl)
theorem dX5_next_168 : decode cX5_next 168 = .ok (.dup, 1) := dk_89 (dk_at dksX5_next_7 4 rfl rfl)
theorem dX5_next_169 : decode cX5_next 169 = .ok (.getfield 262, 3) := dk_180 1 6 (dk_at dksX5_next_7 5 rfl rfl)
theorem dX5_next_172 : decode cX5_next 172 = .ok (.iconst 1, 1) := dk_4 (dk_at dksX5_next_7 8 rfl rfl)
theorem dX5_next_173 : decode cX5_next 173 = .ok (.iadd, 1) := dk_96 (dk_at dksX5_next_7 9 rfl rfl)
theorem dX5_next_174 : decode cX5_next 174 = .ok (.putfield 262, 3) := dk_181 1 6 (dk_at dksX5_next_7 10 rfl rfl)
theorem dX5_next_177 : decode cX5_next 177 = .ok (.goto (-51), 3) := dk_167 255 205 (dk_at dksX5_next_7 13 rfl rfl)
theorem dX5_next_180 : decode cX5_next 180 = .ok (.aload_n 0, 1) := dk_42 (dk_at dksX5_next_7 16 rfl rfl)
theorem dX5_next_181 : decode cX5_next 181 = .ok (.aload_n 0, 1) := dk_42 (dk_at dksX5_next_7 17 rfl rfl)
theorem dX5_next_182 : decode cX5_next 182 = .ok (.getfield 29, 3) := dk_180 0 29 (dk_at dksX5_next_7 18 rfl rfl)
theorem dX5_next_185 : decode cX5_next 185 = .ok (.aload_n 0, 1) := dk_42 (dk_at dksX5_next_7 21 rfl rfl)
theorem dX5_next_186 : decode cX5_next 186 = .ok (.getfield 262, 3) := dk_180 1 6 (dk_at dksX5_next_8 0 rfl rfl)
theorem dX5_next_189 : decode cX5_next 189 = .ok (.iaload, 1) := dk_46 (dk_at dksX5_next_8 3 rfl rfl)
theorem dX5_next_190 : decode cX5_next 190 = .ok (.bipush 59, 2) := dk_16 59 (dk_at dksX5_next_8 4 rfl rfl)
theorem dX5_next_192 : decode cX5_next 192 = .ok (.if_icmp .eq 31, 3) := dk_159 0 31 (dk_at dksX5_next_8 6 rfl rfl)
theorem dX5_next_195 : decode cX5_next 195 = .ok (.aload_n 0, 1) := dk_42 (dk_at dksX5_next_8 9 rfl rfl)
theorem dX5_next_196 : decode cX5_next 196 = .ok (.getfield 29, 3) := dk_180 0 29 (dk_at dksX5_next_8 10 rfl rfl)
theorem dX5_next_199 : decode cX5_next 199 = .ok (.aload_n 0, 1) := dk_42 (dk_at dksX5_next_8 13 rfl rfl)
theorem dX5_next_200 : decode cX5_next 200 = .ok (.getfield 262, 3) := dk_180 1 6 (dk_at dksX5_next_8 14 rfl rfl)
theorem dX5_next_203 : decode cX5_next 203 = .ok (.iaload, 1) := dk_46 (dk_at dksX5_next_8 17 rfl rfl)
theorem dX5_next_204 : decode cX5_next 204 = .ok (.bipush 40, 2) := dk_16 40 (dk_at dksX5_next_8 18 rfl rfl)
theorem dX5_next_206 : decode cX5_next 206 = .ok (.if_icmp .eq 17, 3) := dk_159 0 17 (dk_at dksX5_next_8 20 rfl rfl)
theorem dX5_next_209 : decode cX5_next 209 = .ok (.aload_n 0, 1) := dk_42 (dk_at dksX5_next_8 23 rfl rfl)
theorem dX5_next_210 : decode cX5_next 210 = .ok (.getfield 29, 3) := dk_180 0 29 (dk_at dksX5_next_9 0 rfl rfl)
theorem dX5_next_213 : decode cX5_next 213 = .ok (.aload_n 0, 1) := dk_42 (dk_at dksX5_next_9 3 rfl rfl)
theorem dX5_next_214 : decode cX5_next 214 = .ok (.getfield 262, 3) := dk_180 1 6 (dk_at dksX5_next_9 4 rfl rfl)
theorem dX5_next_217 : decode cX5_next 217 = .ok (.iaload, 1) := dk_46 (dk_at dksX5_next_9 7 rfl rfl)
theorem dX5_next_218 : decode cX5_next 218 = .ok (.bipush 41, 2) := dk_16 41 (dk_at dksX5_next_9 8 rfl rfl)
theorem dX5_next_220 : decode cX5_next 220 = .ok (.if_icmp .ne 7, 3) := dk_160 0 7 (dk_at dksX5_next_9 10 rfl rfl)
theorem dX5_next_223 : decode cX5_next 223 = .ok (.iconst 3, 1) := dk_6 (dk_at dksX5_next_9 13 rfl rfl)
theorem dX5_next_224 : decode cX5_next 224 = .ok (.goto 4, 3) := dk_167 0 4 (dk_at dksX5_next_9 14 rfl rfl)
theorem dX5_next_227 : decode cX5_next 227 = .ok (.iconst 4, 1) := dk_7 (dk_at dksX5_next_9 17 rfl rfl)
theorem dX5_next_228 : decode cX5_next 228 = .ok (.putfield 268, 3) := dk_181 1 12 (dk_at dksX5_next_9 18 rfl rfl)
theorem dX5_next_231 : decode cX5_next 231 = .ok (.aload_n 0, 1) := dk_42 (dk_at dksX5_next_9 21 rfl rfl)
theorem dX5_next_232 : decode cX5_next 232 = .ok (.dup, 1) := dk_89 (dk_at dksX5_next_9 22 rfl rfl)
theorem dX5_next_233 : decode cX5_next 233 = .ok (.getfield 262, 3) := dk_180 1 6 (dk_at dksX5_next_10 0 rfl rfl)
theorem dX5_next_236 : decode cX5_next 236 = .ok (.iconst 1, 1) := dk_4 (dk_at dksX5_next_10 3 rfl rfl)
theorem dX5_next_237 : decode cX5_next 237 = .ok (.iadd, 1) := dk_96 (dk_at dksX5_next_10 4 rfl rfl)
theorem dX5_next_238 : decode cX5_next 238 = .ok (.putfield 262, 3) := dk_181 1 6 (dk_at dksX5_next_10 5 rfl rfl)
theorem dX5_next_241 : decode cX5_next 241 = .ok (.return_, 1) := dk_177 (dk_at dksX5_next_10 8 rfl rfl)
abbrev cX5_starts : ByteArray := prog_13_method_62_code
def yX5_starts : MethodName := ⟨RX5, "starts", "()V"⟩
def dkwX5_starts_2 : List UInt8 := [182, 1, 39, 177]
abbrev dktX5_starts_2 : List UInt8 := dkwX5_starts_2 ++ []
def dkwX5_starts_1 : List UInt8 := [181, 0, 35, 42, 2, 181, 0, 39, 42, 180, 0, 9, 3, 42, 180, 0, 22, 3, 184, 0, 115, 42]
abbrev dktX5_starts_1 : List UInt8 := dkwX5_starts_1 ++ dktX5_starts_2
def dkwX5_starts_0 : List UInt8 := [42, 3, 181, 0, 106, 42, 3, 181, 1, 6, 42, 3, 181, 1, 32, 42, 3, 181, 1, 36, 42, 2]
abbrev dktX5_starts_0 : List UInt8 := dkwX5_starts_0 ++ dktX5_starts_1
theorem dksX5_starts_0 : cX5_starts.data.toList.drop 0 = dktX5_starts_0 := by decide +kernel
theorem dksX5_starts_1 : cX5_starts.data.toList.drop 22 = dktX5_starts_1 := dk_seg dksX5_starts_0 22 rfl rfl
theorem dksX5_starts_2 : cX5_starts.data.toList.drop 44 = dktX5_starts_2 := dk_seg dksX5_starts_1 22 rfl rfl
theorem dX5_starts_0 : decode cX5_starts 0 = .ok (.aload_n 0, 1) := dk_42 (dk_at dksX5_starts_0 0 rfl rfl)
theorem dX5_starts_1 : decode cX5_starts 1 = .ok (.iconst 0, 1) := dk_3 (dk_at dksX5_starts_0 1 rfl rfl)
theorem dX5_starts_2 : decode cX5_starts 2 = .ok (.putfield 106, 3) := dk_181 0 106 (dk_at dksX5_starts_0 2 rfl rfl)
theorem dX5_starts_5 : decode cX5_starts 5 = .ok (.aload_n 0, 1) := dk_42 (dk_at dksX5_starts_0 5 rfl rfl)
theorem dX5_starts_6 : decode cX5_starts 6 = .ok (.iconst 0, 1) := dk_3 (dk_at dksX5_starts_0 6 rfl rfl)
theorem dX5_starts_7 : decode cX5_starts 7 = .ok (.putfield 262, 3) := dk_181 1 6 (dk_at dksX5_starts_0 7 rfl rfl)
theorem dX5_starts_10 : decode cX5_starts 10 = .ok (.aload_n 0, 1) := dk_42 (dk_at dksX5_starts_0 10 rfl rfl)
theorem dX5_starts_11 : decode cX5_starts 11 = .ok (.iconst 0, 1) := dk_3 (dk_at dksX5_starts_0 11 rfl rfl)
theorem dX5_starts_12 : decode cX5_starts 12 = .ok (.putfield 288, 3) := dk_181 1 32 (dk_at dksX5_starts_0 12 rfl rfl)
theorem dX5_starts_15 : decode cX5_starts 15 = .ok (.aload_n 0, 1) := dk_42 (dk_at dksX5_starts_0 15 rfl rfl)
theorem dX5_starts_16 : decode cX5_starts 16 = .ok (.iconst 0, 1) := dk_3 (dk_at dksX5_starts_0 16 rfl rfl)
theorem dX5_starts_17 : decode cX5_starts 17 = .ok (.putfield 292, 3) := dk_181 1 36 (dk_at dksX5_starts_0 17 rfl rfl)
theorem dX5_starts_20 : decode cX5_starts 20 = .ok (.aload_n 0, 1) := dk_42 (dk_at dksX5_starts_0 20 rfl rfl)
theorem dX5_starts_21 : decode cX5_starts 21 = .ok (.iconst (-1), 1) := dk_2 (dk_at dksX5_starts_0 21 rfl rfl)
theorem dX5_starts_22 : decode cX5_starts 22 = .ok (.putfield 35, 3) := dk_181 0 35 (dk_at dksX5_starts_1 0 rfl rfl)
theorem dX5_starts_25 : decode cX5_starts 25 = .ok (.aload_n 0, 1) := dk_42 (dk_at dksX5_starts_1 3 rfl rfl)
theorem dX5_starts_26 : decode cX5_starts 26 = .ok (.iconst (-1), 1) := dk_2 (dk_at dksX5_starts_1 4 rfl rfl)
theorem dX5_starts_27 : decode cX5_starts 27 = .ok (.putfield 39, 3) := dk_181 0 39 (dk_at dksX5_starts_1 5 rfl rfl)
theorem dX5_starts_30 : decode cX5_starts 30 = .ok (.aload_n 0, 1) := dk_42 (dk_at dksX5_starts_1 8 rfl rfl)
theorem dX5_starts_31 : decode cX5_starts 31 = .ok (.getfield 9, 3) := dk_180 0 9 (dk_at dksX5_starts_1 9 rfl rfl)
theorem dX5_starts_34 : decode cX5_starts 34 = .ok (.iconst 0, 1) := dk_3 (dk_at dksX5_starts_1 12 rfl rfl)
theorem dX5_starts_35 : decode cX5_starts 35 = .ok (.aload_n 0, 1) := dk_42 (dk_at dksX5_starts_1 13 rfl rfl)
theorem dX5_starts_36 : decode cX5_starts 36 = .ok (.getfield 22, 3) := dk_180 0 22 (dk_at dksX5_starts_1 14 rfl rfl)
theorem dX5_starts_39 : decode cX5_starts 39 = .ok (.iconst 0, 1) := dk_3 (dk_at dksX5_starts_1 17 rfl rfl)
theorem dX5_starts_40 : decode cX5_starts 40 = .ok (.invokestatic 115, 3) := dk_184 0 115 (dk_at dksX5_starts_1 18 rfl rfl)
theorem dX5_starts_43 : decode cX5_starts 43 = .ok (.aload_n 0, 1) := dk_42 (dk_at dksX5_starts_1 21 rfl rfl)
theorem dX5_starts_44 : decode cX5_starts 44 = .ok (.invokevirtual 295, 3) := dk_182 1 39 (dk_at dksX5_starts_2 0 rfl rfl)
theorem dX5_starts_47 : decode cX5_starts 47 = .ok (.return_, 1) := dk_177 (dk_at dksX5_starts_2 3 rfl rfl)
abbrev cX5_refused : ByteArray := prog_13_method_44_code
def yX5_refused : MethodName := ⟨RX5, "refused", "(ZIII)V"⟩
def dkwX5_refused_1 : List UInt8 := [21, 4, 181, 0, 35, 42, 29, 181, 0, 39, 177]
abbrev dktX5_refused_1 : List UInt8 := dkwX5_refused_1 ++ []
def dkwX5_refused_0 : List UInt8 := [42, 180, 1, 32, 154, 0, 7, 27, 154, 0, 4, 177, 42, 4, 181, 1, 32, 42, 28, 181, 1, 36, 42]
abbrev dktX5_refused_0 : List UInt8 := dkwX5_refused_0 ++ dktX5_refused_1
theorem dksX5_refused_0 : cX5_refused.data.toList.drop 0 = dktX5_refused_0 := by decide +kernel
theorem dksX5_refused_1 : cX5_refused.data.toList.drop 23 = dktX5_refused_1 := dk_seg dksX5_refused_0 23 rfl rfl
theorem dX5_refused_0 : decode cX5_refused 0 = .ok (.aload_n 0, 1) := dk_42 (dk_at dksX5_refused_0 0 rfl rfl)
theorem dX5_refused_1 : decode cX5_refused 1 = .ok (.getfield 288, 3) := dk_180 1 32 (dk_at dksX5_refused_0 1 rfl rfl)
theorem dX5_refused_4 : decode cX5_refused 4 = .ok (.ifCond .ne 7, 3) := dk_154 0 7 (dk_at dksX5_refused_0 4 rfl rfl)
theorem dX5_refused_7 : decode cX5_refused 7 = .ok (.iload_n 1, 1) := dk_27 (dk_at dksX5_refused_0 7 rfl rfl)
theorem dX5_refused_8 : decode cX5_refused 8 = .ok (.ifCond .ne 4, 3) := dk_154 0 4 (dk_at dksX5_refused_0 8 rfl rfl)
theorem dX5_refused_11 : decode cX5_refused 11 = .ok (.return_, 1) := dk_177 (dk_at dksX5_refused_0 11 rfl rfl)
theorem dX5_refused_12 : decode cX5_refused 12 = .ok (.aload_n 0, 1) := dk_42 (dk_at dksX5_refused_0 12 rfl rfl)
theorem dX5_refused_13 : decode cX5_refused 13 = .ok (.iconst 1, 1) := dk_4 (dk_at dksX5_refused_0 13 rfl rfl)
theorem dX5_refused_14 : decode cX5_refused 14 = .ok (.putfield 288, 3) := dk_181 1 32 (dk_at dksX5_refused_0 14 rfl rfl)
theorem dX5_refused_17 : decode cX5_refused 17 = .ok (.aload_n 0, 1) := dk_42 (dk_at dksX5_refused_0 17 rfl rfl)
theorem dX5_refused_18 : decode cX5_refused 18 = .ok (.iload_n 2, 1) := dk_28 (dk_at dksX5_refused_0 18 rfl rfl)
theorem dX5_refused_19 : decode cX5_refused 19 = .ok (.putfield 292, 3) := dk_181 1 36 (dk_at dksX5_refused_0 19 rfl rfl)
theorem dX5_refused_22 : decode cX5_refused 22 = .ok (.aload_n 0, 1) := dk_42 (dk_at dksX5_refused_0 22 rfl rfl)
theorem dX5_refused_23 : decode cX5_refused 23 = .ok (.iload 4, 2) := dk_21 4 (dk_at dksX5_refused_1 0 rfl rfl)
theorem dX5_refused_25 : decode cX5_refused 25 = .ok (.putfield 35, 3) := dk_181 0 35 (dk_at dksX5_refused_1 2 rfl rfl)
theorem dX5_refused_28 : decode cX5_refused 28 = .ok (.aload_n 0, 1) := dk_42 (dk_at dksX5_refused_1 5 rfl rfl)
theorem dX5_refused_29 : decode cX5_refused 29 = .ok (.iload_n 3, 1) := dk_29 (dk_at dksX5_refused_1 6 rfl rfl)
theorem dX5_refused_30 : decode cX5_refused 30 = .ok (.putfield 39, 3) := dk_181 0 39 (dk_at dksX5_refused_1 7 rfl rfl)
theorem dX5_refused_33 : decode cX5_refused 33 = .ok (.return_, 1) := dk_177 (dk_at dksX5_refused_1 10 rfl rfl)
abbrev cX5_wrong : ByteArray := prog_13_method_43_code
def yX5_wrong : MethodName := ⟨RX5, "wrong", "(ZI)V"⟩
def dkwX5_wrong_0 : List UInt8 := [42, 27, 28, 3, 42, 180, 1, 9, 182, 1, 28, 177]
abbrev dktX5_wrong_0 : List UInt8 := dkwX5_wrong_0 ++ []
theorem dksX5_wrong_0 : cX5_wrong.data.toList.drop 0 = dktX5_wrong_0 := by decide +kernel
theorem dX5_wrong_0 : decode cX5_wrong 0 = .ok (.aload_n 0, 1) := dk_42 (dk_at dksX5_wrong_0 0 rfl rfl)
theorem dX5_wrong_1 : decode cX5_wrong 1 = .ok (.iload_n 1, 1) := dk_27 (dk_at dksX5_wrong_0 1 rfl rfl)
theorem dX5_wrong_2 : decode cX5_wrong 2 = .ok (.iload_n 2, 1) := dk_28 (dk_at dksX5_wrong_0 2 rfl rfl)
theorem dX5_wrong_3 : decode cX5_wrong 3 = .ok (.iconst 0, 1) := dk_3 (dk_at dksX5_wrong_0 3 rfl rfl)
theorem dX5_wrong_4 : decode cX5_wrong 4 = .ok (.aload_n 0, 1) := dk_42 (dk_at dksX5_wrong_0 4 rfl rfl)
theorem dX5_wrong_5 : decode cX5_wrong 5 = .ok (.getfield 265, 3) := dk_180 1 9 (dk_at dksX5_wrong_0 5 rfl rfl)
theorem dX5_wrong_8 : decode cX5_wrong 8 = .ok (.invokevirtual 284, 3) := dk_182 1 28 (dk_at dksX5_wrong_0 8 rfl rfl)
theorem dX5_wrong_11 : decode cX5_wrong 11 = .ok (.return_, 1) := dk_177 (dk_at dksX5_wrong_0 11 rfl rfl)
abbrev cX5_go : ByteArray := prog_13_method_45_code
def yX5_go : MethodName := ⟨RX5, "go", "()V"⟩
def dkwX5_go_0 : List UInt8 := [42, 180, 1, 32, 154, 0, 7, 42, 182, 1, 39, 177]
abbrev dktX5_go_0 : List UInt8 := dkwX5_go_0 ++ []
theorem dksX5_go_0 : cX5_go.data.toList.drop 0 = dktX5_go_0 := by decide +kernel
theorem dX5_go_0 : decode cX5_go 0 = .ok (.aload_n 0, 1) := dk_42 (dk_at dksX5_go_0 0 rfl rfl)
theorem dX5_go_1 : decode cX5_go 1 = .ok (.getfield 288, 3) := dk_180 1 32 (dk_at dksX5_go_0 1 rfl rfl)
theorem dX5_go_4 : decode cX5_go 4 = .ok (.ifCond .ne 7, 3) := dk_154 0 7 (dk_at dksX5_go_0 4 rfl rfl)
theorem dX5_go_7 : decode cX5_go 7 = .ok (.aload_n 0, 1) := dk_42 (dk_at dksX5_go_0 7 rfl rfl)
theorem dX5_go_8 : decode cX5_go 8 = .ok (.invokevirtual 295, 3) := dk_182 1 39 (dk_at dksX5_go_0 8 rfl rfl)
theorem dX5_go_11 : decode cX5_go 11 = .ok (.return_, 1) := dk_177 (dk_at dksX5_go_0 11 rfl rfl)
abbrev cX5_here : ByteArray := prog_13_method_46_code
def yX5_here : MethodName := ⟨RX5, "here", "(II)I"⟩
def dkwX5_here_2 : List UInt8 := [42, 180, 1, 32, 153, 0, 7, 27, 167, 0, 7, 42, 180, 1, 21, 172]
abbrev dktX5_here_2 : List UInt8 := dkwX5_here_2 ++ []
def dkwX5_here_1 : List UInt8 := [154, 0, 19, 42, 180, 1, 21, 27, 28, 184, 0, 119, 154, 0, 7, 4, 167, 0, 4, 3, 5, 182, 1, 41]
abbrev dktX5_here_1 : List UInt8 := dkwX5_here_1 ++ dktX5_here_2
def dkwX5_here_0 : List UInt8 := [42, 42, 180, 1, 12, 5, 159, 0, 7, 4, 167, 0, 4, 3, 4, 182, 1, 41, 42, 42, 180, 1, 32]
abbrev dktX5_here_0 : List UInt8 := dkwX5_here_0 ++ dktX5_here_1
theorem dksX5_here_0 : cX5_here.data.toList.drop 0 = dktX5_here_0 := by decide +kernel
theorem dksX5_here_1 : cX5_here.data.toList.drop 23 = dktX5_here_1 := dk_seg dksX5_here_0 23 rfl rfl
theorem dksX5_here_2 : cX5_here.data.toList.drop 47 = dktX5_here_2 := dk_seg dksX5_here_1 24 rfl rfl
theorem dX5_here_0 : decode cX5_here 0 = .ok (.aload_n 0, 1) := dk_42 (dk_at dksX5_here_0 0 rfl rfl)
theorem dX5_here_1 : decode cX5_here 1 = .ok (.aload_n 0, 1) := dk_42 (dk_at dksX5_here_0 1 rfl rfl)
theorem dX5_here_2 : decode cX5_here 2 = .ok (.getfield 268, 3) := dk_180 1 12 (dk_at dksX5_here_0 2 rfl rfl)
theorem dX5_here_5 : decode cX5_here 5 = .ok (.iconst 2, 1) := dk_5 (dk_at dksX5_here_0 5 rfl rfl)
theorem dX5_here_6 : decode cX5_here 6 = .ok (.if_icmp .eq 7, 3) := dk_159 0 7 (dk_at dksX5_here_0 6 rfl rfl)
theorem dX5_here_9 : decode cX5_here 9 = .ok (.iconst 1, 1) := dk_4 (dk_at dksX5_here_0 9 rfl rfl)
theorem dX5_here_10 : decode cX5_here 10 = .ok (.goto 4, 3) := dk_167 0 4 (dk_at dksX5_here_0 10 rfl rfl)
theorem dX5_here_13 : decode cX5_here 13 = .ok (.iconst 0, 1) := dk_3 (dk_at dksX5_here_0 13 rfl rfl)
theorem dX5_here_14 : decode cX5_here 14 = .ok (.iconst 1, 1) := dk_4 (dk_at dksX5_here_0 14 rfl rfl)
theorem dX5_here_15 : decode cX5_here 15 = .ok (.invokevirtual 297, 3) := dk_182 1 41 (dk_at dksX5_here_0 15 rfl rfl)
theorem dX5_here_18 : decode cX5_here 18 = .ok (.aload_n 0, 1) := dk_42 (dk_at dksX5_here_0 18 rfl rfl)
theorem dX5_here_19 : decode cX5_here 19 = .ok (.aload_n 0, 1) := dk_42 (dk_at dksX5_here_0 19 rfl rfl)
theorem dX5_here_20 : decode cX5_here 20 = .ok (.getfield 288, 3) := dk_180 1 32 (dk_at dksX5_here_0 20 rfl rfl)
theorem dX5_here_23 : decode cX5_here 23 = .ok (.ifCond .ne 19, 3) := dk_154 0 19 (dk_at dksX5_here_1 0 rfl rfl)
theorem dX5_here_26 : decode cX5_here 26 = .ok (.aload_n 0, 1) := dk_42 (dk_at dksX5_here_1 3 rfl rfl)
theorem dX5_here_27 : decode cX5_here 27 = .ok (.getfield 277, 3) := dk_180 1 21 (dk_at dksX5_here_1 4 rfl rfl)
theorem dX5_here_30 : decode cX5_here 30 = .ok (.iload_n 1, 1) := dk_27 (dk_at dksX5_here_1 7 rfl rfl)
theorem dX5_here_31 : decode cX5_here 31 = .ok (.iload_n 2, 1) := dk_28 (dk_at dksX5_here_1 8 rfl rfl)
theorem dX5_here_32 : decode cX5_here 32 = .ok (.invokestatic 119, 3) := dk_184 0 119 (dk_at dksX5_here_1 9 rfl rfl)
theorem dX5_here_35 : decode cX5_here 35 = .ok (.ifCond .ne 7, 3) := dk_154 0 7 (dk_at dksX5_here_1 12 rfl rfl)
theorem dX5_here_38 : decode cX5_here 38 = .ok (.iconst 1, 1) := dk_4 (dk_at dksX5_here_1 15 rfl rfl)
theorem dX5_here_39 : decode cX5_here 39 = .ok (.goto 4, 3) := dk_167 0 4 (dk_at dksX5_here_1 16 rfl rfl)
theorem dX5_here_42 : decode cX5_here 42 = .ok (.iconst 0, 1) := dk_3 (dk_at dksX5_here_1 19 rfl rfl)
theorem dX5_here_43 : decode cX5_here 43 = .ok (.iconst 2, 1) := dk_5 (dk_at dksX5_here_1 20 rfl rfl)
theorem dX5_here_44 : decode cX5_here 44 = .ok (.invokevirtual 297, 3) := dk_182 1 41 (dk_at dksX5_here_1 21 rfl rfl)
theorem dX5_here_47 : decode cX5_here 47 = .ok (.aload_n 0, 1) := dk_42 (dk_at dksX5_here_2 0 rfl rfl)
theorem dX5_here_48 : decode cX5_here 48 = .ok (.getfield 288, 3) := dk_180 1 32 (dk_at dksX5_here_2 1 rfl rfl)
theorem dX5_here_51 : decode cX5_here 51 = .ok (.ifCond .eq 7, 3) := dk_153 0 7 (dk_at dksX5_here_2 4 rfl rfl)
theorem dX5_here_54 : decode cX5_here 54 = .ok (.iload_n 1, 1) := dk_27 (dk_at dksX5_here_2 7 rfl rfl)
theorem dX5_here_55 : decode cX5_here 55 = .ok (.goto 7, 3) := dk_167 0 7 (dk_at dksX5_here_2 8 rfl rfl)
theorem dX5_here_58 : decode cX5_here 58 = .ok (.aload_n 0, 1) := dk_42 (dk_at dksX5_here_2 11 rfl rfl)
theorem dX5_here_59 : decode cX5_here 59 = .ok (.getfield 277, 3) := dk_180 1 21 (dk_at dksX5_here_2 12 rfl rfl)
theorem dX5_here_62 : decode cX5_here 62 = .ok (.ireturn, 1) := dk_172 (dk_at dksX5_here_2 15 rfl rfl)
abbrev cX5_number : ByteArray := prog_13_method_47_code
def yX5_number : MethodName := ⟨RX5, "number", "(II)I"⟩
def dkwX5_number_0 : List UInt8 := [42, 27, 28, 182, 1, 45, 62, 42, 182, 1, 48, 29, 172]
abbrev dktX5_number_0 : List UInt8 := dkwX5_number_0 ++ []
theorem dksX5_number_0 : cX5_number.data.toList.drop 0 = dktX5_number_0 := by decide +kernel
theorem dX5_number_0 : decode cX5_number 0 = .ok (.aload_n 0, 1) := dk_42 (dk_at dksX5_number_0 0 rfl rfl)
theorem dX5_number_1 : decode cX5_number 1 = .ok (.iload_n 1, 1) := dk_27 (dk_at dksX5_number_0 1 rfl rfl)
theorem dX5_number_2 : decode cX5_number 2 = .ok (.iload_n 2, 1) := dk_28 (dk_at dksX5_number_0 2 rfl rfl)
theorem dX5_number_3 : decode cX5_number 3 = .ok (.invokevirtual 301, 3) := dk_182 1 45 (dk_at dksX5_number_0 3 rfl rfl)
theorem dX5_number_6 : decode cX5_number 6 = .ok (.istore_n 3, 1) := dk_62 (dk_at dksX5_number_0 6 rfl rfl)
theorem dX5_number_7 : decode cX5_number 7 = .ok (.aload_n 0, 1) := dk_42 (dk_at dksX5_number_0 7 rfl rfl)
theorem dX5_number_8 : decode cX5_number 8 = .ok (.invokevirtual 304, 3) := dk_182 1 48 (dk_at dksX5_number_0 8 rfl rfl)
theorem dX5_number_11 : decode cX5_number 11 = .ok (.iload_n 3, 1) := dk_29 (dk_at dksX5_number_0 11 rfl rfl)
theorem dX5_number_12 : decode cX5_number 12 = .ok (.ireturn, 1) := dk_172 (dk_at dksX5_number_0 12 rfl rfl)
abbrev cX5_isSign : ByteArray := prog_13_method_42_code
def yX5_isSign : MethodName := ⟨RX5, "isSign", "(I)Z"⟩
def dkwX5_isSign_1 : List UInt8 := [167, 0, 4, 3, 172]
abbrev dktX5_isSign_1 : List UInt8 := dkwX5_isSign_1 ++ []
def dkwX5_isSign_0 : List UInt8 := [42, 180, 1, 12, 6, 160, 0, 20, 42, 180, 0, 29, 42, 180, 1, 9, 46, 27, 160, 0, 7, 4]
abbrev dktX5_isSign_0 : List UInt8 := dkwX5_isSign_0 ++ dktX5_isSign_1
theorem dksX5_isSign_0 : cX5_isSign.data.toList.drop 0 = dktX5_isSign_0 := by decide +kernel
theorem dksX5_isSign_1 : cX5_isSign.data.toList.drop 22 = dktX5_isSign_1 := dk_seg dksX5_isSign_0 22 rfl rfl
theorem dX5_isSign_0 : decode cX5_isSign 0 = .ok (.aload_n 0, 1) := dk_42 (dk_at dksX5_isSign_0 0 rfl rfl)
theorem dX5_isSign_1 : decode cX5_isSign 1 = .ok (.getfield 268, 3) := dk_180 1 12 (dk_at dksX5_isSign_0 1 rfl rfl)
theorem dX5_isSign_4 : decode cX5_isSign 4 = .ok (.iconst 3, 1) := dk_6 (dk_at dksX5_isSign_0 4 rfl rfl)
theorem dX5_isSign_5 : decode cX5_isSign 5 = .ok (.if_icmp .ne 20, 3) := dk_160 0 20 (dk_at dksX5_isSign_0 5 rfl rfl)
theorem dX5_isSign_8 : decode cX5_isSign 8 = .ok (.aload_n 0, 1) := dk_42 (dk_at dksX5_isSign_0 8 rfl rfl)
theorem dX5_isSign_9 : decode cX5_isSign 9 = .ok (.getfield 29, 3) := dk_180 0 29 (dk_at dksX5_isSign_0 9 rfl rfl)
theorem dX5_isSign_12 : decode cX5_isSign 12 = .ok (.aload_n 0, 1) := dk_42 (dk_at dksX5_isSign_0 12 rfl rfl)
theorem dX5_isSign_13 : decode cX5_isSign 13 = .ok (.getfield 265, 3) := dk_180 1 9 (dk_at dksX5_isSign_0 13 rfl rfl)
theorem dX5_isSign_16 : decode cX5_isSign 16 = .ok (.iaload, 1) := dk_46 (dk_at dksX5_isSign_0 16 rfl rfl)
theorem dX5_isSign_17 : decode cX5_isSign 17 = .ok (.iload_n 1, 1) := dk_27 (dk_at dksX5_isSign_0 17 rfl rfl)
theorem dX5_isSign_18 : decode cX5_isSign 18 = .ok (.if_icmp .ne 7, 3) := dk_160 0 7 (dk_at dksX5_isSign_0 18 rfl rfl)
theorem dX5_isSign_21 : decode cX5_isSign 21 = .ok (.iconst 1, 1) := dk_4 (dk_at dksX5_isSign_0 21 rfl rfl)
theorem dX5_isSign_22 : decode cX5_isSign 22 = .ok (.goto 4, 3) := dk_167 0 4 (dk_at dksX5_isSign_1 0 rfl rfl)
theorem dX5_isSign_25 : decode cX5_isSign 25 = .ok (.iconst 0, 1) := dk_3 (dk_at dksX5_isSign_1 3 rfl rfl)
theorem dX5_isSign_26 : decode cX5_isSign 26 = .ok (.ireturn, 1) := dk_172 (dk_at dksX5_isSign_1 4 rfl rfl)
abbrev cX5_sign : ByteArray := prog_13_method_48_code
def yX5_sign : MethodName := ⟨RX5, "sign", "(I)V"⟩
def dkwX5_sign_0 : List UInt8 := [42, 42, 27, 182, 1, 51, 154, 0, 7, 4, 167, 0, 4, 3, 4, 182, 1, 41, 42, 182, 1, 48, 177]
abbrev dktX5_sign_0 : List UInt8 := dkwX5_sign_0 ++ []
theorem dksX5_sign_0 : cX5_sign.data.toList.drop 0 = dktX5_sign_0 := by decide +kernel
theorem dX5_sign_0 : decode cX5_sign 0 = .ok (.aload_n 0, 1) := dk_42 (dk_at dksX5_sign_0 0 rfl rfl)
theorem dX5_sign_1 : decode cX5_sign 1 = .ok (.aload_n 0, 1) := dk_42 (dk_at dksX5_sign_0 1 rfl rfl)
theorem dX5_sign_2 : decode cX5_sign 2 = .ok (.iload_n 1, 1) := dk_27 (dk_at dksX5_sign_0 2 rfl rfl)
theorem dX5_sign_3 : decode cX5_sign 3 = .ok (.invokevirtual 307, 3) := dk_182 1 51 (dk_at dksX5_sign_0 3 rfl rfl)
theorem dX5_sign_6 : decode cX5_sign 6 = .ok (.ifCond .ne 7, 3) := dk_154 0 7 (dk_at dksX5_sign_0 6 rfl rfl)
theorem dX5_sign_9 : decode cX5_sign 9 = .ok (.iconst 1, 1) := dk_4 (dk_at dksX5_sign_0 9 rfl rfl)
theorem dX5_sign_10 : decode cX5_sign 10 = .ok (.goto 4, 3) := dk_167 0 4 (dk_at dksX5_sign_0 10 rfl rfl)
theorem dX5_sign_13 : decode cX5_sign 13 = .ok (.iconst 0, 1) := dk_3 (dk_at dksX5_sign_0 13 rfl rfl)
theorem dX5_sign_14 : decode cX5_sign 14 = .ok (.iconst 1, 1) := dk_4 (dk_at dksX5_sign_0 14 rfl rfl)
theorem dX5_sign_15 : decode cX5_sign 15 = .ok (.invokevirtual 297, 3) := dk_182 1 41 (dk_at dksX5_sign_0 15 rfl rfl)
theorem dX5_sign_18 : decode cX5_sign 18 = .ok (.aload_n 0, 1) := dk_42 (dk_at dksX5_sign_0 18 rfl rfl)
theorem dX5_sign_19 : decode cX5_sign 19 = .ok (.invokevirtual 304, 3) := dk_182 1 48 (dk_at dksX5_sign_0 19 rfl rfl)
theorem dX5_sign_22 : decode cX5_sign 22 = .ok (.return_, 1) := dk_177 (dk_at dksX5_sign_0 22 rfl rfl)
abbrev cX5_isBlock : ByteArray := prog_13_method_13_code
def yX5_isBlock : MethodName := ⟨RX5, "isBlock", "(II)Z"⟩
def dkwX5_isBlock_0 : List UInt8 := [42, 180, 0, 9, 16, 6, 16, 20, 28, 104, 96, 27, 96, 46, 4, 160, 0, 7, 4, 167, 0, 4, 3, 172]
abbrev dktX5_isBlock_0 : List UInt8 := dkwX5_isBlock_0 ++ []
theorem dksX5_isBlock_0 : cX5_isBlock.data.toList.drop 0 = dktX5_isBlock_0 := by decide +kernel
theorem dX5_isBlock_0 : decode cX5_isBlock 0 = .ok (.aload_n 0, 1) := dk_42 (dk_at dksX5_isBlock_0 0 rfl rfl)
theorem dX5_isBlock_1 : decode cX5_isBlock 1 = .ok (.getfield 9, 3) := dk_180 0 9 (dk_at dksX5_isBlock_0 1 rfl rfl)
theorem dX5_isBlock_4 : decode cX5_isBlock 4 = .ok (.bipush 6, 2) := dk_16 6 (dk_at dksX5_isBlock_0 4 rfl rfl)
theorem dX5_isBlock_6 : decode cX5_isBlock 6 = .ok (.bipush 20, 2) := dk_16 20 (dk_at dksX5_isBlock_0 6 rfl rfl)
theorem dX5_isBlock_8 : decode cX5_isBlock 8 = .ok (.iload_n 2, 1) := dk_28 (dk_at dksX5_isBlock_0 8 rfl rfl)
theorem dX5_isBlock_9 : decode cX5_isBlock 9 = .ok (.imul, 1) := dk_104 (dk_at dksX5_isBlock_0 9 rfl rfl)
theorem dX5_isBlock_10 : decode cX5_isBlock 10 = .ok (.iadd, 1) := dk_96 (dk_at dksX5_isBlock_0 10 rfl rfl)
theorem dX5_isBlock_11 : decode cX5_isBlock 11 = .ok (.iload_n 1, 1) := dk_27 (dk_at dksX5_isBlock_0 11 rfl rfl)
theorem dX5_isBlock_12 : decode cX5_isBlock 12 = .ok (.iadd, 1) := dk_96 (dk_at dksX5_isBlock_0 12 rfl rfl)
theorem dX5_isBlock_13 : decode cX5_isBlock 13 = .ok (.iaload, 1) := dk_46 (dk_at dksX5_isBlock_0 13 rfl rfl)
theorem dX5_isBlock_14 : decode cX5_isBlock 14 = .ok (.iconst 1, 1) := dk_4 (dk_at dksX5_isBlock_0 14 rfl rfl)
theorem dX5_isBlock_15 : decode cX5_isBlock 15 = .ok (.if_icmp .ne 7, 3) := dk_160 0 7 (dk_at dksX5_isBlock_0 15 rfl rfl)
theorem dX5_isBlock_18 : decode cX5_isBlock 18 = .ok (.iconst 1, 1) := dk_4 (dk_at dksX5_isBlock_0 18 rfl rfl)
theorem dX5_isBlock_19 : decode cX5_isBlock 19 = .ok (.goto 4, 3) := dk_167 0 4 (dk_at dksX5_isBlock_0 19 rfl rfl)
theorem dX5_isBlock_22 : decode cX5_isBlock 22 = .ok (.iconst 0, 1) := dk_3 (dk_at dksX5_isBlock_0 22 rfl rfl)
theorem dX5_isBlock_23 : decode cX5_isBlock 23 = .ok (.ireturn, 1) := dk_172 (dk_at dksX5_isBlock_0 23 rfl rfl)
abbrev cX5_isOn : ByteArray := prog_13_method_12_code
def yX5_isOn : MethodName := ⟨RX5, "isOn", "(II)Z"⟩
def dkwX5_isOn_1 : List UInt8 := [4, 100, 184, 0, 119, 153, 0, 7, 4, 167, 0, 4, 3, 172]
abbrev dktX5_isOn_1 : List UInt8 := dkwX5_isOn_1 ++ []
def dkwX5_isOn_0 : List UInt8 := [27, 3, 42, 180, 0, 9, 3, 46, 4, 100, 184, 0, 119, 153, 0, 23, 28, 3, 42, 180, 0, 9, 4, 46]
abbrev dktX5_isOn_0 : List UInt8 := dkwX5_isOn_0 ++ dktX5_isOn_1
theorem dksX5_isOn_0 : cX5_isOn.data.toList.drop 0 = dktX5_isOn_0 := by decide +kernel
theorem dksX5_isOn_1 : cX5_isOn.data.toList.drop 24 = dktX5_isOn_1 := dk_seg dksX5_isOn_0 24 rfl rfl
theorem dX5_isOn_0 : decode cX5_isOn 0 = .ok (.iload_n 1, 1) := dk_27 (dk_at dksX5_isOn_0 0 rfl rfl)
theorem dX5_isOn_1 : decode cX5_isOn 1 = .ok (.iconst 0, 1) := dk_3 (dk_at dksX5_isOn_0 1 rfl rfl)
theorem dX5_isOn_2 : decode cX5_isOn 2 = .ok (.aload_n 0, 1) := dk_42 (dk_at dksX5_isOn_0 2 rfl rfl)
theorem dX5_isOn_3 : decode cX5_isOn 3 = .ok (.getfield 9, 3) := dk_180 0 9 (dk_at dksX5_isOn_0 3 rfl rfl)
theorem dX5_isOn_6 : decode cX5_isOn 6 = .ok (.iconst 0, 1) := dk_3 (dk_at dksX5_isOn_0 6 rfl rfl)
theorem dX5_isOn_7 : decode cX5_isOn 7 = .ok (.iaload, 1) := dk_46 (dk_at dksX5_isOn_0 7 rfl rfl)
theorem dX5_isOn_8 : decode cX5_isOn 8 = .ok (.iconst 1, 1) := dk_4 (dk_at dksX5_isOn_0 8 rfl rfl)
theorem dX5_isOn_9 : decode cX5_isOn 9 = .ok (.isub, 1) := dk_100 (dk_at dksX5_isOn_0 9 rfl rfl)
theorem dX5_isOn_10 : decode cX5_isOn 10 = .ok (.invokestatic 119, 3) := dk_184 0 119 (dk_at dksX5_isOn_0 10 rfl rfl)
theorem dX5_isOn_13 : decode cX5_isOn 13 = .ok (.ifCond .eq 23, 3) := dk_153 0 23 (dk_at dksX5_isOn_0 13 rfl rfl)
theorem dX5_isOn_16 : decode cX5_isOn 16 = .ok (.iload_n 2, 1) := dk_28 (dk_at dksX5_isOn_0 16 rfl rfl)
theorem dX5_isOn_17 : decode cX5_isOn 17 = .ok (.iconst 0, 1) := dk_3 (dk_at dksX5_isOn_0 17 rfl rfl)
theorem dX5_isOn_18 : decode cX5_isOn 18 = .ok (.aload_n 0, 1) := dk_42 (dk_at dksX5_isOn_0 18 rfl rfl)
theorem dX5_isOn_19 : decode cX5_isOn 19 = .ok (.getfield 9, 3) := dk_180 0 9 (dk_at dksX5_isOn_0 19 rfl rfl)
theorem dX5_isOn_22 : decode cX5_isOn 22 = .ok (.iconst 1, 1) := dk_4 (dk_at dksX5_isOn_0 22 rfl rfl)
theorem dX5_isOn_23 : decode cX5_isOn 23 = .ok (.iaload, 1) := dk_46 (dk_at dksX5_isOn_0 23 rfl rfl)
theorem dX5_isOn_24 : decode cX5_isOn 24 = .ok (.iconst 1, 1) := dk_4 (dk_at dksX5_isOn_1 0 rfl rfl)
theorem dX5_isOn_25 : decode cX5_isOn 25 = .ok (.isub, 1) := dk_100 (dk_at dksX5_isOn_1 1 rfl rfl)
theorem dX5_isOn_26 : decode cX5_isOn 26 = .ok (.invokestatic 119, 3) := dk_184 0 119 (dk_at dksX5_isOn_1 2 rfl rfl)
theorem dX5_isOn_29 : decode cX5_isOn 29 = .ok (.ifCond .eq 7, 3) := dk_153 0 7 (dk_at dksX5_isOn_1 5 rfl rfl)
theorem dX5_isOn_32 : decode cX5_isOn 32 = .ok (.iconst 1, 1) := dk_4 (dk_at dksX5_isOn_1 8 rfl rfl)
theorem dX5_isOn_33 : decode cX5_isOn 33 = .ok (.goto 4, 3) := dk_167 0 4 (dk_at dksX5_isOn_1 9 rfl rfl)
theorem dX5_isOn_36 : decode cX5_isOn 36 = .ok (.iconst 0, 1) := dk_3 (dk_at dksX5_isOn_1 12 rfl rfl)
theorem dX5_isOn_37 : decode cX5_isOn 37 = .ok (.ireturn, 1) := dk_172 (dk_at dksX5_isOn_1 13 rfl rfl)
abbrev cX5_of : ByteArray := prog_13_method_8_code
def yX5_of : MethodName := ⟨RX5, "of", "(II)I"⟩
def dkwX5_of_0 : List UInt8 := [42, 180, 0, 9, 17, 1, 150, 27, 8, 104, 96, 28, 96, 46, 172]
abbrev dktX5_of_0 : List UInt8 := dkwX5_of_0 ++ []
theorem dksX5_of_0 : cX5_of.data.toList.drop 0 = dktX5_of_0 := by decide +kernel
theorem dX5_of_0 : decode cX5_of 0 = .ok (.aload_n 0, 1) := dk_42 (dk_at dksX5_of_0 0 rfl rfl)
theorem dX5_of_1 : decode cX5_of 1 = .ok (.getfield 9, 3) := dk_180 0 9 (dk_at dksX5_of_0 1 rfl rfl)
theorem dX5_of_4 : decode cX5_of 4 = .ok (.sipush 406, 3) := dk_17 1 150 (dk_at dksX5_of_0 4 rfl rfl)
theorem dX5_of_7 : decode cX5_of 7 = .ok (.iload_n 1, 1) := dk_27 (dk_at dksX5_of_0 7 rfl rfl)
theorem dX5_of_8 : decode cX5_of 8 = .ok (.iconst 5, 1) := dk_8 (dk_at dksX5_of_0 8 rfl rfl)
theorem dX5_of_9 : decode cX5_of 9 = .ok (.imul, 1) := dk_104 (dk_at dksX5_of_0 9 rfl rfl)
theorem dX5_of_10 : decode cX5_of 10 = .ok (.iadd, 1) := dk_96 (dk_at dksX5_of_0 10 rfl rfl)
theorem dX5_of_11 : decode cX5_of 11 = .ok (.iload_n 2, 1) := dk_28 (dk_at dksX5_of_0 11 rfl rfl)
theorem dX5_of_12 : decode cX5_of 12 = .ok (.iadd, 1) := dk_96 (dk_at dksX5_of_0 12 rfl rfl)
theorem dX5_of_13 : decode cX5_of 13 = .ok (.iaload, 1) := dk_46 (dk_at dksX5_of_0 13 rfl rfl)
theorem dX5_of_14 : decode cX5_of 14 = .ok (.ireturn, 1) := dk_172 (dk_at dksX5_of_0 14 rfl rfl)
abbrev cX5_postAt : ByteArray := prog_13_method_16_code
def yX5_postAt : MethodName := ⟨RX5, "postAt", "(II)I"⟩
def dkwX5_postAt_1 : List UInt8 := [4, 182, 0, 130, 28, 160, 0, 5, 29, 172, 132, 3, 1, 167, 255, 221, 2, 172]
abbrev dktX5_postAt_1 : List UInt8 := dkwX5_postAt_1 ++ []
def dkwX5_postAt_0 : List UInt8 := [3, 62, 29, 42, 180, 0, 9, 7, 46, 162, 0, 31, 42, 29, 3, 182, 0, 130, 27, 160, 0, 15, 42, 29]
abbrev dktX5_postAt_0 : List UInt8 := dkwX5_postAt_0 ++ dktX5_postAt_1
theorem dksX5_postAt_0 : cX5_postAt.data.toList.drop 0 = dktX5_postAt_0 := by decide +kernel
theorem dksX5_postAt_1 : cX5_postAt.data.toList.drop 24 = dktX5_postAt_1 := dk_seg dksX5_postAt_0 24 rfl rfl
theorem dX5_postAt_0 : decode cX5_postAt 0 = .ok (.iconst 0, 1) := dk_3 (dk_at dksX5_postAt_0 0 rfl rfl)
theorem dX5_postAt_1 : decode cX5_postAt 1 = .ok (.istore_n 3, 1) := dk_62 (dk_at dksX5_postAt_0 1 rfl rfl)
theorem dX5_postAt_2 : decode cX5_postAt 2 = .ok (.iload_n 3, 1) := dk_29 (dk_at dksX5_postAt_0 2 rfl rfl)
theorem dX5_postAt_3 : decode cX5_postAt 3 = .ok (.aload_n 0, 1) := dk_42 (dk_at dksX5_postAt_0 3 rfl rfl)
theorem dX5_postAt_4 : decode cX5_postAt 4 = .ok (.getfield 9, 3) := dk_180 0 9 (dk_at dksX5_postAt_0 4 rfl rfl)
theorem dX5_postAt_7 : decode cX5_postAt 7 = .ok (.iconst 4, 1) := dk_7 (dk_at dksX5_postAt_0 7 rfl rfl)
theorem dX5_postAt_8 : decode cX5_postAt 8 = .ok (.iaload, 1) := dk_46 (dk_at dksX5_postAt_0 8 rfl rfl)
theorem dX5_postAt_9 : decode cX5_postAt 9 = .ok (.if_icmp .ge 31, 3) := dk_162 0 31 (dk_at dksX5_postAt_0 9 rfl rfl)
theorem dX5_postAt_12 : decode cX5_postAt 12 = .ok (.aload_n 0, 1) := dk_42 (dk_at dksX5_postAt_0 12 rfl rfl)
theorem dX5_postAt_13 : decode cX5_postAt 13 = .ok (.iload_n 3, 1) := dk_29 (dk_at dksX5_postAt_0 13 rfl rfl)
theorem dX5_postAt_14 : decode cX5_postAt 14 = .ok (.iconst 0, 1) := dk_3 (dk_at dksX5_postAt_0 14 rfl rfl)
theorem dX5_postAt_15 : decode cX5_postAt 15 = .ok (.invokevirtual 130, 3) := dk_182 0 130 (dk_at dksX5_postAt_0 15 rfl rfl)
theorem dX5_postAt_18 : decode cX5_postAt 18 = .ok (.iload_n 1, 1) := dk_27 (dk_at dksX5_postAt_0 18 rfl rfl)
theorem dX5_postAt_19 : decode cX5_postAt 19 = .ok (.if_icmp .ne 15, 3) := dk_160 0 15 (dk_at dksX5_postAt_0 19 rfl rfl)
theorem dX5_postAt_22 : decode cX5_postAt 22 = .ok (.aload_n 0, 1) := dk_42 (dk_at dksX5_postAt_0 22 rfl rfl)
theorem dX5_postAt_23 : decode cX5_postAt 23 = .ok (.iload_n 3, 1) := dk_29 (dk_at dksX5_postAt_0 23 rfl rfl)
theorem dX5_postAt_24 : decode cX5_postAt 24 = .ok (.iconst 1, 1) := dk_4 (dk_at dksX5_postAt_1 0 rfl rfl)
theorem dX5_postAt_25 : decode cX5_postAt 25 = .ok (.invokevirtual 130, 3) := dk_182 0 130 (dk_at dksX5_postAt_1 1 rfl rfl)
theorem dX5_postAt_28 : decode cX5_postAt 28 = .ok (.iload_n 2, 1) := dk_28 (dk_at dksX5_postAt_1 4 rfl rfl)
theorem dX5_postAt_29 : decode cX5_postAt 29 = .ok (.if_icmp .ne 5, 3) := dk_160 0 5 (dk_at dksX5_postAt_1 5 rfl rfl)
theorem dX5_postAt_32 : decode cX5_postAt 32 = .ok (.iload_n 3, 1) := dk_29 (dk_at dksX5_postAt_1 8 rfl rfl)
theorem dX5_postAt_33 : decode cX5_postAt 33 = .ok (.ireturn, 1) := dk_172 (dk_at dksX5_postAt_1 9 rfl rfl)
theorem dX5_postAt_34 : decode cX5_postAt 34 = .ok (.iinc 3 1, 3) := dk_132 3 1 (dk_at dksX5_postAt_1 10 rfl rfl)
theorem dX5_postAt_37 : decode cX5_postAt 37 = .ok (.goto (-35), 3) := dk_167 255 221 (dk_at dksX5_postAt_1 13 rfl rfl)
theorem dX5_postAt_40 : decode cX5_postAt 40 = .ok (.iconst (-1), 1) := dk_2 (dk_at dksX5_postAt_1 16 rfl rfl)
theorem dX5_postAt_41 : decode cX5_postAt 41 = .ok (.ireturn, 1) := dk_172 (dk_at dksX5_postAt_1 17 rfl rfl)
abbrev cX5_whyNoPost : ByteArray := prog_13_method_49_code
def yX5_whyNoPost : MethodName := ⟨RX5, "whyNoPost", "(II)I"⟩
def dkwX5_whyNoPost_2 : List UInt8 := [16, 24, 160, 0, 7, 7, 167, 0, 4, 3, 172]
abbrev dktX5_whyNoPost_2 : List UInt8 := dkwX5_whyNoPost_2 ++ []
def dkwX5_whyNoPost_1 : List UInt8 := [167, 0, 33, 42, 27, 28, 182, 0, 157, 2, 159, 0, 7, 6, 167, 0, 19, 42, 180, 0, 9, 7, 46]
abbrev dktX5_whyNoPost_1 : List UInt8 := dkwX5_whyNoPost_1 ++ dktX5_whyNoPost_2
def dkwX5_whyNoPost_0 : List UInt8 := [42, 27, 28, 182, 0, 123, 154, 0, 7, 4, 167, 0, 46, 42, 27, 28, 182, 0, 127, 153, 0, 7, 5]
abbrev dktX5_whyNoPost_0 : List UInt8 := dkwX5_whyNoPost_0 ++ dktX5_whyNoPost_1
theorem dksX5_whyNoPost_0 : cX5_whyNoPost.data.toList.drop 0 = dktX5_whyNoPost_0 := by decide +kernel
theorem dksX5_whyNoPost_1 : cX5_whyNoPost.data.toList.drop 23 = dktX5_whyNoPost_1 := dk_seg dksX5_whyNoPost_0 23 rfl rfl
theorem dksX5_whyNoPost_2 : cX5_whyNoPost.data.toList.drop 46 = dktX5_whyNoPost_2 := dk_seg dksX5_whyNoPost_1 23 rfl rfl
theorem dX5_whyNoPost_0 : decode cX5_whyNoPost 0 = .ok (.aload_n 0, 1) := dk_42 (dk_at dksX5_whyNoPost_0 0 rfl rfl)
theorem dX5_whyNoPost_1 : decode cX5_whyNoPost 1 = .ok (.iload_n 1, 1) := dk_27 (dk_at dksX5_whyNoPost_0 1 rfl rfl)
theorem dX5_whyNoPost_2 : decode cX5_whyNoPost 2 = .ok (.iload_n 2, 1) := dk_28 (dk_at dksX5_whyNoPost_0 2 rfl rfl)
theorem dX5_whyNoPost_3 : decode cX5_whyNoPost 3 = .ok (.invokevirtual 123, 3) := dk_182 0 123 (dk_at dksX5_whyNoPost_0 3 rfl rfl)
theorem dX5_whyNoPost_6 : decode cX5_whyNoPost 6 = .ok (.ifCond .ne 7, 3) := dk_154 0 7 (dk_at dksX5_whyNoPost_0 6 rfl rfl)
theorem dX5_whyNoPost_9 : decode cX5_whyNoPost 9 = .ok (.iconst 1, 1) := dk_4 (dk_at dksX5_whyNoPost_0 9 rfl rfl)
theorem dX5_whyNoPost_10 : decode cX5_whyNoPost 10 = .ok (.goto 46, 3) := dk_167 0 46 (dk_at dksX5_whyNoPost_0 10 rfl rfl)
theorem dX5_whyNoPost_13 : decode cX5_whyNoPost 13 = .ok (.aload_n 0, 1) := dk_42 (dk_at dksX5_whyNoPost_0 13 rfl rfl)
theorem dX5_whyNoPost_14 : decode cX5_whyNoPost 14 = .ok (.iload_n 1, 1) := dk_27 (dk_at dksX5_whyNoPost_0 14 rfl rfl)
theorem dX5_whyNoPost_15 : decode cX5_whyNoPost 15 = .ok (.iload_n 2, 1) := dk_28 (dk_at dksX5_whyNoPost_0 15 rfl rfl)
theorem dX5_whyNoPost_16 : decode cX5_whyNoPost 16 = .ok (.invokevirtual 127, 3) := dk_182 0 127 (dk_at dksX5_whyNoPost_0 16 rfl rfl)
theorem dX5_whyNoPost_19 : decode cX5_whyNoPost 19 = .ok (.ifCond .eq 7, 3) := dk_153 0 7 (dk_at dksX5_whyNoPost_0 19 rfl rfl)
theorem dX5_whyNoPost_22 : decode cX5_whyNoPost 22 = .ok (.iconst 2, 1) := dk_5 (dk_at dksX5_whyNoPost_0 22 rfl rfl)
theorem dX5_whyNoPost_23 : decode cX5_whyNoPost 23 = .ok (.goto 33, 3) := dk_167 0 33 (dk_at dksX5_whyNoPost_1 0 rfl rfl)
theorem dX5_whyNoPost_26 : decode cX5_whyNoPost 26 = .ok (.aload_n 0, 1) := dk_42 (dk_at dksX5_whyNoPost_1 3 rfl rfl)
theorem dX5_whyNoPost_27 : decode cX5_whyNoPost 27 = .ok (.iload_n 1, 1) := dk_27 (dk_at dksX5_whyNoPost_1 4 rfl rfl)
theorem dX5_whyNoPost_28 : decode cX5_whyNoPost 28 = .ok (.iload_n 2, 1) := dk_28 (dk_at dksX5_whyNoPost_1 5 rfl rfl)
theorem dX5_whyNoPost_29 : decode cX5_whyNoPost 29 = .ok (.invokevirtual 157, 3) := dk_182 0 157 (dk_at dksX5_whyNoPost_1 6 rfl rfl)
theorem dX5_whyNoPost_32 : decode cX5_whyNoPost 32 = .ok (.iconst (-1), 1) := dk_2 (dk_at dksX5_whyNoPost_1 9 rfl rfl)
theorem dX5_whyNoPost_33 : decode cX5_whyNoPost 33 = .ok (.if_icmp .eq 7, 3) := dk_159 0 7 (dk_at dksX5_whyNoPost_1 10 rfl rfl)
theorem dX5_whyNoPost_36 : decode cX5_whyNoPost 36 = .ok (.iconst 3, 1) := dk_6 (dk_at dksX5_whyNoPost_1 13 rfl rfl)
theorem dX5_whyNoPost_37 : decode cX5_whyNoPost 37 = .ok (.goto 19, 3) := dk_167 0 19 (dk_at dksX5_whyNoPost_1 14 rfl rfl)
theorem dX5_whyNoPost_40 : decode cX5_whyNoPost 40 = .ok (.aload_n 0, 1) := dk_42 (dk_at dksX5_whyNoPost_1 17 rfl rfl)
theorem dX5_whyNoPost_41 : decode cX5_whyNoPost 41 = .ok (.getfield 9, 3) := dk_180 0 9 (dk_at dksX5_whyNoPost_1 18 rfl rfl)
theorem dX5_whyNoPost_44 : decode cX5_whyNoPost 44 = .ok (.iconst 4, 1) := dk_7 (dk_at dksX5_whyNoPost_1 21 rfl rfl)
theorem dX5_whyNoPost_45 : decode cX5_whyNoPost 45 = .ok (.iaload, 1) := dk_46 (dk_at dksX5_whyNoPost_1 22 rfl rfl)
theorem dX5_whyNoPost_46 : decode cX5_whyNoPost 46 = .ok (.bipush 24, 2) := dk_16 24 (dk_at dksX5_whyNoPost_2 0 rfl rfl)
theorem dX5_whyNoPost_48 : decode cX5_whyNoPost 48 = .ok (.if_icmp .ne 7, 3) := dk_160 0 7 (dk_at dksX5_whyNoPost_2 2 rfl rfl)
theorem dX5_whyNoPost_51 : decode cX5_whyNoPost 51 = .ok (.iconst 4, 1) := dk_7 (dk_at dksX5_whyNoPost_2 5 rfl rfl)
theorem dX5_whyNoPost_52 : decode cX5_whyNoPost 52 = .ok (.goto 4, 3) := dk_167 0 4 (dk_at dksX5_whyNoPost_2 6 rfl rfl)
theorem dX5_whyNoPost_55 : decode cX5_whyNoPost 55 = .ok (.iconst 0, 1) := dk_3 (dk_at dksX5_whyNoPost_2 9 rfl rfl)
theorem dX5_whyNoPost_56 : decode cX5_whyNoPost 56 = .ok (.ireturn, 1) := dk_172 (dk_at dksX5_whyNoPost_2 10 rfl rfl)
abbrev cX5_put : ByteArray := prog_13_method_9_code
def yX5_put : MethodName := ⟨RX5, "put", "(III)V"⟩
def dkwX5_put_0 : List UInt8 := [42, 180, 0, 9, 17, 1, 150, 27, 8, 104, 96, 28, 96, 29, 79, 177]
abbrev dktX5_put_0 : List UInt8 := dkwX5_put_0 ++ []
theorem dksX5_put_0 : cX5_put.data.toList.drop 0 = dktX5_put_0 := by decide +kernel
theorem dX5_put_0 : decode cX5_put 0 = .ok (.aload_n 0, 1) := dk_42 (dk_at dksX5_put_0 0 rfl rfl)
theorem dX5_put_1 : decode cX5_put 1 = .ok (.getfield 9, 3) := dk_180 0 9 (dk_at dksX5_put_0 1 rfl rfl)
theorem dX5_put_4 : decode cX5_put 4 = .ok (.sipush 406, 3) := dk_17 1 150 (dk_at dksX5_put_0 4 rfl rfl)
theorem dX5_put_7 : decode cX5_put 7 = .ok (.iload_n 1, 1) := dk_27 (dk_at dksX5_put_0 7 rfl rfl)
theorem dX5_put_8 : decode cX5_put 8 = .ok (.iconst 5, 1) := dk_8 (dk_at dksX5_put_0 8 rfl rfl)
theorem dX5_put_9 : decode cX5_put 9 = .ok (.imul, 1) := dk_104 (dk_at dksX5_put_0 9 rfl rfl)
theorem dX5_put_10 : decode cX5_put 10 = .ok (.iadd, 1) := dk_96 (dk_at dksX5_put_0 10 rfl rfl)
theorem dX5_put_11 : decode cX5_put 11 = .ok (.iload_n 2, 1) := dk_28 (dk_at dksX5_put_0 11 rfl rfl)
theorem dX5_put_12 : decode cX5_put 12 = .ok (.iadd, 1) := dk_96 (dk_at dksX5_put_0 12 rfl rfl)
theorem dX5_put_13 : decode cX5_put 13 = .ok (.iload_n 3, 1) := dk_29 (dk_at dksX5_put_0 13 rfl rfl)
theorem dX5_put_14 : decode cX5_put 14 = .ok (.iastore, 1) := dk_79 (dk_at dksX5_put_0 14 rfl rfl)
theorem dX5_put_15 : decode cX5_put 15 = .ok (.return_, 1) := dk_177 (dk_at dksX5_put_0 15 rfl rfl)
abbrev cX5_lay : ByteArray := prog_13_method_50_code
def yX5_lay : MethodName := ⟨RX5, "lay", "(IIII)I"⟩
def dkwX5_lay_2 : List UInt8 := [182, 1, 54, 42, 180, 0, 9, 7, 92, 46, 4, 96, 79, 21, 5, 172]
abbrev dktX5_lay_2 : List UInt8 := dkwX5_lay_2 ++ []
def dkwX5_lay_1 : List UInt8 := [42, 21, 5, 5, 29, 182, 1, 54, 42, 21, 5, 6, 21, 4, 182, 1, 54, 42, 21, 5, 7, 3]
abbrev dktX5_lay_1 : List UInt8 := dkwX5_lay_1 ++ dktX5_lay_2
def dkwX5_lay_0 : List UInt8 := [42, 180, 0, 9, 7, 46, 54, 5, 42, 21, 5, 3, 27, 182, 1, 54, 42, 21, 5, 4, 28, 182, 1, 54]
abbrev dktX5_lay_0 : List UInt8 := dkwX5_lay_0 ++ dktX5_lay_1
theorem dksX5_lay_0 : cX5_lay.data.toList.drop 0 = dktX5_lay_0 := by decide +kernel
theorem dksX5_lay_1 : cX5_lay.data.toList.drop 24 = dktX5_lay_1 := dk_seg dksX5_lay_0 24 rfl rfl
theorem dksX5_lay_2 : cX5_lay.data.toList.drop 46 = dktX5_lay_2 := dk_seg dksX5_lay_1 22 rfl rfl
theorem dX5_lay_0 : decode cX5_lay 0 = .ok (.aload_n 0, 1) := dk_42 (dk_at dksX5_lay_0 0 rfl rfl)
theorem dX5_lay_1 : decode cX5_lay 1 = .ok (.getfield 9, 3) := dk_180 0 9 (dk_at dksX5_lay_0 1 rfl rfl)
theorem dX5_lay_4 : decode cX5_lay 4 = .ok (.iconst 4, 1) := dk_7 (dk_at dksX5_lay_0 4 rfl rfl)
theorem dX5_lay_5 : decode cX5_lay 5 = .ok (.iaload, 1) := dk_46 (dk_at dksX5_lay_0 5 rfl rfl)
theorem dX5_lay_6 : decode cX5_lay 6 = .ok (.istore 5, 2) := dk_54 5 (dk_at dksX5_lay_0 6 rfl rfl)
theorem dX5_lay_8 : decode cX5_lay 8 = .ok (.aload_n 0, 1) := dk_42 (dk_at dksX5_lay_0 8 rfl rfl)
theorem dX5_lay_9 : decode cX5_lay 9 = .ok (.iload 5, 2) := dk_21 5 (dk_at dksX5_lay_0 9 rfl rfl)
theorem dX5_lay_11 : decode cX5_lay 11 = .ok (.iconst 0, 1) := dk_3 (dk_at dksX5_lay_0 11 rfl rfl)
theorem dX5_lay_12 : decode cX5_lay 12 = .ok (.iload_n 1, 1) := dk_27 (dk_at dksX5_lay_0 12 rfl rfl)
theorem dX5_lay_13 : decode cX5_lay 13 = .ok (.invokevirtual 310, 3) := dk_182 1 54 (dk_at dksX5_lay_0 13 rfl rfl)
theorem dX5_lay_16 : decode cX5_lay 16 = .ok (.aload_n 0, 1) := dk_42 (dk_at dksX5_lay_0 16 rfl rfl)
theorem dX5_lay_17 : decode cX5_lay 17 = .ok (.iload 5, 2) := dk_21 5 (dk_at dksX5_lay_0 17 rfl rfl)
theorem dX5_lay_19 : decode cX5_lay 19 = .ok (.iconst 1, 1) := dk_4 (dk_at dksX5_lay_0 19 rfl rfl)
theorem dX5_lay_20 : decode cX5_lay 20 = .ok (.iload_n 2, 1) := dk_28 (dk_at dksX5_lay_0 20 rfl rfl)
theorem dX5_lay_21 : decode cX5_lay 21 = .ok (.invokevirtual 310, 3) := dk_182 1 54 (dk_at dksX5_lay_0 21 rfl rfl)
theorem dX5_lay_24 : decode cX5_lay 24 = .ok (.aload_n 0, 1) := dk_42 (dk_at dksX5_lay_1 0 rfl rfl)
theorem dX5_lay_25 : decode cX5_lay 25 = .ok (.iload 5, 2) := dk_21 5 (dk_at dksX5_lay_1 1 rfl rfl)
theorem dX5_lay_27 : decode cX5_lay 27 = .ok (.iconst 2, 1) := dk_5 (dk_at dksX5_lay_1 3 rfl rfl)
theorem dX5_lay_28 : decode cX5_lay 28 = .ok (.iload_n 3, 1) := dk_29 (dk_at dksX5_lay_1 4 rfl rfl)
theorem dX5_lay_29 : decode cX5_lay 29 = .ok (.invokevirtual 310, 3) := dk_182 1 54 (dk_at dksX5_lay_1 5 rfl rfl)
theorem dX5_lay_32 : decode cX5_lay 32 = .ok (.aload_n 0, 1) := dk_42 (dk_at dksX5_lay_1 8 rfl rfl)
theorem dX5_lay_33 : decode cX5_lay 33 = .ok (.iload 5, 2) := dk_21 5 (dk_at dksX5_lay_1 9 rfl rfl)
theorem dX5_lay_35 : decode cX5_lay 35 = .ok (.iconst 3, 1) := dk_6 (dk_at dksX5_lay_1 11 rfl rfl)
theorem dX5_lay_36 : decode cX5_lay 36 = .ok (.iload 4, 2) := dk_21 4 (dk_at dksX5_lay_1 12 rfl rfl)
theorem dX5_lay_38 : decode cX5_lay 38 = .ok (.invokevirtual 310, 3) := dk_182 1 54 (dk_at dksX5_lay_1 14 rfl rfl)
theorem dX5_lay_41 : decode cX5_lay 41 = .ok (.aload_n 0, 1) := dk_42 (dk_at dksX5_lay_1 17 rfl rfl)
theorem dX5_lay_42 : decode cX5_lay 42 = .ok (.iload 5, 2) := dk_21 5 (dk_at dksX5_lay_1 18 rfl rfl)
theorem dX5_lay_44 : decode cX5_lay 44 = .ok (.iconst 4, 1) := dk_7 (dk_at dksX5_lay_1 20 rfl rfl)
theorem dX5_lay_45 : decode cX5_lay 45 = .ok (.iconst 0, 1) := dk_3 (dk_at dksX5_lay_1 21 rfl rfl)
theorem dX5_lay_46 : decode cX5_lay 46 = .ok (.invokevirtual 310, 3) := dk_182 1 54 (dk_at dksX5_lay_2 0 rfl rfl)
theorem dX5_lay_49 : decode cX5_lay 49 = .ok (.aload_n 0, 1) := dk_42 (dk_at dksX5_lay_2 3 rfl rfl)
theorem dX5_lay_50 : decode cX5_lay 50 = .ok (.getfield 9, 3) := dk_180 0 9 (dk_at dksX5_lay_2 4 rfl rfl)
theorem dX5_lay_53 : decode cX5_lay 53 = .ok (.iconst 4, 1) := dk_7 (dk_at dksX5_lay_2 7 rfl rfl)
theorem dX5_lay_54 : decode cX5_lay 54 = .ok (.dup2, 1) := dk_92 (dk_at dksX5_lay_2 8 rfl rfl)
theorem dX5_lay_55 : decode cX5_lay 55 = .ok (.iaload, 1) := dk_46 (dk_at dksX5_lay_2 9 rfl rfl)
theorem dX5_lay_56 : decode cX5_lay 56 = .ok (.iconst 1, 1) := dk_4 (dk_at dksX5_lay_2 10 rfl rfl)
theorem dX5_lay_57 : decode cX5_lay 57 = .ok (.iadd, 1) := dk_96 (dk_at dksX5_lay_2 11 rfl rfl)
theorem dX5_lay_58 : decode cX5_lay 58 = .ok (.iastore, 1) := dk_79 (dk_at dksX5_lay_2 12 rfl rfl)
theorem dX5_lay_59 : decode cX5_lay 59 = .ok (.iload 5, 2) := dk_21 5 (dk_at dksX5_lay_2 13 rfl rfl)
theorem dX5_lay_61 : decode cX5_lay 61 = .ok (.ireturn, 1) := dk_172 (dk_at dksX5_lay_2 15 rfl rfl)
abbrev cX5_dx : ByteArray := prog_13_method_17_code
def yX5_dx : MethodName := ⟨RX5, "dx", "(I)I"⟩
def dkwX5_dx_0 : List UInt8 := [26, 4, 160, 0, 7, 4, 167, 0, 13, 26, 6, 160, 0, 7, 2, 167, 0, 4, 3, 172]
abbrev dktX5_dx_0 : List UInt8 := dkwX5_dx_0 ++ []
theorem dksX5_dx_0 : cX5_dx.data.toList.drop 0 = dktX5_dx_0 := by decide +kernel
theorem dX5_dx_0 : decode cX5_dx 0 = .ok (.iload_n 0, 1) := dk_26 (dk_at dksX5_dx_0 0 rfl rfl)
theorem dX5_dx_1 : decode cX5_dx 1 = .ok (.iconst 1, 1) := dk_4 (dk_at dksX5_dx_0 1 rfl rfl)
theorem dX5_dx_2 : decode cX5_dx 2 = .ok (.if_icmp .ne 7, 3) := dk_160 0 7 (dk_at dksX5_dx_0 2 rfl rfl)
theorem dX5_dx_5 : decode cX5_dx 5 = .ok (.iconst 1, 1) := dk_4 (dk_at dksX5_dx_0 5 rfl rfl)
theorem dX5_dx_6 : decode cX5_dx 6 = .ok (.goto 13, 3) := dk_167 0 13 (dk_at dksX5_dx_0 6 rfl rfl)
theorem dX5_dx_9 : decode cX5_dx 9 = .ok (.iload_n 0, 1) := dk_26 (dk_at dksX5_dx_0 9 rfl rfl)
theorem dX5_dx_10 : decode cX5_dx 10 = .ok (.iconst 3, 1) := dk_6 (dk_at dksX5_dx_0 10 rfl rfl)
theorem dX5_dx_11 : decode cX5_dx 11 = .ok (.if_icmp .ne 7, 3) := dk_160 0 7 (dk_at dksX5_dx_0 11 rfl rfl)
theorem dX5_dx_14 : decode cX5_dx 14 = .ok (.iconst (-1), 1) := dk_2 (dk_at dksX5_dx_0 14 rfl rfl)
theorem dX5_dx_15 : decode cX5_dx 15 = .ok (.goto 4, 3) := dk_167 0 4 (dk_at dksX5_dx_0 15 rfl rfl)
theorem dX5_dx_18 : decode cX5_dx 18 = .ok (.iconst 0, 1) := dk_3 (dk_at dksX5_dx_0 18 rfl rfl)
theorem dX5_dx_19 : decode cX5_dx 19 = .ok (.ireturn, 1) := dk_172 (dk_at dksX5_dx_0 19 rfl rfl)
abbrev cX5_dy : ByteArray := prog_13_method_18_code
def yX5_dy : MethodName := ⟨RX5, "dy", "(I)I"⟩
def dkwX5_dy_0 : List UInt8 := [26, 154, 0, 7, 2, 167, 0, 13, 26, 5, 160, 0, 7, 4, 167, 0, 4, 3, 172]
abbrev dktX5_dy_0 : List UInt8 := dkwX5_dy_0 ++ []
theorem dksX5_dy_0 : cX5_dy.data.toList.drop 0 = dktX5_dy_0 := by decide +kernel
theorem dX5_dy_0 : decode cX5_dy 0 = .ok (.iload_n 0, 1) := dk_26 (dk_at dksX5_dy_0 0 rfl rfl)
theorem dX5_dy_1 : decode cX5_dy 1 = .ok (.ifCond .ne 7, 3) := dk_154 0 7 (dk_at dksX5_dy_0 1 rfl rfl)
theorem dX5_dy_4 : decode cX5_dy 4 = .ok (.iconst (-1), 1) := dk_2 (dk_at dksX5_dy_0 4 rfl rfl)
theorem dX5_dy_5 : decode cX5_dy 5 = .ok (.goto 13, 3) := dk_167 0 13 (dk_at dksX5_dy_0 5 rfl rfl)
theorem dX5_dy_8 : decode cX5_dy 8 = .ok (.iload_n 0, 1) := dk_26 (dk_at dksX5_dy_0 8 rfl rfl)
theorem dX5_dy_9 : decode cX5_dy 9 = .ok (.iconst 2, 1) := dk_5 (dk_at dksX5_dy_0 9 rfl rfl)
theorem dX5_dy_10 : decode cX5_dy 10 = .ok (.if_icmp .ne 7, 3) := dk_160 0 7 (dk_at dksX5_dy_0 10 rfl rfl)
theorem dX5_dy_13 : decode cX5_dy 13 = .ok (.iconst 1, 1) := dk_4 (dk_at dksX5_dy_0 13 rfl rfl)
theorem dX5_dy_14 : decode cX5_dy 14 = .ok (.goto 4, 3) := dk_167 0 4 (dk_at dksX5_dy_0 14 rfl rfl)
theorem dX5_dy_17 : decode cX5_dy 17 = .ok (.iconst 0, 1) := dk_3 (dk_at dksX5_dy_0 17 rfl rfl)
theorem dX5_dy_18 : decode cX5_dy 18 = .ok (.ireturn, 1) := dk_172 (dk_at dksX5_dy_0 18 rfl rfl)
abbrev cX5_layLeg : ByteArray := prog_13_method_51_code
def yX5_layLeg : MethodName := ⟨RX5, "layLeg", "(IIZI)V"⟩
def dkwX5_layLeg_7 : List UInt8 := [29, 84, 42, 89, 180, 1, 68, 4, 96, 181, 1, 68, 177]
abbrev dktX5_layLeg_7 : List UInt8 := dkwX5_layLeg_7 ++ []
def dkwX5_layLeg_6 : List UInt8 := [180, 1, 68, 28, 79, 42, 180, 0, 69, 42, 180, 1, 68, 21, 4, 79, 42, 180, 0, 72, 42, 180, 1, 68]
abbrev dktX5_layLeg_6 : List UInt8 := dkwX5_layLeg_6 ++ dktX5_layLeg_7
def dkwX5_layLeg_5 : List UInt8 := [4, 167, 0, 4, 3, 182, 1, 54, 42, 180, 0, 63, 42, 180, 1, 68, 27, 79, 42, 180, 0, 66, 42]
abbrev dktX5_layLeg_5 : List UInt8 := dkwX5_layLeg_5 ++ dktX5_layLeg_6
def dkwX5_layLeg_4 : List UInt8 := [180, 1, 58, 5, 182, 0, 130, 7, 182, 1, 64, 181, 1, 58, 42, 42, 180, 1, 58, 7, 29, 153, 0, 7]
abbrev dktX5_layLeg_4 : List UInt8 := dkwX5_layLeg_4 ++ dktX5_layLeg_5
def dkwX5_layLeg_3 : List UInt8 := [153, 0, 4, 177, 42, 42, 180, 1, 58, 6, 28, 182, 1, 54, 42, 42, 21, 5, 21, 6, 42, 42]
abbrev dktX5_layLeg_3 : List UInt8 := dkwX5_layLeg_3 ++ dktX5_layLeg_4
def dkwX5_layLeg_2 : List UInt8 := [21, 7, 158, 0, 7, 4, 167, 0, 4, 3, 8, 21, 7, 21, 4, 182, 1, 28, 42, 180, 1, 32]
abbrev dktX5_layLeg_2 : List UInt8 := dkwX5_layLeg_2 ++ dktX5_layLeg_3
def dkwX5_layLeg_1 : List UInt8 := [182, 0, 130, 27, 28, 184, 0, 151, 104, 96, 54, 6, 42, 21, 5, 21, 6, 182, 1, 61, 54, 7, 42]
abbrev dktX5_layLeg_1 : List UInt8 := dkwX5_layLeg_1 ++ dktX5_layLeg_2
def dkwX5_layLeg_0 : List UInt8 := [42, 42, 180, 1, 58, 3, 182, 0, 130, 27, 28, 184, 0, 147, 104, 96, 54, 5, 42, 42, 180, 1, 58, 4]
abbrev dktX5_layLeg_0 : List UInt8 := dkwX5_layLeg_0 ++ dktX5_layLeg_1
theorem dksX5_layLeg_0 : cX5_layLeg.data.toList.drop 0 = dktX5_layLeg_0 := by decide +kernel
theorem dksX5_layLeg_1 : cX5_layLeg.data.toList.drop 24 = dktX5_layLeg_1 := dk_seg dksX5_layLeg_0 24 rfl rfl
theorem dksX5_layLeg_2 : cX5_layLeg.data.toList.drop 47 = dktX5_layLeg_2 := dk_seg dksX5_layLeg_1 23 rfl rfl
theorem dksX5_layLeg_3 : cX5_layLeg.data.toList.drop 69 = dktX5_layLeg_3 := dk_seg dksX5_layLeg_2 22 rfl rfl
theorem dksX5_layLeg_4 : cX5_layLeg.data.toList.drop 91 = dktX5_layLeg_4 := dk_seg dksX5_layLeg_3 22 rfl rfl
theorem dksX5_layLeg_5 : cX5_layLeg.data.toList.drop 115 = dktX5_layLeg_5 := dk_seg dksX5_layLeg_4 24 rfl rfl
theorem dksX5_layLeg_6 : cX5_layLeg.data.toList.drop 138 = dktX5_layLeg_6 := dk_seg dksX5_layLeg_5 23 rfl rfl
theorem dksX5_layLeg_7 : cX5_layLeg.data.toList.drop 162 = dktX5_layLeg_7 := dk_seg dksX5_layLeg_6 24 rfl rfl
theorem dX5_layLeg_0 : decode cX5_layLeg 0 = .ok (.aload_n 0, 1) := dk_42 (dk_at dksX5_layLeg_0 0 rfl rfl)
theorem dX5_layLeg_1 : decode cX5_layLeg 1 = .ok (.aload_n 0, 1) := dk_42 (dk_at dksX5_layLeg_0 1 rfl rfl)
theorem dX5_layLeg_2 : decode cX5_layLeg 2 = .ok (.getfield 314, 3) := dk_180 1 58 (dk_at dksX5_layLeg_0 2 rfl rfl)
theorem dX5_layLeg_5 : decode cX5_layLeg 5 = .ok (.iconst 0, 1) := dk_3 (dk_at dksX5_layLeg_0 5 rfl rfl)
theorem dX5_layLeg_6 : decode cX5_layLeg 6 = .ok (.invokevirtual 130, 3) := dk_182 0 130 (dk_at dksX5_layLeg_0 6 rfl rfl)
theorem dX5_layLeg_9 : decode cX5_layLeg 9 = .ok (.iload_n 1, 1) := dk_27 (dk_at dksX5_layLeg_0 9 rfl rfl)
theorem dX5_layLeg_10 : decode cX5_layLeg 10 = .ok (.iload_n 2, 1) := dk_28 (dk_at dksX5_layLeg_0 10 rfl rfl)
theorem dX5_layLeg_11 : decode cX5_layLeg 11 = .ok (.invokestatic 147, 3) := dk_184 0 147 (dk_at dksX5_layLeg_0 11 rfl rfl)
theorem dX5_layLeg_14 : decode cX5_layLeg 14 = .ok (.imul, 1) := dk_104 (dk_at dksX5_layLeg_0 14 rfl rfl)
theorem dX5_layLeg_15 : decode cX5_layLeg 15 = .ok (.iadd, 1) := dk_96 (dk_at dksX5_layLeg_0 15 rfl rfl)
theorem dX5_layLeg_16 : decode cX5_layLeg 16 = .ok (.istore 5, 2) := dk_54 5 (dk_at dksX5_layLeg_0 16 rfl rfl)
theorem dX5_layLeg_18 : decode cX5_layLeg 18 = .ok (.aload_n 0, 1) := dk_42 (dk_at dksX5_layLeg_0 18 rfl rfl)
theorem dX5_layLeg_19 : decode cX5_layLeg 19 = .ok (.aload_n 0, 1) := dk_42 (dk_at dksX5_layLeg_0 19 rfl rfl)
theorem dX5_layLeg_20 : decode cX5_layLeg 20 = .ok (.getfield 314, 3) := dk_180 1 58 (dk_at dksX5_layLeg_0 20 rfl rfl)
theorem dX5_layLeg_23 : decode cX5_layLeg 23 = .ok (.iconst 1, 1) := dk_4 (dk_at dksX5_layLeg_0 23 rfl rfl)
theorem dX5_layLeg_24 : decode cX5_layLeg 24 = .ok (.invokevirtual 130, 3) := dk_182 0 130 (dk_at dksX5_layLeg_1 0 rfl rfl)
theorem dX5_layLeg_27 : decode cX5_layLeg 27 = .ok (.iload_n 1, 1) := dk_27 (dk_at dksX5_layLeg_1 3 rfl rfl)
theorem dX5_layLeg_28 : decode cX5_layLeg 28 = .ok (.iload_n 2, 1) := dk_28 (dk_at dksX5_layLeg_1 4 rfl rfl)
theorem dX5_layLeg_29 : decode cX5_layLeg 29 = .ok (.invokestatic 151, 3) := dk_184 0 151 (dk_at dksX5_layLeg_1 5 rfl rfl)
theorem dX5_layLeg_32 : decode cX5_layLeg 32 = .ok (.imul, 1) := dk_104 (dk_at dksX5_layLeg_1 8 rfl rfl)
theorem dX5_layLeg_33 : decode cX5_layLeg 33 = .ok (.iadd, 1) := dk_96 (dk_at dksX5_layLeg_1 9 rfl rfl)
theorem dX5_layLeg_34 : decode cX5_layLeg 34 = .ok (.istore 6, 2) := dk_54 6 (dk_at dksX5_layLeg_1 10 rfl rfl)
theorem dX5_layLeg_36 : decode cX5_layLeg 36 = .ok (.aload_n 0, 1) := dk_42 (dk_at dksX5_layLeg_1 12 rfl rfl)
theorem dX5_layLeg_37 : decode cX5_layLeg 37 = .ok (.iload 5, 2) := dk_21 5 (dk_at dksX5_layLeg_1 13 rfl rfl)
theorem dX5_layLeg_39 : decode cX5_layLeg 39 = .ok (.iload 6, 2) := dk_21 6 (dk_at dksX5_layLeg_1 15 rfl rfl)
theorem dX5_layLeg_41 : decode cX5_layLeg 41 = .ok (.invokevirtual 317, 3) := dk_182 1 61 (dk_at dksX5_layLeg_1 17 rfl rfl)
theorem dX5_layLeg_44 : decode cX5_layLeg 44 = .ok (.istore 7, 2) := dk_54 7 (dk_at dksX5_layLeg_1 20 rfl rfl)
theorem dX5_layLeg_46 : decode cX5_layLeg 46 = .ok (.aload_n 0, 1) := dk_42 (dk_at dksX5_layLeg_1 22 rfl rfl)
theorem dX5_layLeg_47 : decode cX5_layLeg 47 = .ok (.iload 7, 2) := dk_21 7 (dk_at dksX5_layLeg_2 0 rfl rfl)
theorem dX5_layLeg_49 : decode cX5_layLeg 49 = .ok (.ifCond .le 7, 3) := dk_158 0 7 (dk_at dksX5_layLeg_2 2 rfl rfl)
theorem dX5_layLeg_52 : decode cX5_layLeg 52 = .ok (.iconst 1, 1) := dk_4 (dk_at dksX5_layLeg_2 5 rfl rfl)
theorem dX5_layLeg_53 : decode cX5_layLeg 53 = .ok (.goto 4, 3) := dk_167 0 4 (dk_at dksX5_layLeg_2 6 rfl rfl)
theorem dX5_layLeg_56 : decode cX5_layLeg 56 = .ok (.iconst 0, 1) := dk_3 (dk_at dksX5_layLeg_2 9 rfl rfl)
theorem dX5_layLeg_57 : decode cX5_layLeg 57 = .ok (.iconst 5, 1) := dk_8 (dk_at dksX5_layLeg_2 10 rfl rfl)
theorem dX5_layLeg_58 : decode cX5_layLeg 58 = .ok (.iload 7, 2) := dk_21 7 (dk_at dksX5_layLeg_2 11 rfl rfl)
theorem dX5_layLeg_60 : decode cX5_layLeg 60 = .ok (.iload 4, 2) := dk_21 4 (dk_at dksX5_layLeg_2 13 rfl rfl)
theorem dX5_layLeg_62 : decode cX5_layLeg 62 = .ok (.invokevirtual 284, 3) := dk_182 1 28 (dk_at dksX5_layLeg_2 15 rfl rfl)
theorem dX5_layLeg_65 : decode cX5_layLeg 65 = .ok (.aload_n 0, 1) := dk_42 (dk_at dksX5_layLeg_2 18 rfl rfl)
theorem dX5_layLeg_66 : decode cX5_layLeg 66 = .ok (.getfield 288, 3) := dk_180 1 32 (dk_at dksX5_layLeg_2 19 rfl rfl)
theorem dX5_layLeg_69 : decode cX5_layLeg 69 = .ok (.ifCond .eq 4, 3) := dk_153 0 4 (dk_at dksX5_layLeg_3 0 rfl rfl)
theorem dX5_layLeg_72 : decode cX5_layLeg 72 = .ok (.return_, 1) := dk_177 (dk_at dksX5_layLeg_3 3 rfl rfl)
theorem dX5_layLeg_73 : decode cX5_layLeg 73 = .ok (.aload_n 0, 1) := dk_42 (dk_at dksX5_layLeg_3 4 rfl rfl)
theorem dX5_layLeg_74 : decode cX5_layLeg 74 = .ok (.aload_n 0, 1) := dk_42 (dk_at dksX5_layLeg_3 5 rfl rfl)
theorem dX5_layLeg_75 : decode cX5_layLeg 75 = .ok (.getfield 314, 3) := dk_180 1 58 (dk_at dksX5_layLeg_3 6 rfl rfl)
theorem dX5_layLeg_78 : decode cX5_layLeg 78 = .ok (.iconst 3, 1) := dk_6 (dk_at dksX5_layLeg_3 9 rfl rfl)
theorem dX5_layLeg_79 : decode cX5_layLeg 79 = .ok (.iload_n 2, 1) := dk_28 (dk_at dksX5_layLeg_3 10 rfl rfl)
theorem dX5_layLeg_80 : decode cX5_layLeg 80 = .ok (.invokevirtual 310, 3) := dk_182 1 54 (dk_at dksX5_layLeg_3 11 rfl rfl)
theorem dX5_layLeg_83 : decode cX5_layLeg 83 = .ok (.aload_n 0, 1) := dk_42 (dk_at dksX5_layLeg_3 14 rfl rfl)
theorem dX5_layLeg_84 : decode cX5_layLeg 84 = .ok (.aload_n 0, 1) := dk_42 (dk_at dksX5_layLeg_3 15 rfl rfl)
theorem dX5_layLeg_85 : decode cX5_layLeg 85 = .ok (.iload 5, 2) := dk_21 5 (dk_at dksX5_layLeg_3 16 rfl rfl)
theorem dX5_layLeg_87 : decode cX5_layLeg 87 = .ok (.iload 6, 2) := dk_21 6 (dk_at dksX5_layLeg_3 18 rfl rfl)
theorem dX5_layLeg_89 : decode cX5_layLeg 89 = .ok (.aload_n 0, 1) := dk_42 (dk_at dksX5_layLeg_3 20 rfl rfl)
theorem dX5_layLeg_90 : decode cX5_layLeg 90 = .ok (.aload_n 0, 1) := dk_42 (dk_at dksX5_layLeg_3 21 rfl rfl)
theorem dX5_layLeg_91 : decode cX5_layLeg 91 = .ok (.getfield 314, 3) := dk_180 1 58 (dk_at dksX5_layLeg_4 0 rfl rfl)
theorem dX5_layLeg_94 : decode cX5_layLeg 94 = .ok (.iconst 2, 1) := dk_5 (dk_at dksX5_layLeg_4 3 rfl rfl)
theorem dX5_layLeg_95 : decode cX5_layLeg 95 = .ok (.invokevirtual 130, 3) := dk_182 0 130 (dk_at dksX5_layLeg_4 4 rfl rfl)
theorem dX5_layLeg_98 : decode cX5_layLeg 98 = .ok (.iconst 4, 1) := dk_7 (dk_at dksX5_layLeg_4 7 rfl rfl)
theorem dX5_layLeg_99 : decode cX5_layLeg 99 = .ok (.invokevirtual 320, 3) := dk_182 1 64 (dk_at dksX5_layLeg_4 8 rfl rfl)
theorem dX5_layLeg_102 : decode cX5_layLeg 102 = .ok (.putfield 314, 3) := dk_181 1 58 (dk_at dksX5_layLeg_4 11 rfl rfl)
theorem dX5_layLeg_105 : decode cX5_layLeg 105 = .ok (.aload_n 0, 1) := dk_42 (dk_at dksX5_layLeg_4 14 rfl rfl)
theorem dX5_layLeg_106 : decode cX5_layLeg 106 = .ok (.aload_n 0, 1) := dk_42 (dk_at dksX5_layLeg_4 15 rfl rfl)
theorem dX5_layLeg_107 : decode cX5_layLeg 107 = .ok (.getfield 314, 3) := dk_180 1 58 (dk_at dksX5_layLeg_4 16 rfl rfl)
theorem dX5_layLeg_110 : decode cX5_layLeg 110 = .ok (.iconst 4, 1) := dk_7 (dk_at dksX5_layLeg_4 19 rfl rfl)
theorem dX5_layLeg_111 : decode cX5_layLeg 111 = .ok (.iload_n 3, 1) := dk_29 (dk_at dksX5_layLeg_4 20 rfl rfl)
theorem dX5_layLeg_112 : decode cX5_layLeg 112 = .ok (.ifCond .eq 7, 3) := dk_153 0 7 (dk_at dksX5_layLeg_4 21 rfl rfl)
theorem dX5_layLeg_115 : decode cX5_layLeg 115 = .ok (.iconst 1, 1) := dk_4 (dk_at dksX5_layLeg_5 0 rfl rfl)
theorem dX5_layLeg_116 : decode cX5_layLeg 116 = .ok (.goto 4, 3) := dk_167 0 4 (dk_at dksX5_layLeg_5 1 rfl rfl)
theorem dX5_layLeg_119 : decode cX5_layLeg 119 = .ok (.iconst 0, 1) := dk_3 (dk_at dksX5_layLeg_5 4 rfl rfl)
theorem dX5_layLeg_120 : decode cX5_layLeg 120 = .ok (.invokevirtual 310, 3) := dk_182 1 54 (dk_at dksX5_layLeg_5 5 rfl rfl)
theorem dX5_layLeg_123 : decode cX5_layLeg 123 = .ok (.aload_n 0, 1) := dk_42 (dk_at dksX5_layLeg_5 8 rfl rfl)
theorem dX5_layLeg_124 : decode cX5_layLeg 124 = .ok (.getfield 63, 3) := dk_180 0 63 (dk_at dksX5_layLeg_5 9 rfl rfl)
theorem dX5_layLeg_127 : decode cX5_layLeg 127 = .ok (.aload_n 0, 1) := dk_42 (dk_at dksX5_layLeg_5 12 rfl rfl)
theorem dX5_layLeg_128 : decode cX5_layLeg 128 = .ok (.getfield 324, 3) := dk_180 1 68 (dk_at dksX5_layLeg_5 13 rfl rfl)
theorem dX5_layLeg_131 : decode cX5_layLeg 131 = .ok (.iload_n 1, 1) := dk_27 (dk_at dksX5_layLeg_5 16 rfl rfl)
theorem dX5_layLeg_132 : decode cX5_layLeg 132 = .ok (.iastore, 1) := dk_79 (dk_at dksX5_layLeg_5 17 rfl rfl)
theorem dX5_layLeg_133 : decode cX5_layLeg 133 = .ok (.aload_n 0, 1) := dk_42 (dk_at dksX5_layLeg_5 18 rfl rfl)
theorem dX5_layLeg_134 : decode cX5_layLeg 134 = .ok (.getfield 66, 3) := dk_180 0 66 (dk_at dksX5_layLeg_5 19 rfl rfl)
theorem dX5_layLeg_137 : decode cX5_layLeg 137 = .ok (.aload_n 0, 1) := dk_42 (dk_at dksX5_layLeg_5 22 rfl rfl)
theorem dX5_layLeg_138 : decode cX5_layLeg 138 = .ok (.getfield 324, 3) := dk_180 1 68 (dk_at dksX5_layLeg_6 0 rfl rfl)
theorem dX5_layLeg_141 : decode cX5_layLeg 141 = .ok (.iload_n 2, 1) := dk_28 (dk_at dksX5_layLeg_6 3 rfl rfl)
theorem dX5_layLeg_142 : decode cX5_layLeg 142 = .ok (.iastore, 1) := dk_79 (dk_at dksX5_layLeg_6 4 rfl rfl)
theorem dX5_layLeg_143 : decode cX5_layLeg 143 = .ok (.aload_n 0, 1) := dk_42 (dk_at dksX5_layLeg_6 5 rfl rfl)
theorem dX5_layLeg_144 : decode cX5_layLeg 144 = .ok (.getfield 69, 3) := dk_180 0 69 (dk_at dksX5_layLeg_6 6 rfl rfl)
theorem dX5_layLeg_147 : decode cX5_layLeg 147 = .ok (.aload_n 0, 1) := dk_42 (dk_at dksX5_layLeg_6 9 rfl rfl)
theorem dX5_layLeg_148 : decode cX5_layLeg 148 = .ok (.getfield 324, 3) := dk_180 1 68 (dk_at dksX5_layLeg_6 10 rfl rfl)
theorem dX5_layLeg_151 : decode cX5_layLeg 151 = .ok (.iload 4, 2) := dk_21 4 (dk_at dksX5_layLeg_6 13 rfl rfl)
theorem dX5_layLeg_153 : decode cX5_layLeg 153 = .ok (.iastore, 1) := dk_79 (dk_at dksX5_layLeg_6 15 rfl rfl)
theorem dX5_layLeg_154 : decode cX5_layLeg 154 = .ok (.aload_n 0, 1) := dk_42 (dk_at dksX5_layLeg_6 16 rfl rfl)
theorem dX5_layLeg_155 : decode cX5_layLeg 155 = .ok (.getfield 72, 3) := dk_180 0 72 (dk_at dksX5_layLeg_6 17 rfl rfl)
theorem dX5_layLeg_158 : decode cX5_layLeg 158 = .ok (.aload_n 0, 1) := dk_42 (dk_at dksX5_layLeg_6 20 rfl rfl)
theorem dX5_layLeg_159 : decode cX5_layLeg 159 = .ok (.getfield 324, 3) := dk_180 1 68 (dk_at dksX5_layLeg_6 21 rfl rfl)
theorem dX5_layLeg_162 : decode cX5_layLeg 162 = .ok (.iload_n 3, 1) := dk_29 (dk_at dksX5_layLeg_7 0 rfl rfl)
theorem dX5_layLeg_163 : decode cX5_layLeg 163 = .ok (.bastore, 1) := dk_84 (dk_at dksX5_layLeg_7 1 rfl rfl)
theorem dX5_layLeg_164 : decode cX5_layLeg 164 = .ok (.aload_n 0, 1) := dk_42 (dk_at dksX5_layLeg_7 2 rfl rfl)
theorem dX5_layLeg_165 : decode cX5_layLeg 165 = .ok (.dup, 1) := dk_89 (dk_at dksX5_layLeg_7 3 rfl rfl)
theorem dX5_layLeg_166 : decode cX5_layLeg 166 = .ok (.getfield 324, 3) := dk_180 1 68 (dk_at dksX5_layLeg_7 4 rfl rfl)
theorem dX5_layLeg_169 : decode cX5_layLeg 169 = .ok (.iconst 1, 1) := dk_4 (dk_at dksX5_layLeg_7 7 rfl rfl)
theorem dX5_layLeg_170 : decode cX5_layLeg 170 = .ok (.iadd, 1) := dk_96 (dk_at dksX5_layLeg_7 8 rfl rfl)
theorem dX5_layLeg_171 : decode cX5_layLeg 171 = .ok (.putfield 324, 3) := dk_181 1 68 (dk_at dksX5_layLeg_7 9 rfl rfl)
theorem dX5_layLeg_174 : decode cX5_layLeg 174 = .ok (.return_, 1) := dk_177 (dk_at dksX5_layLeg_7 12 rfl rfl)
abbrev cX5_block : ByteArray := prog_13_method_58_code
def yX5_block : MethodName := ⟨RX5, "block", "(III)V"⟩
def dkwX5_block_1 : List UInt8 := [79, 42, 180, 0, 9, 16, 6, 16, 20, 28, 104, 96, 27, 96, 29, 79, 177]
abbrev dktX5_block_1 : List UInt8 := dkwX5_block_1 ++ []
def dkwX5_block_0 : List UInt8 := [42, 180, 0, 9, 8, 92, 46, 29, 42, 180, 0, 9, 16, 6, 16, 20, 28, 104, 96, 27, 96, 46, 100, 96]
abbrev dktX5_block_0 : List UInt8 := dkwX5_block_0 ++ dktX5_block_1
theorem dksX5_block_0 : cX5_block.data.toList.drop 0 = dktX5_block_0 := by decide +kernel
theorem dksX5_block_1 : cX5_block.data.toList.drop 24 = dktX5_block_1 := dk_seg dksX5_block_0 24 rfl rfl
theorem dX5_block_0 : decode cX5_block 0 = .ok (.aload_n 0, 1) := dk_42 (dk_at dksX5_block_0 0 rfl rfl)
theorem dX5_block_1 : decode cX5_block 1 = .ok (.getfield 9, 3) := dk_180 0 9 (dk_at dksX5_block_0 1 rfl rfl)
theorem dX5_block_4 : decode cX5_block 4 = .ok (.iconst 5, 1) := dk_8 (dk_at dksX5_block_0 4 rfl rfl)
theorem dX5_block_5 : decode cX5_block 5 = .ok (.dup2, 1) := dk_92 (dk_at dksX5_block_0 5 rfl rfl)
theorem dX5_block_6 : decode cX5_block 6 = .ok (.iaload, 1) := dk_46 (dk_at dksX5_block_0 6 rfl rfl)
theorem dX5_block_7 : decode cX5_block 7 = .ok (.iload_n 3, 1) := dk_29 (dk_at dksX5_block_0 7 rfl rfl)
theorem dX5_block_8 : decode cX5_block 8 = .ok (.aload_n 0, 1) := dk_42 (dk_at dksX5_block_0 8 rfl rfl)
theorem dX5_block_9 : decode cX5_block 9 = .ok (.getfield 9, 3) := dk_180 0 9 (dk_at dksX5_block_0 9 rfl rfl)
theorem dX5_block_12 : decode cX5_block 12 = .ok (.bipush 6, 2) := dk_16 6 (dk_at dksX5_block_0 12 rfl rfl)
theorem dX5_block_14 : decode cX5_block 14 = .ok (.bipush 20, 2) := dk_16 20 (dk_at dksX5_block_0 14 rfl rfl)
theorem dX5_block_16 : decode cX5_block 16 = .ok (.iload_n 2, 1) := dk_28 (dk_at dksX5_block_0 16 rfl rfl)
theorem dX5_block_17 : decode cX5_block 17 = .ok (.imul, 1) := dk_104 (dk_at dksX5_block_0 17 rfl rfl)
theorem dX5_block_18 : decode cX5_block 18 = .ok (.iadd, 1) := dk_96 (dk_at dksX5_block_0 18 rfl rfl)
theorem dX5_block_19 : decode cX5_block 19 = .ok (.iload_n 1, 1) := dk_27 (dk_at dksX5_block_0 19 rfl rfl)
theorem dX5_block_20 : decode cX5_block 20 = .ok (.iadd, 1) := dk_96 (dk_at dksX5_block_0 20 rfl rfl)
theorem dX5_block_21 : decode cX5_block 21 = .ok (.iaload, 1) := dk_46 (dk_at dksX5_block_0 21 rfl rfl)
theorem dX5_block_22 : decode cX5_block 22 = .ok (.isub, 1) := dk_100 (dk_at dksX5_block_0 22 rfl rfl)
theorem dX5_block_23 : decode cX5_block 23 = .ok (.iadd, 1) := dk_96 (dk_at dksX5_block_0 23 rfl rfl)
theorem dX5_block_24 : decode cX5_block 24 = .ok (.iastore, 1) := dk_79 (dk_at dksX5_block_1 0 rfl rfl)
theorem dX5_block_25 : decode cX5_block 25 = .ok (.aload_n 0, 1) := dk_42 (dk_at dksX5_block_1 1 rfl rfl)
theorem dX5_block_26 : decode cX5_block 26 = .ok (.getfield 9, 3) := dk_180 0 9 (dk_at dksX5_block_1 2 rfl rfl)
theorem dX5_block_29 : decode cX5_block 29 = .ok (.bipush 6, 2) := dk_16 6 (dk_at dksX5_block_1 5 rfl rfl)
theorem dX5_block_31 : decode cX5_block 31 = .ok (.bipush 20, 2) := dk_16 20 (dk_at dksX5_block_1 7 rfl rfl)
theorem dX5_block_33 : decode cX5_block 33 = .ok (.iload_n 2, 1) := dk_28 (dk_at dksX5_block_1 9 rfl rfl)
theorem dX5_block_34 : decode cX5_block 34 = .ok (.imul, 1) := dk_104 (dk_at dksX5_block_1 10 rfl rfl)
theorem dX5_block_35 : decode cX5_block 35 = .ok (.iadd, 1) := dk_96 (dk_at dksX5_block_1 11 rfl rfl)
theorem dX5_block_36 : decode cX5_block 36 = .ok (.iload_n 1, 1) := dk_27 (dk_at dksX5_block_1 12 rfl rfl)
theorem dX5_block_37 : decode cX5_block 37 = .ok (.iadd, 1) := dk_96 (dk_at dksX5_block_1 13 rfl rfl)
theorem dX5_block_38 : decode cX5_block 38 = .ok (.iload_n 3, 1) := dk_29 (dk_at dksX5_block_1 14 rfl rfl)
theorem dX5_block_39 : decode cX5_block 39 = .ok (.iastore, 1) := dk_79 (dk_at dksX5_block_1 15 rfl rfl)
theorem dX5_block_40 : decode cX5_block 40 = .ok (.return_, 1) := dk_177 (dk_at dksX5_block_1 16 rfl rfl)
abbrev cX5_whyNoBlock : ByteArray := prog_13_method_57_code
def yX5_whyNoBlock : MethodName := ⟨RX5, "whyNoBlock", "(II)I"⟩
def dkwX5_whyNoBlock_1 : List UInt8 := [167, 0, 19, 42, 180, 0, 9, 8, 46, 16, 20, 160, 0, 7, 7, 167, 0, 4, 3, 172]
abbrev dktX5_whyNoBlock_1 : List UInt8 := dkwX5_whyNoBlock_1 ++ []
def dkwX5_whyNoBlock_0 : List UInt8 := [42, 27, 28, 182, 0, 127, 153, 0, 7, 5, 167, 0, 33, 42, 27, 28, 182, 0, 157, 2, 159, 0, 7, 6]
abbrev dktX5_whyNoBlock_0 : List UInt8 := dkwX5_whyNoBlock_0 ++ dktX5_whyNoBlock_1
theorem dksX5_whyNoBlock_0 : cX5_whyNoBlock.data.toList.drop 0 = dktX5_whyNoBlock_0 := by decide +kernel
theorem dksX5_whyNoBlock_1 : cX5_whyNoBlock.data.toList.drop 24 = dktX5_whyNoBlock_1 := dk_seg dksX5_whyNoBlock_0 24 rfl rfl
theorem dX5_whyNoBlock_0 : decode cX5_whyNoBlock 0 = .ok (.aload_n 0, 1) := dk_42 (dk_at dksX5_whyNoBlock_0 0 rfl rfl)
theorem dX5_whyNoBlock_1 : decode cX5_whyNoBlock 1 = .ok (.iload_n 1, 1) := dk_27 (dk_at dksX5_whyNoBlock_0 1 rfl rfl)
theorem dX5_whyNoBlock_2 : decode cX5_whyNoBlock 2 = .ok (.iload_n 2, 1) := dk_28 (dk_at dksX5_whyNoBlock_0 2 rfl rfl)
theorem dX5_whyNoBlock_3 : decode cX5_whyNoBlock 3 = .ok (.invokevirtual 127, 3) := dk_182 0 127 (dk_at dksX5_whyNoBlock_0 3 rfl rfl)
theorem dX5_whyNoBlock_6 : decode cX5_whyNoBlock 6 = .ok (.ifCond .eq 7, 3) := dk_153 0 7 (dk_at dksX5_whyNoBlock_0 6 rfl rfl)
theorem dX5_whyNoBlock_9 : decode cX5_whyNoBlock 9 = .ok (.iconst 2, 1) := dk_5 (dk_at dksX5_whyNoBlock_0 9 rfl rfl)
theorem dX5_whyNoBlock_10 : decode cX5_whyNoBlock 10 = .ok (.goto 33, 3) := dk_167 0 33 (dk_at dksX5_whyNoBlock_0 10 rfl rfl)
theorem dX5_whyNoBlock_13 : decode cX5_whyNoBlock 13 = .ok (.aload_n 0, 1) := dk_42 (dk_at dksX5_whyNoBlock_0 13 rfl rfl)
theorem dX5_whyNoBlock_14 : decode cX5_whyNoBlock 14 = .ok (.iload_n 1, 1) := dk_27 (dk_at dksX5_whyNoBlock_0 14 rfl rfl)
theorem dX5_whyNoBlock_15 : decode cX5_whyNoBlock 15 = .ok (.iload_n 2, 1) := dk_28 (dk_at dksX5_whyNoBlock_0 15 rfl rfl)
theorem dX5_whyNoBlock_16 : decode cX5_whyNoBlock 16 = .ok (.invokevirtual 157, 3) := dk_182 0 157 (dk_at dksX5_whyNoBlock_0 16 rfl rfl)
theorem dX5_whyNoBlock_19 : decode cX5_whyNoBlock 19 = .ok (.iconst (-1), 1) := dk_2 (dk_at dksX5_whyNoBlock_0 19 rfl rfl)
theorem dX5_whyNoBlock_20 : decode cX5_whyNoBlock 20 = .ok (.if_icmp .eq 7, 3) := dk_159 0 7 (dk_at dksX5_whyNoBlock_0 20 rfl rfl)
theorem dX5_whyNoBlock_23 : decode cX5_whyNoBlock 23 = .ok (.iconst 3, 1) := dk_6 (dk_at dksX5_whyNoBlock_0 23 rfl rfl)
theorem dX5_whyNoBlock_24 : decode cX5_whyNoBlock 24 = .ok (.goto 19, 3) := dk_167 0 19 (dk_at dksX5_whyNoBlock_1 0 rfl rfl)
theorem dX5_whyNoBlock_27 : decode cX5_whyNoBlock 27 = .ok (.aload_n 0, 1) := dk_42 (dk_at dksX5_whyNoBlock_1 3 rfl rfl)
theorem dX5_whyNoBlock_28 : decode cX5_whyNoBlock 28 = .ok (.getfield 9, 3) := dk_180 0 9 (dk_at dksX5_whyNoBlock_1 4 rfl rfl)
theorem dX5_whyNoBlock_31 : decode cX5_whyNoBlock 31 = .ok (.iconst 5, 1) := dk_8 (dk_at dksX5_whyNoBlock_1 7 rfl rfl)
theorem dX5_whyNoBlock_32 : decode cX5_whyNoBlock 32 = .ok (.iaload, 1) := dk_46 (dk_at dksX5_whyNoBlock_1 8 rfl rfl)
theorem dX5_whyNoBlock_33 : decode cX5_whyNoBlock 33 = .ok (.bipush 20, 2) := dk_16 20 (dk_at dksX5_whyNoBlock_1 9 rfl rfl)
theorem dX5_whyNoBlock_35 : decode cX5_whyNoBlock 35 = .ok (.if_icmp .ne 7, 3) := dk_160 0 7 (dk_at dksX5_whyNoBlock_1 11 rfl rfl)
theorem dX5_whyNoBlock_38 : decode cX5_whyNoBlock 38 = .ok (.iconst 4, 1) := dk_7 (dk_at dksX5_whyNoBlock_1 14 rfl rfl)
theorem dX5_whyNoBlock_39 : decode cX5_whyNoBlock 39 = .ok (.goto 4, 3) := dk_167 0 4 (dk_at dksX5_whyNoBlock_1 15 rfl rfl)
theorem dX5_whyNoBlock_42 : decode cX5_whyNoBlock 42 = .ok (.iconst 0, 1) := dk_3 (dk_at dksX5_whyNoBlock_1 18 rfl rfl)
theorem dX5_whyNoBlock_43 : decode cX5_whyNoBlock 43 = .ok (.ireturn, 1) := dk_172 (dk_at dksX5_whyNoBlock_1 19 rfl rfl)
abbrev cX5_blocked : ByteArray := prog_13_method_59_code
def yX5_blocked : MethodName := ⟨RX5, "blocked", "()V"⟩
def dkwX5_blocked_4 : List UInt8 := [180, 1, 32, 153, 0, 4, 177, 42, 28, 29, 4, 182, 1, 117, 3, 60, 42, 182, 1, 48, 167, 255, 148, 177]
abbrev dktX5_blocked_4 : List UInt8 := dkwX5_blocked_4 ++ []
def dkwX5_blocked_3 : List UInt8 := [54, 4, 42, 21, 4, 158, 0, 7, 4, 167, 0, 4, 3, 8, 21, 4, 42, 180, 1, 9, 182, 1, 28, 42]
abbrev dktX5_blocked_3 : List UInt8 := dkwX5_blocked_3 ++ dktX5_blocked_4
def dkwX5_blocked_2 : List UInt8 := [46, 4, 100, 182, 1, 45, 62, 42, 180, 1, 32, 153, 0, 7, 3, 167, 0, 9, 42, 28, 29, 182, 1, 114]
abbrev dktX5_blocked_2 : List UInt8 := dkwX5_blocked_2 ++ dktX5_blocked_3
def dkwX5_blocked_1 : List UInt8 := [160, 0, 95, 42, 3, 42, 180, 0, 9, 3, 46, 4, 100, 182, 1, 82, 61, 42, 3, 42, 180, 0, 9, 4]
abbrev dktX5_blocked_1 : List UInt8 := dkwX5_blocked_1 ++ dktX5_blocked_2
def dkwX5_blocked_0 : List UInt8 := [42, 182, 1, 48, 4, 60, 42, 180, 1, 32, 154, 0, 107, 27, 154, 0, 11, 42, 180, 1, 12, 5]
abbrev dktX5_blocked_0 : List UInt8 := dkwX5_blocked_0 ++ dktX5_blocked_1
theorem dksX5_blocked_0 : cX5_blocked.data.toList.drop 0 = dktX5_blocked_0 := by decide +kernel
theorem dksX5_blocked_1 : cX5_blocked.data.toList.drop 22 = dktX5_blocked_1 := dk_seg dksX5_blocked_0 22 rfl rfl
theorem dksX5_blocked_2 : cX5_blocked.data.toList.drop 46 = dktX5_blocked_2 := dk_seg dksX5_blocked_1 24 rfl rfl
theorem dksX5_blocked_3 : cX5_blocked.data.toList.drop 70 = dktX5_blocked_3 := dk_seg dksX5_blocked_2 24 rfl rfl
theorem dksX5_blocked_4 : cX5_blocked.data.toList.drop 94 = dktX5_blocked_4 := dk_seg dksX5_blocked_3 24 rfl rfl
theorem dX5_blocked_0 : decode cX5_blocked 0 = .ok (.aload_n 0, 1) := dk_42 (dk_at dksX5_blocked_0 0 rfl rfl)
theorem dX5_blocked_1 : decode cX5_blocked 1 = .ok (.invokevirtual 304, 3) := dk_182 1 48 (dk_at dksX5_blocked_0 1 rfl rfl)
theorem dX5_blocked_4 : decode cX5_blocked 4 = .ok (.iconst 1, 1) := dk_4 (dk_at dksX5_blocked_0 4 rfl rfl)
theorem dX5_blocked_5 : decode cX5_blocked 5 = .ok (.istore_n 1, 1) := dk_60 (dk_at dksX5_blocked_0 5 rfl rfl)
theorem dX5_blocked_6 : decode cX5_blocked 6 = .ok (.aload_n 0, 1) := dk_42 (dk_at dksX5_blocked_0 6 rfl rfl)
theorem dX5_blocked_7 : decode cX5_blocked 7 = .ok (.getfield 288, 3) := dk_180 1 32 (dk_at dksX5_blocked_0 7 rfl rfl)
theorem dX5_blocked_10 : decode cX5_blocked 10 = .ok (.ifCond .ne 107, 3) := dk_154 0 107 (dk_at dksX5_blocked_0 10 rfl rfl)
theorem dX5_blocked_13 : decode cX5_blocked 13 = .ok (.iload_n 1, 1) := dk_27 (dk_at dksX5_blocked_0 13 rfl rfl)
theorem dX5_blocked_14 : decode cX5_blocked 14 = .ok (.ifCond .ne 11, 3) := dk_154 0 11 (dk_at dksX5_blocked_0 14 rfl rfl)
theorem dX5_blocked_17 : decode cX5_blocked 17 = .ok (.aload_n 0, 1) := dk_42 (dk_at dksX5_blocked_0 17 rfl rfl)
theorem dX5_blocked_18 : decode cX5_blocked 18 = .ok (.getfield 268, 3) := dk_180 1 12 (dk_at dksX5_blocked_0 18 rfl rfl)
theorem dX5_blocked_21 : decode cX5_blocked 21 = .ok (.iconst 2, 1) := dk_5 (dk_at dksX5_blocked_0 21 rfl rfl)
theorem dX5_blocked_22 : decode cX5_blocked 22 = .ok (.if_icmp .ne 95, 3) := dk_160 0 95 (dk_at dksX5_blocked_1 0 rfl rfl)
theorem dX5_blocked_25 : decode cX5_blocked 25 = .ok (.aload_n 0, 1) := dk_42 (dk_at dksX5_blocked_1 3 rfl rfl)
theorem dX5_blocked_26 : decode cX5_blocked 26 = .ok (.iconst 0, 1) := dk_3 (dk_at dksX5_blocked_1 4 rfl rfl)
theorem dX5_blocked_27 : decode cX5_blocked 27 = .ok (.aload_n 0, 1) := dk_42 (dk_at dksX5_blocked_1 5 rfl rfl)
theorem dX5_blocked_28 : decode cX5_blocked 28 = .ok (.getfield 9, 3) := dk_180 0 9 (dk_at dksX5_blocked_1 6 rfl rfl)
theorem dX5_blocked_31 : decode cX5_blocked 31 = .ok (.iconst 0, 1) := dk_3 (dk_at dksX5_blocked_1 9 rfl rfl)
theorem dX5_blocked_32 : decode cX5_blocked 32 = .ok (.iaload, 1) := dk_46 (dk_at dksX5_blocked_1 10 rfl rfl)
theorem dX5_blocked_33 : decode cX5_blocked 33 = .ok (.iconst 1, 1) := dk_4 (dk_at dksX5_blocked_1 11 rfl rfl)
theorem dX5_blocked_34 : decode cX5_blocked 34 = .ok (.isub, 1) := dk_100 (dk_at dksX5_blocked_1 12 rfl rfl)
theorem dX5_blocked_35 : decode cX5_blocked 35 = .ok (.invokevirtual 338, 3) := dk_182 1 82 (dk_at dksX5_blocked_1 13 rfl rfl)
theorem dX5_blocked_38 : decode cX5_blocked 38 = .ok (.istore_n 2, 1) := dk_61 (dk_at dksX5_blocked_1 16 rfl rfl)
theorem dX5_blocked_39 : decode cX5_blocked 39 = .ok (.aload_n 0, 1) := dk_42 (dk_at dksX5_blocked_1 17 rfl rfl)
theorem dX5_blocked_40 : decode cX5_blocked 40 = .ok (.iconst 0, 1) := dk_3 (dk_at dksX5_blocked_1 18 rfl rfl)
theorem dX5_blocked_41 : decode cX5_blocked 41 = .ok (.aload_n 0, 1) := dk_42 (dk_at dksX5_blocked_1 19 rfl rfl)
theorem dX5_blocked_42 : decode cX5_blocked 42 = .ok (.getfield 9, 3) := dk_180 0 9 (dk_at dksX5_blocked_1 20 rfl rfl)
theorem dX5_blocked_45 : decode cX5_blocked 45 = .ok (.iconst 1, 1) := dk_4 (dk_at dksX5_blocked_1 23 rfl rfl)
theorem dX5_blocked_46 : decode cX5_blocked 46 = .ok (.iaload, 1) := dk_46 (dk_at dksX5_blocked_2 0 rfl rfl)
theorem dX5_blocked_47 : decode cX5_blocked 47 = .ok (.iconst 1, 1) := dk_4 (dk_at dksX5_blocked_2 1 rfl rfl)
theorem dX5_blocked_48 : decode cX5_blocked 48 = .ok (.isub, 1) := dk_100 (dk_at dksX5_blocked_2 2 rfl rfl)
theorem dX5_blocked_49 : decode cX5_blocked 49 = .ok (.invokevirtual 301, 3) := dk_182 1 45 (dk_at dksX5_blocked_2 3 rfl rfl)
theorem dX5_blocked_52 : decode cX5_blocked 52 = .ok (.istore_n 3, 1) := dk_62 (dk_at dksX5_blocked_2 6 rfl rfl)
theorem dX5_blocked_53 : decode cX5_blocked 53 = .ok (.aload_n 0, 1) := dk_42 (dk_at dksX5_blocked_2 7 rfl rfl)
theorem dX5_blocked_54 : decode cX5_blocked 54 = .ok (.getfield 288, 3) := dk_180 1 32 (dk_at dksX5_blocked_2 8 rfl rfl)
theorem dX5_blocked_57 : decode cX5_blocked 57 = .ok (.ifCond .eq 7, 3) := dk_153 0 7 (dk_at dksX5_blocked_2 11 rfl rfl)
theorem dX5_blocked_60 : decode cX5_blocked 60 = .ok (.iconst 0, 1) := dk_3 (dk_at dksX5_blocked_2 14 rfl rfl)
theorem dX5_blocked_61 : decode cX5_blocked 61 = .ok (.goto 9, 3) := dk_167 0 9 (dk_at dksX5_blocked_2 15 rfl rfl)
theorem dX5_blocked_64 : decode cX5_blocked 64 = .ok (.aload_n 0, 1) := dk_42 (dk_at dksX5_blocked_2 18 rfl rfl)
theorem dX5_blocked_65 : decode cX5_blocked 65 = .ok (.iload_n 2, 1) := dk_28 (dk_at dksX5_blocked_2 19 rfl rfl)
theorem dX5_blocked_66 : decode cX5_blocked 66 = .ok (.iload_n 3, 1) := dk_29 (dk_at dksX5_blocked_2 20 rfl rfl)
theorem dX5_blocked_67 : decode cX5_blocked 67 = .ok (.invokevirtual 370, 3) := dk_182 1 114 (dk_at dksX5_blocked_2 21 rfl rfl)
theorem dX5_blocked_70 : decode cX5_blocked 70 = .ok (.istore 4, 2) := dk_54 4 (dk_at dksX5_blocked_3 0 rfl rfl)
theorem dX5_blocked_72 : decode cX5_blocked 72 = .ok (.aload_n 0, 1) := dk_42 (dk_at dksX5_blocked_3 2 rfl rfl)
theorem dX5_blocked_73 : decode cX5_blocked 73 = .ok (.iload 4, 2) := dk_21 4 (dk_at dksX5_blocked_3 3 rfl rfl)
theorem dX5_blocked_75 : decode cX5_blocked 75 = .ok (.ifCond .le 7, 3) := dk_158 0 7 (dk_at dksX5_blocked_3 5 rfl rfl)
theorem dX5_blocked_78 : decode cX5_blocked 78 = .ok (.iconst 1, 1) := dk_4 (dk_at dksX5_blocked_3 8 rfl rfl)
theorem dX5_blocked_79 : decode cX5_blocked 79 = .ok (.goto 4, 3) := dk_167 0 4 (dk_at dksX5_blocked_3 9 rfl rfl)
theorem dX5_blocked_82 : decode cX5_blocked 82 = .ok (.iconst 0, 1) := dk_3 (dk_at dksX5_blocked_3 12 rfl rfl)
theorem dX5_blocked_83 : decode cX5_blocked 83 = .ok (.iconst 5, 1) := dk_8 (dk_at dksX5_blocked_3 13 rfl rfl)
theorem dX5_blocked_84 : decode cX5_blocked 84 = .ok (.iload 4, 2) := dk_21 4 (dk_at dksX5_blocked_3 14 rfl rfl)
theorem dX5_blocked_86 : decode cX5_blocked 86 = .ok (.aload_n 0, 1) := dk_42 (dk_at dksX5_blocked_3 16 rfl rfl)
theorem dX5_blocked_87 : decode cX5_blocked 87 = .ok (.getfield 265, 3) := dk_180 1 9 (dk_at dksX5_blocked_3 17 rfl rfl)
theorem dX5_blocked_90 : decode cX5_blocked 90 = .ok (.invokevirtual 284, 3) := dk_182 1 28 (dk_at dksX5_blocked_3 20 rfl rfl)
theorem dX5_blocked_93 : decode cX5_blocked 93 = .ok (.aload_n 0, 1) := dk_42 (dk_at dksX5_blocked_3 23 rfl rfl)
theorem dX5_blocked_94 : decode cX5_blocked 94 = .ok (.getfield 288, 3) := dk_180 1 32 (dk_at dksX5_blocked_4 0 rfl rfl)
theorem dX5_blocked_97 : decode cX5_blocked 97 = .ok (.ifCond .eq 4, 3) := dk_153 0 4 (dk_at dksX5_blocked_4 3 rfl rfl)
theorem dX5_blocked_100 : decode cX5_blocked 100 = .ok (.return_, 1) := dk_177 (dk_at dksX5_blocked_4 6 rfl rfl)
theorem dX5_blocked_101 : decode cX5_blocked 101 = .ok (.aload_n 0, 1) := dk_42 (dk_at dksX5_blocked_4 7 rfl rfl)
theorem dX5_blocked_102 : decode cX5_blocked 102 = .ok (.iload_n 2, 1) := dk_28 (dk_at dksX5_blocked_4 8 rfl rfl)
theorem dX5_blocked_103 : decode cX5_blocked 103 = .ok (.iload_n 3, 1) := dk_29 (dk_at dksX5_blocked_4 9 rfl rfl)
theorem dX5_blocked_104 : decode cX5_blocked 104 = .ok (.iconst 1, 1) := dk_4 (dk_at dksX5_blocked_4 10 rfl rfl)
theorem dX5_blocked_105 : decode cX5_blocked 105 = .ok (.invokevirtual 373, 3) := dk_182 1 117 (dk_at dksX5_blocked_4 11 rfl rfl)
theorem dX5_blocked_108 : decode cX5_blocked 108 = .ok (.iconst 0, 1) := dk_3 (dk_at dksX5_blocked_4 14 rfl rfl)
theorem dX5_blocked_109 : decode cX5_blocked 109 = .ok (.istore_n 1, 1) := dk_60 (dk_at dksX5_blocked_4 15 rfl rfl)
theorem dX5_blocked_110 : decode cX5_blocked 110 = .ok (.aload_n 0, 1) := dk_42 (dk_at dksX5_blocked_4 16 rfl rfl)
theorem dX5_blocked_111 : decode cX5_blocked 111 = .ok (.invokevirtual 304, 3) := dk_182 1 48 (dk_at dksX5_blocked_4 17 rfl rfl)
theorem dX5_blocked_114 : decode cX5_blocked 114 = .ok (.goto (-108), 3) := dk_167 255 148 (dk_at dksX5_blocked_4 20 rfl rfl)
theorem dX5_blocked_117 : decode cX5_blocked 117 = .ok (.return_, 1) := dk_177 (dk_at dksX5_blocked_4 23 rfl rfl)
abbrev cX5_stated : ByteArray := prog_13_method_60_code
def yX5_stated : MethodName := ⟨RX5, "stated", "(I)V"⟩
def dkwX5_stated_4 : List UInt8 := [167, 255, 170, 177]
abbrev dktX5_stated_4 : List UInt8 := dkwX5_stated_4 ++ []
def dkwX5_stated_3 : List UInt8 := [182, 1, 28, 42, 180, 1, 32, 153, 0, 4, 177, 42, 29, 7, 27, 182, 1, 54, 3, 61, 42, 182, 1, 48]
abbrev dktX5_stated_3 : List UInt8 := dkwX5_stated_3 ++ dktX5_stated_4
def dkwX5_stated_2 : List UInt8 := [154, 0, 17, 42, 29, 7, 182, 0, 130, 27, 160, 0, 7, 4, 167, 0, 4, 3, 8, 8, 42, 180, 1, 9]
abbrev dktX5_stated_2 : List UInt8 := dkwX5_stated_2 ++ dktX5_stated_3
def dkwX5_stated_1 : List UInt8 := [160, 0, 73, 42, 3, 42, 180, 0, 9, 7, 46, 4, 100, 182, 1, 45, 62, 42, 42, 180, 1, 32]
abbrev dktX5_stated_1 : List UInt8 := dkwX5_stated_1 ++ dktX5_stated_2
def dkwX5_stated_0 : List UInt8 := [42, 182, 1, 48, 4, 61, 42, 180, 1, 32, 154, 0, 85, 28, 154, 0, 11, 42, 180, 1, 12, 5]
abbrev dktX5_stated_0 : List UInt8 := dkwX5_stated_0 ++ dktX5_stated_1
theorem dksX5_stated_0 : cX5_stated.data.toList.drop 0 = dktX5_stated_0 := by decide +kernel
theorem dksX5_stated_1 : cX5_stated.data.toList.drop 22 = dktX5_stated_1 := dk_seg dksX5_stated_0 22 rfl rfl
theorem dksX5_stated_2 : cX5_stated.data.toList.drop 44 = dktX5_stated_2 := dk_seg dksX5_stated_1 22 rfl rfl
theorem dksX5_stated_3 : cX5_stated.data.toList.drop 68 = dktX5_stated_3 := dk_seg dksX5_stated_2 24 rfl rfl
theorem dksX5_stated_4 : cX5_stated.data.toList.drop 92 = dktX5_stated_4 := dk_seg dksX5_stated_3 24 rfl rfl
theorem dX5_stated_0 : decode cX5_stated 0 = .ok (.aload_n 0, 1) := dk_42 (dk_at dksX5_stated_0 0 rfl rfl)
theorem dX5_stated_1 : decode cX5_stated 1 = .ok (.invokevirtual 304, 3) := dk_182 1 48 (dk_at dksX5_stated_0 1 rfl rfl)
theorem dX5_stated_4 : decode cX5_stated 4 = .ok (.iconst 1, 1) := dk_4 (dk_at dksX5_stated_0 4 rfl rfl)
theorem dX5_stated_5 : decode cX5_stated 5 = .ok (.istore_n 2, 1) := dk_61 (dk_at dksX5_stated_0 5 rfl rfl)
theorem dX5_stated_6 : decode cX5_stated 6 = .ok (.aload_n 0, 1) := dk_42 (dk_at dksX5_stated_0 6 rfl rfl)
theorem dX5_stated_7 : decode cX5_stated 7 = .ok (.getfield 288, 3) := dk_180 1 32 (dk_at dksX5_stated_0 7 rfl rfl)
theorem dX5_stated_10 : decode cX5_stated 10 = .ok (.ifCond .ne 85, 3) := dk_154 0 85 (dk_at dksX5_stated_0 10 rfl rfl)
theorem dX5_stated_13 : decode cX5_stated 13 = .ok (.iload_n 2, 1) := dk_28 (dk_at dksX5_stated_0 13 rfl rfl)
theorem dX5_stated_14 : decode cX5_stated 14 = .ok (.ifCond .ne 11, 3) := dk_154 0 11 (dk_at dksX5_stated_0 14 rfl rfl)
theorem dX5_stated_17 : decode cX5_stated 17 = .ok (.aload_n 0, 1) := dk_42 (dk_at dksX5_stated_0 17 rfl rfl)
theorem dX5_stated_18 : decode cX5_stated 18 = .ok (.getfield 268, 3) := dk_180 1 12 (dk_at dksX5_stated_0 18 rfl rfl)
theorem dX5_stated_21 : decode cX5_stated 21 = .ok (.iconst 2, 1) := dk_5 (dk_at dksX5_stated_0 21 rfl rfl)
theorem dX5_stated_22 : decode cX5_stated 22 = .ok (.if_icmp .ne 73, 3) := dk_160 0 73 (dk_at dksX5_stated_1 0 rfl rfl)
theorem dX5_stated_25 : decode cX5_stated 25 = .ok (.aload_n 0, 1) := dk_42 (dk_at dksX5_stated_1 3 rfl rfl)
theorem dX5_stated_26 : decode cX5_stated 26 = .ok (.iconst 0, 1) := dk_3 (dk_at dksX5_stated_1 4 rfl rfl)
theorem dX5_stated_27 : decode cX5_stated 27 = .ok (.aload_n 0, 1) := dk_42 (dk_at dksX5_stated_1 5 rfl rfl)
theorem dX5_stated_28 : decode cX5_stated 28 = .ok (.getfield 9, 3) := dk_180 0 9 (dk_at dksX5_stated_1 6 rfl rfl)
theorem dX5_stated_31 : decode cX5_stated 31 = .ok (.iconst 4, 1) := dk_7 (dk_at dksX5_stated_1 9 rfl rfl)
theorem dX5_stated_32 : decode cX5_stated 32 = .ok (.iaload, 1) := dk_46 (dk_at dksX5_stated_1 10 rfl rfl)
theorem dX5_stated_33 : decode cX5_stated 33 = .ok (.iconst 1, 1) := dk_4 (dk_at dksX5_stated_1 11 rfl rfl)
theorem dX5_stated_34 : decode cX5_stated 34 = .ok (.isub, 1) := dk_100 (dk_at dksX5_stated_1 12 rfl rfl)
theorem dX5_stated_35 : decode cX5_stated 35 = .ok (.invokevirtual 301, 3) := dk_182 1 45 (dk_at dksX5_stated_1 13 rfl rfl)
theorem dX5_stated_38 : decode cX5_stated 38 = .ok (.istore_n 3, 1) := dk_62 (dk_at dksX5_stated_1 16 rfl rfl)
theorem dX5_stated_39 : decode cX5_stated 39 = .ok (.aload_n 0, 1) := dk_42 (dk_at dksX5_stated_1 17 rfl rfl)
theorem dX5_stated_40 : decode cX5_stated 40 = .ok (.aload_n 0, 1) := dk_42 (dk_at dksX5_stated_1 18 rfl rfl)
theorem dX5_stated_41 : decode cX5_stated 41 = .ok (.getfield 288, 3) := dk_180 1 32 (dk_at dksX5_stated_1 19 rfl rfl)
theorem dX5_stated_44 : decode cX5_stated 44 = .ok (.ifCond .ne 17, 3) := dk_154 0 17 (dk_at dksX5_stated_2 0 rfl rfl)
theorem dX5_stated_47 : decode cX5_stated 47 = .ok (.aload_n 0, 1) := dk_42 (dk_at dksX5_stated_2 3 rfl rfl)
theorem dX5_stated_48 : decode cX5_stated 48 = .ok (.iload_n 3, 1) := dk_29 (dk_at dksX5_stated_2 4 rfl rfl)
theorem dX5_stated_49 : decode cX5_stated 49 = .ok (.iconst 4, 1) := dk_7 (dk_at dksX5_stated_2 5 rfl rfl)
theorem dX5_stated_50 : decode cX5_stated 50 = .ok (.invokevirtual 130, 3) := dk_182 0 130 (dk_at dksX5_stated_2 6 rfl rfl)
theorem dX5_stated_53 : decode cX5_stated 53 = .ok (.iload_n 1, 1) := dk_27 (dk_at dksX5_stated_2 9 rfl rfl)
theorem dX5_stated_54 : decode cX5_stated 54 = .ok (.if_icmp .ne 7, 3) := dk_160 0 7 (dk_at dksX5_stated_2 10 rfl rfl)
theorem dX5_stated_57 : decode cX5_stated 57 = .ok (.iconst 1, 1) := dk_4 (dk_at dksX5_stated_2 13 rfl rfl)
theorem dX5_stated_58 : decode cX5_stated 58 = .ok (.goto 4, 3) := dk_167 0 4 (dk_at dksX5_stated_2 14 rfl rfl)
theorem dX5_stated_61 : decode cX5_stated 61 = .ok (.iconst 0, 1) := dk_3 (dk_at dksX5_stated_2 17 rfl rfl)
theorem dX5_stated_62 : decode cX5_stated 62 = .ok (.iconst 5, 1) := dk_8 (dk_at dksX5_stated_2 18 rfl rfl)
theorem dX5_stated_63 : decode cX5_stated 63 = .ok (.iconst 5, 1) := dk_8 (dk_at dksX5_stated_2 19 rfl rfl)
theorem dX5_stated_64 : decode cX5_stated 64 = .ok (.aload_n 0, 1) := dk_42 (dk_at dksX5_stated_2 20 rfl rfl)
theorem dX5_stated_65 : decode cX5_stated 65 = .ok (.getfield 265, 3) := dk_180 1 9 (dk_at dksX5_stated_2 21 rfl rfl)
theorem dX5_stated_68 : decode cX5_stated 68 = .ok (.invokevirtual 284, 3) := dk_182 1 28 (dk_at dksX5_stated_3 0 rfl rfl)
theorem dX5_stated_71 : decode cX5_stated 71 = .ok (.aload_n 0, 1) := dk_42 (dk_at dksX5_stated_3 3 rfl rfl)
theorem dX5_stated_72 : decode cX5_stated 72 = .ok (.getfield 288, 3) := dk_180 1 32 (dk_at dksX5_stated_3 4 rfl rfl)
theorem dX5_stated_75 : decode cX5_stated 75 = .ok (.ifCond .eq 4, 3) := dk_153 0 4 (dk_at dksX5_stated_3 7 rfl rfl)
theorem dX5_stated_78 : decode cX5_stated 78 = .ok (.return_, 1) := dk_177 (dk_at dksX5_stated_3 10 rfl rfl)
theorem dX5_stated_79 : decode cX5_stated 79 = .ok (.aload_n 0, 1) := dk_42 (dk_at dksX5_stated_3 11 rfl rfl)
theorem dX5_stated_80 : decode cX5_stated 80 = .ok (.iload_n 3, 1) := dk_29 (dk_at dksX5_stated_3 12 rfl rfl)
theorem dX5_stated_81 : decode cX5_stated 81 = .ok (.iconst 4, 1) := dk_7 (dk_at dksX5_stated_3 13 rfl rfl)
theorem dX5_stated_82 : decode cX5_stated 82 = .ok (.iload_n 1, 1) := dk_27 (dk_at dksX5_stated_3 14 rfl rfl)
theorem dX5_stated_83 : decode cX5_stated 83 = .ok (.invokevirtual 310, 3) := dk_182 1 54 (dk_at dksX5_stated_3 15 rfl rfl)
theorem dX5_stated_86 : decode cX5_stated 86 = .ok (.iconst 0, 1) := dk_3 (dk_at dksX5_stated_3 18 rfl rfl)
theorem dX5_stated_87 : decode cX5_stated 87 = .ok (.istore_n 2, 1) := dk_61 (dk_at dksX5_stated_3 19 rfl rfl)
theorem dX5_stated_88 : decode cX5_stated 88 = .ok (.aload_n 0, 1) := dk_42 (dk_at dksX5_stated_3 20 rfl rfl)
theorem dX5_stated_89 : decode cX5_stated 89 = .ok (.invokevirtual 304, 3) := dk_182 1 48 (dk_at dksX5_stated_3 21 rfl rfl)
theorem dX5_stated_92 : decode cX5_stated 92 = .ok (.goto (-86), 3) := dk_167 255 170 (dk_at dksX5_stated_4 0 rfl rfl)
theorem dX5_stated_95 : decode cX5_stated 95 = .ok (.return_, 1) := dk_177 (dk_at dksX5_stated_4 3 rfl rfl)
abbrev cX5_remember : ByteArray := prog_13_method_7_code
def yX5_remember : MethodName := ⟨RX5, "remember", "([I)V"⟩
def dkwX5_remember_2 : List UInt8 := [17, 2, 14, 104, 184, 0, 115, 42, 89, 180, 0, 103, 4, 96, 181, 0, 103, 177]
abbrev dktX5_remember_2 : List UInt8 := dkwX5_remember_2 ++ []
def dkwX5_remember_1 : List UInt8 := [184, 0, 109, 42, 89, 180, 0, 103, 4, 100, 181, 0, 103, 43, 3, 42, 180, 0, 16, 42, 180, 0, 103]
abbrev dktX5_remember_1 : List UInt8 := dkwX5_remember_1 ++ dktX5_remember_2
def dkwX5_remember_0 : List UInt8 := [42, 180, 0, 103, 16, 8, 160, 0, 31, 42, 180, 0, 16, 17, 2, 14, 42, 180, 0, 16, 3, 17, 14, 98]
abbrev dktX5_remember_0 : List UInt8 := dkwX5_remember_0 ++ dktX5_remember_1
theorem dksX5_remember_0 : cX5_remember.data.toList.drop 0 = dktX5_remember_0 := by decide +kernel
theorem dksX5_remember_1 : cX5_remember.data.toList.drop 24 = dktX5_remember_1 := dk_seg dksX5_remember_0 24 rfl rfl
theorem dksX5_remember_2 : cX5_remember.data.toList.drop 47 = dktX5_remember_2 := dk_seg dksX5_remember_1 23 rfl rfl
theorem dX5_remember_0 : decode cX5_remember 0 = .ok (.aload_n 0, 1) := dk_42 (dk_at dksX5_remember_0 0 rfl rfl)
theorem dX5_remember_1 : decode cX5_remember 1 = .ok (.getfield 103, 3) := dk_180 0 103 (dk_at dksX5_remember_0 1 rfl rfl)
theorem dX5_remember_4 : decode cX5_remember 4 = .ok (.bipush 8, 2) := dk_16 8 (dk_at dksX5_remember_0 4 rfl rfl)
theorem dX5_remember_6 : decode cX5_remember 6 = .ok (.if_icmp .ne 31, 3) := dk_160 0 31 (dk_at dksX5_remember_0 6 rfl rfl)
theorem dX5_remember_9 : decode cX5_remember 9 = .ok (.aload_n 0, 1) := dk_42 (dk_at dksX5_remember_0 9 rfl rfl)
theorem dX5_remember_10 : decode cX5_remember 10 = .ok (.getfield 16, 3) := dk_180 0 16 (dk_at dksX5_remember_0 10 rfl rfl)
theorem dX5_remember_13 : decode cX5_remember 13 = .ok (.sipush 526, 3) := dk_17 2 14 (dk_at dksX5_remember_0 13 rfl rfl)
theorem dX5_remember_16 : decode cX5_remember 16 = .ok (.aload_n 0, 1) := dk_42 (dk_at dksX5_remember_0 16 rfl rfl)
theorem dX5_remember_17 : decode cX5_remember 17 = .ok (.getfield 16, 3) := dk_180 0 16 (dk_at dksX5_remember_0 17 rfl rfl)
theorem dX5_remember_20 : decode cX5_remember 20 = .ok (.iconst 0, 1) := dk_3 (dk_at dksX5_remember_0 20 rfl rfl)
theorem dX5_remember_21 : decode cX5_remember 21 = .ok (.sipush 3682, 3) := dk_17 14 98 (dk_at dksX5_remember_0 21 rfl rfl)
theorem dX5_remember_24 : decode cX5_remember 24 = .ok (.invokestatic 109, 3) := dk_184 0 109 (dk_at dksX5_remember_1 0 rfl rfl)
theorem dX5_remember_27 : decode cX5_remember 27 = .ok (.aload_n 0, 1) := dk_42 (dk_at dksX5_remember_1 3 rfl rfl)
theorem dX5_remember_28 : decode cX5_remember 28 = .ok (.dup, 1) := dk_89 (dk_at dksX5_remember_1 4 rfl rfl)
theorem dX5_remember_29 : decode cX5_remember 29 = .ok (.getfield 103, 3) := dk_180 0 103 (dk_at dksX5_remember_1 5 rfl rfl)
theorem dX5_remember_32 : decode cX5_remember 32 = .ok (.iconst 1, 1) := dk_4 (dk_at dksX5_remember_1 8 rfl rfl)
theorem dX5_remember_33 : decode cX5_remember 33 = .ok (.isub, 1) := dk_100 (dk_at dksX5_remember_1 9 rfl rfl)
theorem dX5_remember_34 : decode cX5_remember 34 = .ok (.putfield 103, 3) := dk_181 0 103 (dk_at dksX5_remember_1 10 rfl rfl)
theorem dX5_remember_37 : decode cX5_remember 37 = .ok (.aload_n 1, 1) := dk_43 (dk_at dksX5_remember_1 13 rfl rfl)
theorem dX5_remember_38 : decode cX5_remember 38 = .ok (.iconst 0, 1) := dk_3 (dk_at dksX5_remember_1 14 rfl rfl)
theorem dX5_remember_39 : decode cX5_remember 39 = .ok (.aload_n 0, 1) := dk_42 (dk_at dksX5_remember_1 15 rfl rfl)
theorem dX5_remember_40 : decode cX5_remember 40 = .ok (.getfield 16, 3) := dk_180 0 16 (dk_at dksX5_remember_1 16 rfl rfl)
theorem dX5_remember_43 : decode cX5_remember 43 = .ok (.aload_n 0, 1) := dk_42 (dk_at dksX5_remember_1 19 rfl rfl)
theorem dX5_remember_44 : decode cX5_remember 44 = .ok (.getfield 103, 3) := dk_180 0 103 (dk_at dksX5_remember_1 20 rfl rfl)
theorem dX5_remember_47 : decode cX5_remember 47 = .ok (.sipush 526, 3) := dk_17 2 14 (dk_at dksX5_remember_2 0 rfl rfl)
theorem dX5_remember_50 : decode cX5_remember 50 = .ok (.imul, 1) := dk_104 (dk_at dksX5_remember_2 3 rfl rfl)
theorem dX5_remember_51 : decode cX5_remember 51 = .ok (.invokestatic 115, 3) := dk_184 0 115 (dk_at dksX5_remember_2 4 rfl rfl)
theorem dX5_remember_54 : decode cX5_remember 54 = .ok (.aload_n 0, 1) := dk_42 (dk_at dksX5_remember_2 7 rfl rfl)
theorem dX5_remember_55 : decode cX5_remember 55 = .ok (.dup, 1) := dk_89 (dk_at dksX5_remember_2 8 rfl rfl)
theorem dX5_remember_56 : decode cX5_remember 56 = .ok (.getfield 103, 3) := dk_180 0 103 (dk_at dksX5_remember_2 9 rfl rfl)
theorem dX5_remember_59 : decode cX5_remember 59 = .ok (.iconst 1, 1) := dk_4 (dk_at dksX5_remember_2 12 rfl rfl)
theorem dX5_remember_60 : decode cX5_remember 60 = .ok (.iadd, 1) := dk_96 (dk_at dksX5_remember_2 13 rfl rfl)
theorem dX5_remember_61 : decode cX5_remember 61 = .ok (.putfield 103, 3) := dk_181 0 103 (dk_at dksX5_remember_2 14 rfl rfl)
theorem dX5_remember_64 : decode cX5_remember 64 = .ok (.return_, 1) := dk_177 (dk_at dksX5_remember_2 17 rfl rfl)
abbrev cX5_thrown : ByteArray := prog_13_method_3_code
def yX5_thrown : MethodName := ⟨RX5, "thrown", "()I"⟩
theorem dX5_thrown_0 : decode cX5_thrown 0 = .ok (.aload_n 0, 1) := by decide +kernel
theorem dX5_thrown_1 : decode cX5_thrown 1 = .ok (.getfield 106, 3) := by decide +kernel
theorem dX5_thrown_4 : decode cX5_thrown 4 = .ok (.ireturn, 1) := by decide +kernel
abbrev cX5_four : ByteArray := prog_13_method_36_code
def yX5_four : MethodName := ⟨RX5, "four", "(I)V"⟩
def dkwX5_four_1 : List UInt8 := [89, 180, 0, 93, 4, 96, 181, 0, 93, 132, 2, 248, 167, 255, 223, 177]
abbrev dktX5_four_1 : List UInt8 := dkwX5_four_1 ++ []
def dkwX5_four_0 : List UInt8 := [16, 24, 61, 28, 155, 0, 35, 42, 180, 0, 29, 42, 180, 0, 93, 27, 28, 122, 17, 0, 255, 126, 79, 42]
abbrev dktX5_four_0 : List UInt8 := dkwX5_four_0 ++ dktX5_four_1
theorem dksX5_four_0 : cX5_four.data.toList.drop 0 = dktX5_four_0 := by decide +kernel
theorem dksX5_four_1 : cX5_four.data.toList.drop 24 = dktX5_four_1 := dk_seg dksX5_four_0 24 rfl rfl
theorem dX5_four_0 : decode cX5_four 0 = .ok (.bipush 24, 2) := dk_16 24 (dk_at dksX5_four_0 0 rfl rfl)
theorem dX5_four_2 : decode cX5_four 2 = .ok (.istore_n 2, 1) := dk_61 (dk_at dksX5_four_0 2 rfl rfl)
theorem dX5_four_3 : decode cX5_four 3 = .ok (.iload_n 2, 1) := dk_28 (dk_at dksX5_four_0 3 rfl rfl)
theorem dX5_four_4 : decode cX5_four 4 = .ok (.ifCond .lt 35, 3) := dk_155 0 35 (dk_at dksX5_four_0 4 rfl rfl)
theorem dX5_four_7 : decode cX5_four 7 = .ok (.aload_n 0, 1) := dk_42 (dk_at dksX5_four_0 7 rfl rfl)
theorem dX5_four_8 : decode cX5_four 8 = .ok (.getfield 29, 3) := dk_180 0 29 (dk_at dksX5_four_0 8 rfl rfl)
theorem dX5_four_11 : decode cX5_four 11 = .ok (.aload_n 0, 1) := dk_42 (dk_at dksX5_four_0 11 rfl rfl)
theorem dX5_four_12 : decode cX5_four 12 = .ok (.getfield 93, 3) := dk_180 0 93 (dk_at dksX5_four_0 12 rfl rfl)
theorem dX5_four_15 : decode cX5_four 15 = .ok (.iload_n 1, 1) := dk_27 (dk_at dksX5_four_0 15 rfl rfl)
theorem dX5_four_16 : decode cX5_four 16 = .ok (.iload_n 2, 1) := dk_28 (dk_at dksX5_four_0 16 rfl rfl)
theorem dX5_four_17 : decode cX5_four 17 = .ok (.ishr, 1) := dk_122 (dk_at dksX5_four_0 17 rfl rfl)
theorem dX5_four_18 : decode cX5_four 18 = .ok (.sipush 255, 3) := dk_17 0 255 (dk_at dksX5_four_0 18 rfl rfl)
theorem dX5_four_21 : decode cX5_four 21 = .ok (.iand, 1) := dk_126 (dk_at dksX5_four_0 21 rfl rfl)
theorem dX5_four_22 : decode cX5_four 22 = .ok (.iastore, 1) := dk_79 (dk_at dksX5_four_0 22 rfl rfl)
theorem dX5_four_23 : decode cX5_four 23 = .ok (.aload_n 0, 1) := dk_42 (dk_at dksX5_four_0 23 rfl rfl)
theorem dX5_four_24 : decode cX5_four 24 = .ok (.dup, 1) := dk_89 (dk_at dksX5_four_1 0 rfl rfl)
theorem dX5_four_25 : decode cX5_four 25 = .ok (.getfield 93, 3) := dk_180 0 93 (dk_at dksX5_four_1 1 rfl rfl)
theorem dX5_four_28 : decode cX5_four 28 = .ok (.iconst 1, 1) := dk_4 (dk_at dksX5_four_1 4 rfl rfl)
theorem dX5_four_29 : decode cX5_four 29 = .ok (.iadd, 1) := dk_96 (dk_at dksX5_four_1 5 rfl rfl)
theorem dX5_four_30 : decode cX5_four 30 = .ok (.putfield 93, 3) := dk_181 0 93 (dk_at dksX5_four_1 6 rfl rfl)
theorem dX5_four_33 : decode cX5_four 33 = .ok (.iinc 2 (-8), 3) := dk_132 2 248 (dk_at dksX5_four_1 9 rfl rfl)
theorem dX5_four_36 : decode cX5_four 36 = .ok (.goto (-33), 3) := dk_167 255 223 (dk_at dksX5_four_1 12 rfl rfl)
theorem dX5_four_39 : decode cX5_four 39 = .ok (.return_, 1) := dk_177 (dk_at dksX5_four_1 15 rfl rfl)
abbrev cX5_append : ByteArray := prog_13_method_35_code
def yX5_append : MethodName := ⟨RX5, "append", "(IIIII)I"⟩
def dkwX5_append_2 : List UInt8 := [182, 0, 255, 42, 180, 0, 93, 172]
abbrev dktX5_append_2 : List UInt8 := dkwX5_append_2 ++ []
def dkwX5_append_1 : List UInt8 := [182, 0, 255, 42, 28, 182, 0, 255, 42, 29, 182, 0, 255, 42, 21, 4, 182, 0, 255, 42, 21, 5]
abbrev dktX5_append_1 : List UInt8 := dkwX5_append_1 ++ dktX5_append_2
def dkwX5_append_0 : List UInt8 := [42, 3, 181, 0, 106, 42, 180, 0, 93, 16, 20, 96, 17, 2, 188, 164, 0, 5, 2, 172, 42, 27]
abbrev dktX5_append_0 : List UInt8 := dkwX5_append_0 ++ dktX5_append_1
theorem dksX5_append_0 : cX5_append.data.toList.drop 0 = dktX5_append_0 := by decide +kernel
theorem dksX5_append_1 : cX5_append.data.toList.drop 22 = dktX5_append_1 := dk_seg dksX5_append_0 22 rfl rfl
theorem dksX5_append_2 : cX5_append.data.toList.drop 44 = dktX5_append_2 := dk_seg dksX5_append_1 22 rfl rfl
theorem dX5_append_0 : decode cX5_append 0 = .ok (.aload_n 0, 1) := dk_42 (dk_at dksX5_append_0 0 rfl rfl)
theorem dX5_append_1 : decode cX5_append 1 = .ok (.iconst 0, 1) := dk_3 (dk_at dksX5_append_0 1 rfl rfl)
theorem dX5_append_2 : decode cX5_append 2 = .ok (.putfield 106, 3) := dk_181 0 106 (dk_at dksX5_append_0 2 rfl rfl)
theorem dX5_append_5 : decode cX5_append 5 = .ok (.aload_n 0, 1) := dk_42 (dk_at dksX5_append_0 5 rfl rfl)
theorem dX5_append_6 : decode cX5_append 6 = .ok (.getfield 93, 3) := dk_180 0 93 (dk_at dksX5_append_0 6 rfl rfl)
theorem dX5_append_9 : decode cX5_append 9 = .ok (.bipush 20, 2) := dk_16 20 (dk_at dksX5_append_0 9 rfl rfl)
theorem dX5_append_11 : decode cX5_append 11 = .ok (.iadd, 1) := dk_96 (dk_at dksX5_append_0 11 rfl rfl)
theorem dX5_append_12 : decode cX5_append 12 = .ok (.sipush 700, 3) := dk_17 2 188 (dk_at dksX5_append_0 12 rfl rfl)
theorem dX5_append_15 : decode cX5_append 15 = .ok (.if_icmp .le 5, 3) := dk_164 0 5 (dk_at dksX5_append_0 15 rfl rfl)
theorem dX5_append_18 : decode cX5_append 18 = .ok (.iconst (-1), 1) := dk_2 (dk_at dksX5_append_0 18 rfl rfl)
theorem dX5_append_19 : decode cX5_append 19 = .ok (.ireturn, 1) := dk_172 (dk_at dksX5_append_0 19 rfl rfl)
theorem dX5_append_20 : decode cX5_append 20 = .ok (.aload_n 0, 1) := dk_42 (dk_at dksX5_append_0 20 rfl rfl)
theorem dX5_append_21 : decode cX5_append 21 = .ok (.iload_n 1, 1) := dk_27 (dk_at dksX5_append_0 21 rfl rfl)
theorem dX5_append_22 : decode cX5_append 22 = .ok (.invokevirtual 255, 3) := dk_182 0 255 (dk_at dksX5_append_1 0 rfl rfl)
theorem dX5_append_25 : decode cX5_append 25 = .ok (.aload_n 0, 1) := dk_42 (dk_at dksX5_append_1 3 rfl rfl)
theorem dX5_append_26 : decode cX5_append 26 = .ok (.iload_n 2, 1) := dk_28 (dk_at dksX5_append_1 4 rfl rfl)
theorem dX5_append_27 : decode cX5_append 27 = .ok (.invokevirtual 255, 3) := dk_182 0 255 (dk_at dksX5_append_1 5 rfl rfl)
theorem dX5_append_30 : decode cX5_append 30 = .ok (.aload_n 0, 1) := dk_42 (dk_at dksX5_append_1 8 rfl rfl)
theorem dX5_append_31 : decode cX5_append 31 = .ok (.iload_n 3, 1) := dk_29 (dk_at dksX5_append_1 9 rfl rfl)
theorem dX5_append_32 : decode cX5_append 32 = .ok (.invokevirtual 255, 3) := dk_182 0 255 (dk_at dksX5_append_1 10 rfl rfl)
theorem dX5_append_35 : decode cX5_append 35 = .ok (.aload_n 0, 1) := dk_42 (dk_at dksX5_append_1 13 rfl rfl)
theorem dX5_append_36 : decode cX5_append 36 = .ok (.iload 4, 2) := dk_21 4 (dk_at dksX5_append_1 14 rfl rfl)
theorem dX5_append_38 : decode cX5_append 38 = .ok (.invokevirtual 255, 3) := dk_182 0 255 (dk_at dksX5_append_1 16 rfl rfl)
theorem dX5_append_41 : decode cX5_append 41 = .ok (.aload_n 0, 1) := dk_42 (dk_at dksX5_append_1 19 rfl rfl)
theorem dX5_append_42 : decode cX5_append 42 = .ok (.iload 5, 2) := dk_21 5 (dk_at dksX5_append_1 20 rfl rfl)
theorem dX5_append_44 : decode cX5_append 44 = .ok (.invokevirtual 255, 3) := dk_182 0 255 (dk_at dksX5_append_2 0 rfl rfl)
theorem dX5_append_47 : decode cX5_append 47 = .ok (.aload_n 0, 1) := dk_42 (dk_at dksX5_append_2 3 rfl rfl)
theorem dX5_append_48 : decode cX5_append 48 = .ok (.getfield 93, 3) := dk_180 0 93 (dk_at dksX5_append_2 4 rfl rfl)
theorem dX5_append_51 : decode cX5_append 51 = .ok (.ireturn, 1) := dk_172 (dk_at dksX5_append_2 7 rfl rfl)
abbrev cX5_fails : ByteArray := prog_13_method_4_code
def yX5_fails : MethodName := ⟨RX5, "fails", "(ZZZ)Z"⟩
def dkwX5_fails_1 : List UInt8 := [167, 0, 4, 3, 181, 0, 106, 42, 180, 0, 106, 158, 0, 7, 4, 167, 0, 4, 3, 172]
abbrev dktX5_fails_1 : List UInt8 := dkwX5_fails_1 ++ []
def dkwX5_fails_0 : List UInt8 := [42, 27, 153, 0, 7, 4, 167, 0, 20, 28, 153, 0, 7, 5, 167, 0, 12, 29, 153, 0, 7, 6]
abbrev dktX5_fails_0 : List UInt8 := dkwX5_fails_0 ++ dktX5_fails_1
theorem dksX5_fails_0 : cX5_fails.data.toList.drop 0 = dktX5_fails_0 := by decide +kernel
theorem dksX5_fails_1 : cX5_fails.data.toList.drop 22 = dktX5_fails_1 := dk_seg dksX5_fails_0 22 rfl rfl
theorem dX5_fails_0 : decode cX5_fails 0 = .ok (.aload_n 0, 1) := dk_42 (dk_at dksX5_fails_0 0 rfl rfl)
theorem dX5_fails_1 : decode cX5_fails 1 = .ok (.iload_n 1, 1) := dk_27 (dk_at dksX5_fails_0 1 rfl rfl)
theorem dX5_fails_2 : decode cX5_fails 2 = .ok (.ifCond .eq 7, 3) := dk_153 0 7 (dk_at dksX5_fails_0 2 rfl rfl)
theorem dX5_fails_5 : decode cX5_fails 5 = .ok (.iconst 1, 1) := dk_4 (dk_at dksX5_fails_0 5 rfl rfl)
theorem dX5_fails_6 : decode cX5_fails 6 = .ok (.goto 20, 3) := dk_167 0 20 (dk_at dksX5_fails_0 6 rfl rfl)
theorem dX5_fails_9 : decode cX5_fails 9 = .ok (.iload_n 2, 1) := dk_28 (dk_at dksX5_fails_0 9 rfl rfl)
theorem dX5_fails_10 : decode cX5_fails 10 = .ok (.ifCond .eq 7, 3) := dk_153 0 7 (dk_at dksX5_fails_0 10 rfl rfl)
theorem dX5_fails_13 : decode cX5_fails 13 = .ok (.iconst 2, 1) := dk_5 (dk_at dksX5_fails_0 13 rfl rfl)
theorem dX5_fails_14 : decode cX5_fails 14 = .ok (.goto 12, 3) := dk_167 0 12 (dk_at dksX5_fails_0 14 rfl rfl)
theorem dX5_fails_17 : decode cX5_fails 17 = .ok (.iload_n 3, 1) := dk_29 (dk_at dksX5_fails_0 17 rfl rfl)
theorem dX5_fails_18 : decode cX5_fails 18 = .ok (.ifCond .eq 7, 3) := dk_153 0 7 (dk_at dksX5_fails_0 18 rfl rfl)
theorem dX5_fails_21 : decode cX5_fails 21 = .ok (.iconst 3, 1) := dk_6 (dk_at dksX5_fails_0 21 rfl rfl)
theorem dX5_fails_22 : decode cX5_fails 22 = .ok (.goto 4, 3) := dk_167 0 4 (dk_at dksX5_fails_1 0 rfl rfl)
theorem dX5_fails_25 : decode cX5_fails 25 = .ok (.iconst 0, 1) := dk_3 (dk_at dksX5_fails_1 3 rfl rfl)
theorem dX5_fails_26 : decode cX5_fails 26 = .ok (.putfield 106, 3) := dk_181 0 106 (dk_at dksX5_fails_1 4 rfl rfl)
theorem dX5_fails_29 : decode cX5_fails 29 = .ok (.aload_n 0, 1) := dk_42 (dk_at dksX5_fails_1 7 rfl rfl)
theorem dX5_fails_30 : decode cX5_fails 30 = .ok (.getfield 106, 3) := dk_180 0 106 (dk_at dksX5_fails_1 8 rfl rfl)
theorem dX5_fails_33 : decode cX5_fails 33 = .ok (.ifCond .le 7, 3) := dk_158 0 7 (dk_at dksX5_fails_1 11 rfl rfl)
theorem dX5_fails_36 : decode cX5_fails 36 = .ok (.iconst 1, 1) := dk_4 (dk_at dksX5_fails_1 14 rfl rfl)
theorem dX5_fails_37 : decode cX5_fails 37 = .ok (.goto 4, 3) := dk_167 0 4 (dk_at dksX5_fails_1 15 rfl rfl)
theorem dX5_fails_40 : decode cX5_fails 40 = .ok (.iconst 0, 1) := dk_3 (dk_at dksX5_fails_1 18 rfl rfl)
theorem dX5_fails_41 : decode cX5_fails 41 = .ok (.ireturn, 1) := dk_172 (dk_at dksX5_fails_1 19 rfl rfl)
abbrev cX5_truncate : ByteArray := prog_13_method_37_code
def yX5_truncate : MethodName := ⟨RX5, "truncate", "(I)I"⟩
def dkwX5_truncate_1 : List UInt8 := [153, 0, 5, 3, 172, 42, 27, 181, 0, 93, 27, 172]
abbrev dktX5_truncate_1 : List UInt8 := dkwX5_truncate_1 ++ []
def dkwX5_truncate_0 : List UInt8 := [42, 27, 3, 42, 180, 0, 93, 184, 0, 119, 154, 0, 7, 4, 167, 0, 4, 3, 3, 3, 182, 1, 2]
abbrev dktX5_truncate_0 : List UInt8 := dkwX5_truncate_0 ++ dktX5_truncate_1
theorem dksX5_truncate_0 : cX5_truncate.data.toList.drop 0 = dktX5_truncate_0 := by decide +kernel
theorem dksX5_truncate_1 : cX5_truncate.data.toList.drop 23 = dktX5_truncate_1 := dk_seg dksX5_truncate_0 23 rfl rfl
theorem dX5_truncate_0 : decode cX5_truncate 0 = .ok (.aload_n 0, 1) := dk_42 (dk_at dksX5_truncate_0 0 rfl rfl)
theorem dX5_truncate_1 : decode cX5_truncate 1 = .ok (.iload_n 1, 1) := dk_27 (dk_at dksX5_truncate_0 1 rfl rfl)
theorem dX5_truncate_2 : decode cX5_truncate 2 = .ok (.iconst 0, 1) := dk_3 (dk_at dksX5_truncate_0 2 rfl rfl)
theorem dX5_truncate_3 : decode cX5_truncate 3 = .ok (.aload_n 0, 1) := dk_42 (dk_at dksX5_truncate_0 3 rfl rfl)
theorem dX5_truncate_4 : decode cX5_truncate 4 = .ok (.getfield 93, 3) := dk_180 0 93 (dk_at dksX5_truncate_0 4 rfl rfl)
theorem dX5_truncate_7 : decode cX5_truncate 7 = .ok (.invokestatic 119, 3) := dk_184 0 119 (dk_at dksX5_truncate_0 7 rfl rfl)
theorem dX5_truncate_10 : decode cX5_truncate 10 = .ok (.ifCond .ne 7, 3) := dk_154 0 7 (dk_at dksX5_truncate_0 10 rfl rfl)
theorem dX5_truncate_13 : decode cX5_truncate 13 = .ok (.iconst 1, 1) := dk_4 (dk_at dksX5_truncate_0 13 rfl rfl)
theorem dX5_truncate_14 : decode cX5_truncate 14 = .ok (.goto 4, 3) := dk_167 0 4 (dk_at dksX5_truncate_0 14 rfl rfl)
theorem dX5_truncate_17 : decode cX5_truncate 17 = .ok (.iconst 0, 1) := dk_3 (dk_at dksX5_truncate_0 17 rfl rfl)
theorem dX5_truncate_18 : decode cX5_truncate 18 = .ok (.iconst 0, 1) := dk_3 (dk_at dksX5_truncate_0 18 rfl rfl)
theorem dX5_truncate_19 : decode cX5_truncate 19 = .ok (.iconst 0, 1) := dk_3 (dk_at dksX5_truncate_0 19 rfl rfl)
theorem dX5_truncate_20 : decode cX5_truncate 20 = .ok (.invokevirtual 258, 3) := dk_182 1 2 (dk_at dksX5_truncate_0 20 rfl rfl)
theorem dX5_truncate_23 : decode cX5_truncate 23 = .ok (.ifCond .eq 5, 3) := dk_153 0 5 (dk_at dksX5_truncate_1 0 rfl rfl)
theorem dX5_truncate_26 : decode cX5_truncate 26 = .ok (.iconst 0, 1) := dk_3 (dk_at dksX5_truncate_1 3 rfl rfl)
theorem dX5_truncate_27 : decode cX5_truncate 27 = .ok (.ireturn, 1) := dk_172 (dk_at dksX5_truncate_1 4 rfl rfl)
theorem dX5_truncate_28 : decode cX5_truncate 28 = .ok (.aload_n 0, 1) := dk_42 (dk_at dksX5_truncate_1 5 rfl rfl)
theorem dX5_truncate_29 : decode cX5_truncate 29 = .ok (.iload_n 1, 1) := dk_27 (dk_at dksX5_truncate_1 6 rfl rfl)
theorem dX5_truncate_30 : decode cX5_truncate 30 = .ok (.putfield 93, 3) := dk_181 0 93 (dk_at dksX5_truncate_1 7 rfl rfl)
theorem dX5_truncate_33 : decode cX5_truncate 33 = .ok (.iload_n 1, 1) := dk_27 (dk_at dksX5_truncate_1 10 rfl rfl)
theorem dX5_truncate_34 : decode cX5_truncate 34 = .ok (.ireturn, 1) := dk_172 (dk_at dksX5_truncate_1 11 rfl rfl)
abbrev cX5_error : ByteArray := prog_13_method_66_code
def yX5_error : MethodName := ⟨RX5, "error", "(I)I"⟩
def dkwX5_error_2 : List UInt8 := [42, 180, 0, 39, 172]
abbrev dktX5_error_2 : List UInt8 := dkwX5_error_2 ++ []
def dkwX5_error_1 : List UInt8 := [172, 27, 154, 0, 10, 42, 180, 1, 36, 167, 0, 19, 27, 4, 160, 0, 10, 42, 180, 0, 35, 167, 0, 7]
abbrev dktX5_error_1 : List UInt8 := dkwX5_error_1 ++ dktX5_error_2
def dkwX5_error_0 : List UInt8 := [42, 27, 3, 5, 184, 0, 119, 154, 0, 7, 4, 167, 0, 4, 3, 3, 3, 182, 1, 2, 153, 0, 5, 3]
abbrev dktX5_error_0 : List UInt8 := dkwX5_error_0 ++ dktX5_error_1
theorem dksX5_error_0 : cX5_error.data.toList.drop 0 = dktX5_error_0 := by decide +kernel
theorem dksX5_error_1 : cX5_error.data.toList.drop 24 = dktX5_error_1 := dk_seg dksX5_error_0 24 rfl rfl
theorem dksX5_error_2 : cX5_error.data.toList.drop 48 = dktX5_error_2 := dk_seg dksX5_error_1 24 rfl rfl
theorem dX5_error_0 : decode cX5_error 0 = .ok (.aload_n 0, 1) := dk_42 (dk_at dksX5_error_0 0 rfl rfl)
theorem dX5_error_1 : decode cX5_error 1 = .ok (.iload_n 1, 1) := dk_27 (dk_at dksX5_error_0 1 rfl rfl)
theorem dX5_error_2 : decode cX5_error 2 = .ok (.iconst 0, 1) := dk_3 (dk_at dksX5_error_0 2 rfl rfl)
theorem dX5_error_3 : decode cX5_error 3 = .ok (.iconst 2, 1) := dk_5 (dk_at dksX5_error_0 3 rfl rfl)
theorem dX5_error_4 : decode cX5_error 4 = .ok (.invokestatic 119, 3) := dk_184 0 119 (dk_at dksX5_error_0 4 rfl rfl)
theorem dX5_error_7 : decode cX5_error 7 = .ok (.ifCond .ne 7, 3) := dk_154 0 7 (dk_at dksX5_error_0 7 rfl rfl)
theorem dX5_error_10 : decode cX5_error 10 = .ok (.iconst 1, 1) := dk_4 (dk_at dksX5_error_0 10 rfl rfl)
theorem dX5_error_11 : decode cX5_error 11 = .ok (.goto 4, 3) := dk_167 0 4 (dk_at dksX5_error_0 11 rfl rfl)
theorem dX5_error_14 : decode cX5_error 14 = .ok (.iconst 0, 1) := dk_3 (dk_at dksX5_error_0 14 rfl rfl)
theorem dX5_error_15 : decode cX5_error 15 = .ok (.iconst 0, 1) := dk_3 (dk_at dksX5_error_0 15 rfl rfl)
theorem dX5_error_16 : decode cX5_error 16 = .ok (.iconst 0, 1) := dk_3 (dk_at dksX5_error_0 16 rfl rfl)
theorem dX5_error_17 : decode cX5_error 17 = .ok (.invokevirtual 258, 3) := dk_182 1 2 (dk_at dksX5_error_0 17 rfl rfl)
theorem dX5_error_20 : decode cX5_error 20 = .ok (.ifCond .eq 5, 3) := dk_153 0 5 (dk_at dksX5_error_0 20 rfl rfl)
theorem dX5_error_23 : decode cX5_error 23 = .ok (.iconst 0, 1) := dk_3 (dk_at dksX5_error_0 23 rfl rfl)
theorem dX5_error_24 : decode cX5_error 24 = .ok (.ireturn, 1) := dk_172 (dk_at dksX5_error_1 0 rfl rfl)
theorem dX5_error_25 : decode cX5_error 25 = .ok (.iload_n 1, 1) := dk_27 (dk_at dksX5_error_1 1 rfl rfl)
theorem dX5_error_26 : decode cX5_error 26 = .ok (.ifCond .ne 10, 3) := dk_154 0 10 (dk_at dksX5_error_1 2 rfl rfl)
theorem dX5_error_29 : decode cX5_error 29 = .ok (.aload_n 0, 1) := dk_42 (dk_at dksX5_error_1 5 rfl rfl)
theorem dX5_error_30 : decode cX5_error 30 = .ok (.getfield 292, 3) := dk_180 1 36 (dk_at dksX5_error_1 6 rfl rfl)
theorem dX5_error_33 : decode cX5_error 33 = .ok (.goto 19, 3) := dk_167 0 19 (dk_at dksX5_error_1 9 rfl rfl)
theorem dX5_error_36 : decode cX5_error 36 = .ok (.iload_n 1, 1) := dk_27 (dk_at dksX5_error_1 12 rfl rfl)
theorem dX5_error_37 : decode cX5_error 37 = .ok (.iconst 1, 1) := dk_4 (dk_at dksX5_error_1 13 rfl rfl)
theorem dX5_error_38 : decode cX5_error 38 = .ok (.if_icmp .ne 10, 3) := dk_160 0 10 (dk_at dksX5_error_1 14 rfl rfl)
theorem dX5_error_41 : decode cX5_error 41 = .ok (.aload_n 0, 1) := dk_42 (dk_at dksX5_error_1 17 rfl rfl)
theorem dX5_error_42 : decode cX5_error 42 = .ok (.getfield 35, 3) := dk_180 0 35 (dk_at dksX5_error_1 18 rfl rfl)
theorem dX5_error_45 : decode cX5_error 45 = .ok (.goto 7, 3) := dk_167 0 7 (dk_at dksX5_error_1 21 rfl rfl)
theorem dX5_error_48 : decode cX5_error 48 = .ok (.aload_n 0, 1) := dk_42 (dk_at dksX5_error_2 0 rfl rfl)
theorem dX5_error_49 : decode cX5_error 49 = .ok (.getfield 39, 3) := dk_180 0 39 (dk_at dksX5_error_2 1 rfl rfl)
theorem dX5_error_52 : decode cX5_error 52 = .ok (.ireturn, 1) := dk_172 (dk_at dksX5_error_2 4 rfl rfl)
abbrev cX5_noColour : ByteArray := prog_13_method_11_code
def yX5_noColour : MethodName := ⟨RX5, "noColour", "(I)Z"⟩
def dkwX5_noColour_0 : List UInt8 := [26, 3, 6, 184, 0, 119, 154, 0, 7, 4, 167, 0, 4, 3, 172]
abbrev dktX5_noColour_0 : List UInt8 := dkwX5_noColour_0 ++ []
theorem dksX5_noColour_0 : cX5_noColour.data.toList.drop 0 = dktX5_noColour_0 := by decide +kernel
theorem dX5_noColour_0 : decode cX5_noColour 0 = .ok (.iload_n 0, 1) := dk_26 (dk_at dksX5_noColour_0 0 rfl rfl)
theorem dX5_noColour_1 : decode cX5_noColour 1 = .ok (.iconst 0, 1) := dk_3 (dk_at dksX5_noColour_0 1 rfl rfl)
theorem dX5_noColour_2 : decode cX5_noColour 2 = .ok (.iconst 3, 1) := dk_6 (dk_at dksX5_noColour_0 2 rfl rfl)
theorem dX5_noColour_3 : decode cX5_noColour 3 = .ok (.invokestatic 119, 3) := dk_184 0 119 (dk_at dksX5_noColour_0 3 rfl rfl)
theorem dX5_noColour_6 : decode cX5_noColour 6 = .ok (.ifCond .ne 7, 3) := dk_154 0 7 (dk_at dksX5_noColour_0 6 rfl rfl)
theorem dX5_noColour_9 : decode cX5_noColour 9 = .ok (.iconst 1, 1) := dk_4 (dk_at dksX5_noColour_0 9 rfl rfl)
theorem dX5_noColour_10 : decode cX5_noColour 10 = .ok (.goto 4, 3) := dk_167 0 4 (dk_at dksX5_noColour_0 10 rfl rfl)
theorem dX5_noColour_13 : decode cX5_noColour 13 = .ok (.iconst 0, 1) := dk_3 (dk_at dksX5_noColour_0 13 rfl rfl)
theorem dX5_noColour_14 : decode cX5_noColour 14 = .ok (.ireturn, 1) := dk_172 (dk_at dksX5_noColour_0 14 rfl rfl)
abbrev cX5_addPost : ByteArray := prog_13_method_67_code
def yX5_addPost : MethodName := ⟨RX5, "addPost", "(IIII)I"⟩
def dkwX5_addPost_3 : List UInt8 := [21, 4, 182, 1, 64, 172]
abbrev dktX5_addPost_3 : List UInt8 := dkwX5_addPost_3 ++ []
def dkwX5_addPost_2 : List UInt8 := [167, 0, 4, 3, 182, 1, 2, 153, 0, 5, 3, 172, 42, 42, 180, 0, 9, 182, 1, 146, 42, 27, 28, 29]
abbrev dktX5_addPost_2 : List UInt8 := dkwX5_addPost_2 ++ dktX5_addPost_3
def dkwX5_addPost_1 : List UInt8 := [54, 5, 42, 29, 184, 1, 158, 21, 5, 21, 5, 154, 0, 16, 42, 27, 28, 182, 1, 61, 158, 0, 7, 4]
abbrev dktX5_addPost_1 : List UInt8 := dkwX5_addPost_1 ++ dktX5_addPost_2
def dkwX5_addPost_0 : List UInt8 := [42, 27, 28, 182, 0, 123, 153, 0, 13, 21, 4, 3, 7, 184, 0, 119, 154, 0, 7, 4, 167, 0, 4, 3]
abbrev dktX5_addPost_0 : List UInt8 := dkwX5_addPost_0 ++ dktX5_addPost_1
theorem dksX5_addPost_0 : cX5_addPost.data.toList.drop 0 = dktX5_addPost_0 := by decide +kernel
theorem dksX5_addPost_1 : cX5_addPost.data.toList.drop 24 = dktX5_addPost_1 := dk_seg dksX5_addPost_0 24 rfl rfl
theorem dksX5_addPost_2 : cX5_addPost.data.toList.drop 48 = dktX5_addPost_2 := dk_seg dksX5_addPost_1 24 rfl rfl
theorem dksX5_addPost_3 : cX5_addPost.data.toList.drop 72 = dktX5_addPost_3 := dk_seg dksX5_addPost_2 24 rfl rfl
theorem dX5_addPost_0 : decode cX5_addPost 0 = .ok (.aload_n 0, 1) := dk_42 (dk_at dksX5_addPost_0 0 rfl rfl)
theorem dX5_addPost_1 : decode cX5_addPost 1 = .ok (.iload_n 1, 1) := dk_27 (dk_at dksX5_addPost_0 1 rfl rfl)
theorem dX5_addPost_2 : decode cX5_addPost 2 = .ok (.iload_n 2, 1) := dk_28 (dk_at dksX5_addPost_0 2 rfl rfl)
theorem dX5_addPost_3 : decode cX5_addPost 3 = .ok (.invokevirtual 123, 3) := dk_182 0 123 (dk_at dksX5_addPost_0 3 rfl rfl)
theorem dX5_addPost_6 : decode cX5_addPost 6 = .ok (.ifCond .eq 13, 3) := dk_153 0 13 (dk_at dksX5_addPost_0 6 rfl rfl)
theorem dX5_addPost_9 : decode cX5_addPost 9 = .ok (.iload 4, 2) := dk_21 4 (dk_at dksX5_addPost_0 9 rfl rfl)
theorem dX5_addPost_11 : decode cX5_addPost 11 = .ok (.iconst 0, 1) := dk_3 (dk_at dksX5_addPost_0 11 rfl rfl)
theorem dX5_addPost_12 : decode cX5_addPost 12 = .ok (.iconst 4, 1) := dk_7 (dk_at dksX5_addPost_0 12 rfl rfl)
theorem dX5_addPost_13 : decode cX5_addPost 13 = .ok (.invokestatic 119, 3) := dk_184 0 119 (dk_at dksX5_addPost_0 13 rfl rfl)
theorem dX5_addPost_16 : decode cX5_addPost 16 = .ok (.ifCond .ne 7, 3) := dk_154 0 7 (dk_at dksX5_addPost_0 16 rfl rfl)
theorem dX5_addPost_19 : decode cX5_addPost 19 = .ok (.iconst 1, 1) := dk_4 (dk_at dksX5_addPost_0 19 rfl rfl)
theorem dX5_addPost_20 : decode cX5_addPost 20 = .ok (.goto 4, 3) := dk_167 0 4 (dk_at dksX5_addPost_0 20 rfl rfl)
theorem dX5_addPost_23 : decode cX5_addPost 23 = .ok (.iconst 0, 1) := dk_3 (dk_at dksX5_addPost_0 23 rfl rfl)
theorem dX5_addPost_24 : decode cX5_addPost 24 = .ok (.istore 5, 2) := dk_54 5 (dk_at dksX5_addPost_1 0 rfl rfl)
theorem dX5_addPost_26 : decode cX5_addPost 26 = .ok (.aload_n 0, 1) := dk_42 (dk_at dksX5_addPost_1 2 rfl rfl)
theorem dX5_addPost_27 : decode cX5_addPost 27 = .ok (.iload_n 3, 1) := dk_29 (dk_at dksX5_addPost_1 3 rfl rfl)
theorem dX5_addPost_28 : decode cX5_addPost 28 = .ok (.invokestatic 414, 3) := dk_184 1 158 (dk_at dksX5_addPost_1 4 rfl rfl)
theorem dX5_addPost_31 : decode cX5_addPost 31 = .ok (.iload 5, 2) := dk_21 5 (dk_at dksX5_addPost_1 7 rfl rfl)
theorem dX5_addPost_33 : decode cX5_addPost 33 = .ok (.iload 5, 2) := dk_21 5 (dk_at dksX5_addPost_1 9 rfl rfl)
theorem dX5_addPost_35 : decode cX5_addPost 35 = .ok (.ifCond .ne 16, 3) := dk_154 0 16 (dk_at dksX5_addPost_1 11 rfl rfl)
theorem dX5_addPost_38 : decode cX5_addPost 38 = .ok (.aload_n 0, 1) := dk_42 (dk_at dksX5_addPost_1 14 rfl rfl)
theorem dX5_addPost_39 : decode cX5_addPost 39 = .ok (.iload_n 1, 1) := dk_27 (dk_at dksX5_addPost_1 15 rfl rfl)
theorem dX5_addPost_40 : decode cX5_addPost 40 = .ok (.iload_n 2, 1) := dk_28 (dk_at dksX5_addPost_1 16 rfl rfl)
theorem dX5_addPost_41 : decode cX5_addPost 41 = .ok (.invokevirtual 317, 3) := dk_182 1 61 (dk_at dksX5_addPost_1 17 rfl rfl)
theorem dX5_addPost_44 : decode cX5_addPost 44 = .ok (.ifCond .le 7, 3) := dk_158 0 7 (dk_at dksX5_addPost_1 20 rfl rfl)
theorem dX5_addPost_47 : decode cX5_addPost 47 = .ok (.iconst 1, 1) := dk_4 (dk_at dksX5_addPost_1 23 rfl rfl)
theorem dX5_addPost_48 : decode cX5_addPost 48 = .ok (.goto 4, 3) := dk_167 0 4 (dk_at dksX5_addPost_2 0 rfl rfl)
theorem dX5_addPost_51 : decode cX5_addPost 51 = .ok (.iconst 0, 1) := dk_3 (dk_at dksX5_addPost_2 3 rfl rfl)
theorem dX5_addPost_52 : decode cX5_addPost 52 = .ok (.invokevirtual 258, 3) := dk_182 1 2 (dk_at dksX5_addPost_2 4 rfl rfl)
theorem dX5_addPost_55 : decode cX5_addPost 55 = .ok (.ifCond .eq 5, 3) := dk_153 0 5 (dk_at dksX5_addPost_2 7 rfl rfl)
theorem dX5_addPost_58 : decode cX5_addPost 58 = .ok (.iconst 0, 1) := dk_3 (dk_at dksX5_addPost_2 10 rfl rfl)
theorem dX5_addPost_59 : decode cX5_addPost 59 = .ok (.ireturn, 1) := dk_172 (dk_at dksX5_addPost_2 11 rfl rfl)
theorem dX5_addPost_60 : decode cX5_addPost 60 = .ok (.aload_n 0, 1) := dk_42 (dk_at dksX5_addPost_2 12 rfl rfl)
theorem dX5_addPost_61 : decode cX5_addPost 61 = .ok (.aload_n 0, 1) := dk_42 (dk_at dksX5_addPost_2 13 rfl rfl)
theorem dX5_addPost_62 : decode cX5_addPost 62 = .ok (.getfield 9, 3) := dk_180 0 9 (dk_at dksX5_addPost_2 14 rfl rfl)
theorem dX5_addPost_65 : decode cX5_addPost 65 = .ok (.invokevirtual 402, 3) := dk_182 1 146 (dk_at dksX5_addPost_2 17 rfl rfl)
theorem dX5_addPost_68 : decode cX5_addPost 68 = .ok (.aload_n 0, 1) := dk_42 (dk_at dksX5_addPost_2 20 rfl rfl)
theorem dX5_addPost_69 : decode cX5_addPost 69 = .ok (.iload_n 1, 1) := dk_27 (dk_at dksX5_addPost_2 21 rfl rfl)
theorem dX5_addPost_70 : decode cX5_addPost 70 = .ok (.iload_n 2, 1) := dk_28 (dk_at dksX5_addPost_2 22 rfl rfl)
theorem dX5_addPost_71 : decode cX5_addPost 71 = .ok (.iload_n 3, 1) := dk_29 (dk_at dksX5_addPost_2 23 rfl rfl)
theorem dX5_addPost_72 : decode cX5_addPost 72 = .ok (.iload 4, 2) := dk_21 4 (dk_at dksX5_addPost_3 0 rfl rfl)
theorem dX5_addPost_74 : decode cX5_addPost 74 = .ok (.invokevirtual 320, 3) := dk_182 1 64 (dk_at dksX5_addPost_3 2 rfl rfl)
theorem dX5_addPost_77 : decode cX5_addPost 77 = .ok (.ireturn, 1) := dk_172 (dk_at dksX5_addPost_3 5 rfl rfl)
abbrev cX5_noPost : ByteArray := prog_13_method_10_code
def yX5_noPost : MethodName := ⟨RX5, "noPost", "(I)Z"⟩
def dkwX5_noPost_0 : List UInt8 := [27, 3, 42, 180, 0, 9, 7, 46, 4, 100, 184, 0, 119, 154, 0, 7, 4, 167, 0, 4, 3, 172]
abbrev dktX5_noPost_0 : List UInt8 := dkwX5_noPost_0 ++ []
theorem dksX5_noPost_0 : cX5_noPost.data.toList.drop 0 = dktX5_noPost_0 := by decide +kernel
theorem dX5_noPost_0 : decode cX5_noPost 0 = .ok (.iload_n 1, 1) := dk_27 (dk_at dksX5_noPost_0 0 rfl rfl)
theorem dX5_noPost_1 : decode cX5_noPost 1 = .ok (.iconst 0, 1) := dk_3 (dk_at dksX5_noPost_0 1 rfl rfl)
theorem dX5_noPost_2 : decode cX5_noPost 2 = .ok (.aload_n 0, 1) := dk_42 (dk_at dksX5_noPost_0 2 rfl rfl)
theorem dX5_noPost_3 : decode cX5_noPost 3 = .ok (.getfield 9, 3) := dk_180 0 9 (dk_at dksX5_noPost_0 3 rfl rfl)
theorem dX5_noPost_6 : decode cX5_noPost 6 = .ok (.iconst 4, 1) := dk_7 (dk_at dksX5_noPost_0 6 rfl rfl)
theorem dX5_noPost_7 : decode cX5_noPost 7 = .ok (.iaload, 1) := dk_46 (dk_at dksX5_noPost_0 7 rfl rfl)
theorem dX5_noPost_8 : decode cX5_noPost 8 = .ok (.iconst 1, 1) := dk_4 (dk_at dksX5_noPost_0 8 rfl rfl)
theorem dX5_noPost_9 : decode cX5_noPost 9 = .ok (.isub, 1) := dk_100 (dk_at dksX5_noPost_0 9 rfl rfl)
theorem dX5_noPost_10 : decode cX5_noPost 10 = .ok (.invokestatic 119, 3) := dk_184 0 119 (dk_at dksX5_noPost_0 10 rfl rfl)
theorem dX5_noPost_13 : decode cX5_noPost 13 = .ok (.ifCond .ne 7, 3) := dk_154 0 7 (dk_at dksX5_noPost_0 13 rfl rfl)
theorem dX5_noPost_16 : decode cX5_noPost 16 = .ok (.iconst 1, 1) := dk_4 (dk_at dksX5_noPost_0 16 rfl rfl)
theorem dX5_noPost_17 : decode cX5_noPost 17 = .ok (.goto 4, 3) := dk_167 0 4 (dk_at dksX5_noPost_0 17 rfl rfl)
theorem dX5_noPost_20 : decode cX5_noPost 20 = .ok (.iconst 0, 1) := dk_3 (dk_at dksX5_noPost_0 20 rfl rfl)
theorem dX5_noPost_21 : decode cX5_noPost 21 = .ok (.ireturn, 1) := dk_172 (dk_at dksX5_noPost_0 21 rfl rfl)
abbrev cX5_dropPost : ByteArray := prog_13_method_68_code
def yX5_dropPost : MethodName := ⟨RX5, "dropPost", "(I)I"⟩
def dkwX5_dropPost_3 : List UInt8 := [79, 132, 2, 1, 167, 255, 223, 42, 180, 0, 9, 7, 46, 172]
abbrev dktX5_dropPost_3 : List UInt8 := dkwX5_dropPost_3 ++ []
def dkwX5_dropPost_2 : List UInt8 := [180, 0, 9, 7, 46, 8, 104, 96, 162, 0, 23, 42, 180, 0, 9, 28, 42, 180, 0, 9, 28, 8, 96, 46]
abbrev dktX5_dropPost_2 : List UInt8 := dkwX5_dropPost_2 ++ dktX5_dropPost_3
def dkwX5_dropPost_1 : List UInt8 := [42, 180, 0, 9, 7, 92, 46, 4, 100, 79, 17, 1, 150, 27, 8, 104, 96, 61, 28, 17, 1, 150, 42]
abbrev dktX5_dropPost_1 : List UInt8 := dkwX5_dropPost_1 ++ dktX5_dropPost_2
def dkwX5_dropPost_0 : List UInt8 := [42, 42, 27, 182, 1, 161, 3, 3, 182, 1, 2, 153, 0, 5, 3, 172, 42, 42, 180, 0, 9, 182, 1, 146]
abbrev dktX5_dropPost_0 : List UInt8 := dkwX5_dropPost_0 ++ dktX5_dropPost_1
theorem dksX5_dropPost_0 : cX5_dropPost.data.toList.drop 0 = dktX5_dropPost_0 := by decide +kernel
theorem dksX5_dropPost_1 : cX5_dropPost.data.toList.drop 24 = dktX5_dropPost_1 := dk_seg dksX5_dropPost_0 24 rfl rfl
theorem dksX5_dropPost_2 : cX5_dropPost.data.toList.drop 47 = dktX5_dropPost_2 := dk_seg dksX5_dropPost_1 23 rfl rfl
theorem dksX5_dropPost_3 : cX5_dropPost.data.toList.drop 71 = dktX5_dropPost_3 := dk_seg dksX5_dropPost_2 24 rfl rfl
theorem dX5_dropPost_0 : decode cX5_dropPost 0 = .ok (.aload_n 0, 1) := dk_42 (dk_at dksX5_dropPost_0 0 rfl rfl)
theorem dX5_dropPost_1 : decode cX5_dropPost 1 = .ok (.aload_n 0, 1) := dk_42 (dk_at dksX5_dropPost_0 1 rfl rfl)
theorem dX5_dropPost_2 : decode cX5_dropPost 2 = .ok (.iload_n 1, 1) := dk_27 (dk_at dksX5_dropPost_0 2 rfl rfl)
theorem dX5_dropPost_3 : decode cX5_dropPost 3 = .ok (.invokevirtual 417, 3) := dk_182 1 161 (dk_at dksX5_dropPost_0 3 rfl rfl)
theorem dX5_dropPost_6 : decode cX5_dropPost 6 = .ok (.iconst 0, 1) := dk_3 (dk_at dksX5_dropPost_0 6 rfl rfl)
theorem dX5_dropPost_7 : decode cX5_dropPost 7 = .ok (.iconst 0, 1) := dk_3 (dk_at dksX5_dropPost_0 7 rfl rfl)
theorem dX5_dropPost_8 : decode cX5_dropPost 8 = .ok (.invokevirtual 258, 3) := dk_182 1 2 (dk_at dksX5_dropPost_0 8 rfl rfl)
theorem dX5_dropPost_11 : decode cX5_dropPost 11 = .ok (.ifCond .eq 5, 3) := dk_153 0 5 (dk_at dksX5_dropPost_0 11 rfl rfl)
theorem dX5_dropPost_14 : decode cX5_dropPost 14 = .ok (.iconst 0, 1) := dk_3 (dk_at dksX5_dropPost_0 14 rfl rfl)
theorem dX5_dropPost_15 : decode cX5_dropPost 15 = .ok (.ireturn, 1) := dk_172 (dk_at dksX5_dropPost_0 15 rfl rfl)
theorem dX5_dropPost_16 : decode cX5_dropPost 16 = .ok (.aload_n 0, 1) := dk_42 (dk_at dksX5_dropPost_0 16 rfl rfl)
theorem dX5_dropPost_17 : decode cX5_dropPost 17 = .ok (.aload_n 0, 1) := dk_42 (dk_at dksX5_dropPost_0 17 rfl rfl)
theorem dX5_dropPost_18 : decode cX5_dropPost 18 = .ok (.getfield 9, 3) := dk_180 0 9 (dk_at dksX5_dropPost_0 18 rfl rfl)
theorem dX5_dropPost_21 : decode cX5_dropPost 21 = .ok (.invokevirtual 402, 3) := dk_182 1 146 (dk_at dksX5_dropPost_0 21 rfl rfl)
theorem dX5_dropPost_24 : decode cX5_dropPost 24 = .ok (.aload_n 0, 1) := dk_42 (dk_at dksX5_dropPost_1 0 rfl rfl)
theorem dX5_dropPost_25 : decode cX5_dropPost 25 = .ok (.getfield 9, 3) := dk_180 0 9 (dk_at dksX5_dropPost_1 1 rfl rfl)
theorem dX5_dropPost_28 : decode cX5_dropPost 28 = .ok (.iconst 4, 1) := dk_7 (dk_at dksX5_dropPost_1 4 rfl rfl)
theorem dX5_dropPost_29 : decode cX5_dropPost 29 = .ok (.dup2, 1) := dk_92 (dk_at dksX5_dropPost_1 5 rfl rfl)
theorem dX5_dropPost_30 : decode cX5_dropPost 30 = .ok (.iaload, 1) := dk_46 (dk_at dksX5_dropPost_1 6 rfl rfl)
theorem dX5_dropPost_31 : decode cX5_dropPost 31 = .ok (.iconst 1, 1) := dk_4 (dk_at dksX5_dropPost_1 7 rfl rfl)
theorem dX5_dropPost_32 : decode cX5_dropPost 32 = .ok (.isub, 1) := dk_100 (dk_at dksX5_dropPost_1 8 rfl rfl)
theorem dX5_dropPost_33 : decode cX5_dropPost 33 = .ok (.iastore, 1) := dk_79 (dk_at dksX5_dropPost_1 9 rfl rfl)
theorem dX5_dropPost_34 : decode cX5_dropPost 34 = .ok (.sipush 406, 3) := dk_17 1 150 (dk_at dksX5_dropPost_1 10 rfl rfl)
theorem dX5_dropPost_37 : decode cX5_dropPost 37 = .ok (.iload_n 1, 1) := dk_27 (dk_at dksX5_dropPost_1 13 rfl rfl)
theorem dX5_dropPost_38 : decode cX5_dropPost 38 = .ok (.iconst 5, 1) := dk_8 (dk_at dksX5_dropPost_1 14 rfl rfl)
theorem dX5_dropPost_39 : decode cX5_dropPost 39 = .ok (.imul, 1) := dk_104 (dk_at dksX5_dropPost_1 15 rfl rfl)
theorem dX5_dropPost_40 : decode cX5_dropPost 40 = .ok (.iadd, 1) := dk_96 (dk_at dksX5_dropPost_1 16 rfl rfl)
theorem dX5_dropPost_41 : decode cX5_dropPost 41 = .ok (.istore_n 2, 1) := dk_61 (dk_at dksX5_dropPost_1 17 rfl rfl)
theorem dX5_dropPost_42 : decode cX5_dropPost 42 = .ok (.iload_n 2, 1) := dk_28 (dk_at dksX5_dropPost_1 18 rfl rfl)
theorem dX5_dropPost_43 : decode cX5_dropPost 43 = .ok (.sipush 406, 3) := dk_17 1 150 (dk_at dksX5_dropPost_1 19 rfl rfl)
theorem dX5_dropPost_46 : decode cX5_dropPost 46 = .ok (.aload_n 0, 1) := dk_42 (dk_at dksX5_dropPost_1 22 rfl rfl)
theorem dX5_dropPost_47 : decode cX5_dropPost 47 = .ok (.getfield 9, 3) := dk_180 0 9 (dk_at dksX5_dropPost_2 0 rfl rfl)
theorem dX5_dropPost_50 : decode cX5_dropPost 50 = .ok (.iconst 4, 1) := dk_7 (dk_at dksX5_dropPost_2 3 rfl rfl)
theorem dX5_dropPost_51 : decode cX5_dropPost 51 = .ok (.iaload, 1) := dk_46 (dk_at dksX5_dropPost_2 4 rfl rfl)
theorem dX5_dropPost_52 : decode cX5_dropPost 52 = .ok (.iconst 5, 1) := dk_8 (dk_at dksX5_dropPost_2 5 rfl rfl)
theorem dX5_dropPost_53 : decode cX5_dropPost 53 = .ok (.imul, 1) := dk_104 (dk_at dksX5_dropPost_2 6 rfl rfl)
theorem dX5_dropPost_54 : decode cX5_dropPost 54 = .ok (.iadd, 1) := dk_96 (dk_at dksX5_dropPost_2 7 rfl rfl)
theorem dX5_dropPost_55 : decode cX5_dropPost 55 = .ok (.if_icmp .ge 23, 3) := dk_162 0 23 (dk_at dksX5_dropPost_2 8 rfl rfl)
theorem dX5_dropPost_58 : decode cX5_dropPost 58 = .ok (.aload_n 0, 1) := dk_42 (dk_at dksX5_dropPost_2 11 rfl rfl)
theorem dX5_dropPost_59 : decode cX5_dropPost 59 = .ok (.getfield 9, 3) := dk_180 0 9 (dk_at dksX5_dropPost_2 12 rfl rfl)
theorem dX5_dropPost_62 : decode cX5_dropPost 62 = .ok (.iload_n 2, 1) := dk_28 (dk_at dksX5_dropPost_2 15 rfl rfl)
theorem dX5_dropPost_63 : decode cX5_dropPost 63 = .ok (.aload_n 0, 1) := dk_42 (dk_at dksX5_dropPost_2 16 rfl rfl)
theorem dX5_dropPost_64 : decode cX5_dropPost 64 = .ok (.getfield 9, 3) := dk_180 0 9 (dk_at dksX5_dropPost_2 17 rfl rfl)
theorem dX5_dropPost_67 : decode cX5_dropPost 67 = .ok (.iload_n 2, 1) := dk_28 (dk_at dksX5_dropPost_2 20 rfl rfl)
theorem dX5_dropPost_68 : decode cX5_dropPost 68 = .ok (.iconst 5, 1) := dk_8 (dk_at dksX5_dropPost_2 21 rfl rfl)
theorem dX5_dropPost_69 : decode cX5_dropPost 69 = .ok (.iadd, 1) := dk_96 (dk_at dksX5_dropPost_2 22 rfl rfl)
theorem dX5_dropPost_70 : decode cX5_dropPost 70 = .ok (.iaload, 1) := dk_46 (dk_at dksX5_dropPost_2 23 rfl rfl)
theorem dX5_dropPost_71 : decode cX5_dropPost 71 = .ok (.iastore, 1) := dk_79 (dk_at dksX5_dropPost_3 0 rfl rfl)
theorem dX5_dropPost_72 : decode cX5_dropPost 72 = .ok (.iinc 2 1, 3) := dk_132 2 1 (dk_at dksX5_dropPost_3 1 rfl rfl)
theorem dX5_dropPost_75 : decode cX5_dropPost 75 = .ok (.goto (-33), 3) := dk_167 255 223 (dk_at dksX5_dropPost_3 4 rfl rfl)
theorem dX5_dropPost_78 : decode cX5_dropPost 78 = .ok (.aload_n 0, 1) := dk_42 (dk_at dksX5_dropPost_3 7 rfl rfl)
theorem dX5_dropPost_79 : decode cX5_dropPost 79 = .ok (.getfield 9, 3) := dk_180 0 9 (dk_at dksX5_dropPost_3 8 rfl rfl)
theorem dX5_dropPost_82 : decode cX5_dropPost 82 = .ok (.iconst 4, 1) := dk_7 (dk_at dksX5_dropPost_3 11 rfl rfl)
theorem dX5_dropPost_83 : decode cX5_dropPost 83 = .ok (.iaload, 1) := dk_46 (dk_at dksX5_dropPost_3 12 rfl rfl)
theorem dX5_dropPost_84 : decode cX5_dropPost 84 = .ok (.ireturn, 1) := dk_172 (dk_at dksX5_dropPost_3 13 rfl rfl)
abbrev cX5_turn : ByteArray := prog_13_method_69_code
def yX5_turn : MethodName := ⟨RX5, "turn", "(II)I"⟩
def dkwX5_turn_2 : List UInt8 := [182, 1, 54, 29, 172]
abbrev dktX5_turn_2 : List UInt8 := dkwX5_turn_2 ++ []
def dkwX5_turn_1 : List UInt8 := [153, 0, 5, 3, 172, 42, 42, 180, 0, 9, 182, 1, 146, 42, 27, 6, 182, 0, 130, 62, 42, 27, 6, 28]
abbrev dktX5_turn_1 : List UInt8 := dkwX5_turn_1 ++ dktX5_turn_2
def dkwX5_turn_0 : List UInt8 := [42, 42, 27, 182, 1, 161, 28, 3, 7, 184, 0, 119, 154, 0, 7, 4, 167, 0, 4, 3, 3, 182, 1, 2]
abbrev dktX5_turn_0 : List UInt8 := dkwX5_turn_0 ++ dktX5_turn_1
theorem dksX5_turn_0 : cX5_turn.data.toList.drop 0 = dktX5_turn_0 := by decide +kernel
theorem dksX5_turn_1 : cX5_turn.data.toList.drop 24 = dktX5_turn_1 := dk_seg dksX5_turn_0 24 rfl rfl
theorem dksX5_turn_2 : cX5_turn.data.toList.drop 48 = dktX5_turn_2 := dk_seg dksX5_turn_1 24 rfl rfl
theorem dX5_turn_0 : decode cX5_turn 0 = .ok (.aload_n 0, 1) := dk_42 (dk_at dksX5_turn_0 0 rfl rfl)
theorem dX5_turn_1 : decode cX5_turn 1 = .ok (.aload_n 0, 1) := dk_42 (dk_at dksX5_turn_0 1 rfl rfl)
theorem dX5_turn_2 : decode cX5_turn 2 = .ok (.iload_n 1, 1) := dk_27 (dk_at dksX5_turn_0 2 rfl rfl)
theorem dX5_turn_3 : decode cX5_turn 3 = .ok (.invokevirtual 417, 3) := dk_182 1 161 (dk_at dksX5_turn_0 3 rfl rfl)
theorem dX5_turn_6 : decode cX5_turn 6 = .ok (.iload_n 2, 1) := dk_28 (dk_at dksX5_turn_0 6 rfl rfl)
theorem dX5_turn_7 : decode cX5_turn 7 = .ok (.iconst 0, 1) := dk_3 (dk_at dksX5_turn_0 7 rfl rfl)
theorem dX5_turn_8 : decode cX5_turn 8 = .ok (.iconst 4, 1) := dk_7 (dk_at dksX5_turn_0 8 rfl rfl)
theorem dX5_turn_9 : decode cX5_turn 9 = .ok (.invokestatic 119, 3) := dk_184 0 119 (dk_at dksX5_turn_0 9 rfl rfl)
theorem dX5_turn_12 : decode cX5_turn 12 = .ok (.ifCond .ne 7, 3) := dk_154 0 7 (dk_at dksX5_turn_0 12 rfl rfl)
theorem dX5_turn_15 : decode cX5_turn 15 = .ok (.iconst 1, 1) := dk_4 (dk_at dksX5_turn_0 15 rfl rfl)
theorem dX5_turn_16 : decode cX5_turn 16 = .ok (.goto 4, 3) := dk_167 0 4 (dk_at dksX5_turn_0 16 rfl rfl)
theorem dX5_turn_19 : decode cX5_turn 19 = .ok (.iconst 0, 1) := dk_3 (dk_at dksX5_turn_0 19 rfl rfl)
theorem dX5_turn_20 : decode cX5_turn 20 = .ok (.iconst 0, 1) := dk_3 (dk_at dksX5_turn_0 20 rfl rfl)
theorem dX5_turn_21 : decode cX5_turn 21 = .ok (.invokevirtual 258, 3) := dk_182 1 2 (dk_at dksX5_turn_0 21 rfl rfl)
theorem dX5_turn_24 : decode cX5_turn 24 = .ok (.ifCond .eq 5, 3) := dk_153 0 5 (dk_at dksX5_turn_1 0 rfl rfl)
theorem dX5_turn_27 : decode cX5_turn 27 = .ok (.iconst 0, 1) := dk_3 (dk_at dksX5_turn_1 3 rfl rfl)
theorem dX5_turn_28 : decode cX5_turn 28 = .ok (.ireturn, 1) := dk_172 (dk_at dksX5_turn_1 4 rfl rfl)
theorem dX5_turn_29 : decode cX5_turn 29 = .ok (.aload_n 0, 1) := dk_42 (dk_at dksX5_turn_1 5 rfl rfl)
theorem dX5_turn_30 : decode cX5_turn 30 = .ok (.aload_n 0, 1) := dk_42 (dk_at dksX5_turn_1 6 rfl rfl)
theorem dX5_turn_31 : decode cX5_turn 31 = .ok (.getfield 9, 3) := dk_180 0 9 (dk_at dksX5_turn_1 7 rfl rfl)
theorem dX5_turn_34 : decode cX5_turn 34 = .ok (.invokevirtual 402, 3) := dk_182 1 146 (dk_at dksX5_turn_1 10 rfl rfl)
theorem dX5_turn_37 : decode cX5_turn 37 = .ok (.aload_n 0, 1) := dk_42 (dk_at dksX5_turn_1 13 rfl rfl)
theorem dX5_turn_38 : decode cX5_turn 38 = .ok (.iload_n 1, 1) := dk_27 (dk_at dksX5_turn_1 14 rfl rfl)
theorem dX5_turn_39 : decode cX5_turn 39 = .ok (.iconst 3, 1) := dk_6 (dk_at dksX5_turn_1 15 rfl rfl)
theorem dX5_turn_40 : decode cX5_turn 40 = .ok (.invokevirtual 130, 3) := dk_182 0 130 (dk_at dksX5_turn_1 16 rfl rfl)
theorem dX5_turn_43 : decode cX5_turn 43 = .ok (.istore_n 3, 1) := dk_62 (dk_at dksX5_turn_1 19 rfl rfl)
theorem dX5_turn_44 : decode cX5_turn 44 = .ok (.aload_n 0, 1) := dk_42 (dk_at dksX5_turn_1 20 rfl rfl)
theorem dX5_turn_45 : decode cX5_turn 45 = .ok (.iload_n 1, 1) := dk_27 (dk_at dksX5_turn_1 21 rfl rfl)
theorem dX5_turn_46 : decode cX5_turn 46 = .ok (.iconst 3, 1) := dk_6 (dk_at dksX5_turn_1 22 rfl rfl)
theorem dX5_turn_47 : decode cX5_turn 47 = .ok (.iload_n 2, 1) := dk_28 (dk_at dksX5_turn_1 23 rfl rfl)
theorem dX5_turn_48 : decode cX5_turn 48 = .ok (.invokevirtual 310, 3) := dk_182 1 54 (dk_at dksX5_turn_2 0 rfl rfl)
theorem dX5_turn_51 : decode cX5_turn 51 = .ok (.iload_n 3, 1) := dk_29 (dk_at dksX5_turn_2 3 rfl rfl)
theorem dX5_turn_52 : decode cX5_turn 52 = .ok (.ireturn, 1) := dk_172 (dk_at dksX5_turn_2 4 rfl rfl)
abbrev cX5_stands : ByteArray := prog_13_method_15_code
def yX5_stands : MethodName := ⟨RX5, "stands", "(I)Z"⟩
def dkwX5_stands_0 : List UInt8 := [42, 27, 7, 182, 0, 130, 154, 0, 7, 4, 167, 0, 4, 3, 172]
abbrev dktX5_stands_0 : List UInt8 := dkwX5_stands_0 ++ []
theorem dksX5_stands_0 : cX5_stands.data.toList.drop 0 = dktX5_stands_0 := by decide +kernel
theorem dX5_stands_0 : decode cX5_stands 0 = .ok (.aload_n 0, 1) := dk_42 (dk_at dksX5_stands_0 0 rfl rfl)
theorem dX5_stands_1 : decode cX5_stands 1 = .ok (.iload_n 1, 1) := dk_27 (dk_at dksX5_stands_0 1 rfl rfl)
theorem dX5_stands_2 : decode cX5_stands 2 = .ok (.iconst 4, 1) := dk_7 (dk_at dksX5_stands_0 2 rfl rfl)
theorem dX5_stands_3 : decode cX5_stands 3 = .ok (.invokevirtual 130, 3) := dk_182 0 130 (dk_at dksX5_stands_0 3 rfl rfl)
theorem dX5_stands_6 : decode cX5_stands 6 = .ok (.ifCond .ne 7, 3) := dk_154 0 7 (dk_at dksX5_stands_0 6 rfl rfl)
theorem dX5_stands_9 : decode cX5_stands 9 = .ok (.iconst 1, 1) := dk_4 (dk_at dksX5_stands_0 9 rfl rfl)
theorem dX5_stands_10 : decode cX5_stands 10 = .ok (.goto 4, 3) := dk_167 0 4 (dk_at dksX5_stands_0 10 rfl rfl)
theorem dX5_stands_13 : decode cX5_stands 13 = .ok (.iconst 0, 1) := dk_3 (dk_at dksX5_stands_0 13 rfl rfl)
theorem dX5_stands_14 : decode cX5_stands 14 = .ok (.ireturn, 1) := dk_172 (dk_at dksX5_stands_0 14 rfl rfl)
abbrev cX5_posts : ByteArray := prog_13_method_19_code
def yX5_posts : MethodName := ⟨RX5, "posts", "(IZ)I"⟩
def dkwX5_posts_2 : List UInt8 := [132, 4, 1, 167, 255, 210, 29, 172]
abbrev dktX5_posts_2 : List UInt8 := dkwX5_posts_2 ++ []
def dkwX5_posts_1 : List UInt8 := [5, 182, 0, 130, 27, 160, 0, 19, 28, 153, 0, 12, 42, 21, 4, 182, 0, 134, 153, 0, 6, 132, 3, 1]
abbrev dktX5_posts_1 : List UInt8 := dkwX5_posts_1 ++ dktX5_posts_2
def dkwX5_posts_0 : List UInt8 := [3, 62, 3, 54, 4, 21, 4, 42, 180, 0, 9, 7, 46, 162, 0, 41, 27, 2, 159, 0, 14, 42, 21, 4]
abbrev dktX5_posts_0 : List UInt8 := dkwX5_posts_0 ++ dktX5_posts_1
theorem dksX5_posts_0 : cX5_posts.data.toList.drop 0 = dktX5_posts_0 := by decide +kernel
theorem dksX5_posts_1 : cX5_posts.data.toList.drop 24 = dktX5_posts_1 := dk_seg dksX5_posts_0 24 rfl rfl
theorem dksX5_posts_2 : cX5_posts.data.toList.drop 48 = dktX5_posts_2 := dk_seg dksX5_posts_1 24 rfl rfl
theorem dX5_posts_0 : decode cX5_posts 0 = .ok (.iconst 0, 1) := dk_3 (dk_at dksX5_posts_0 0 rfl rfl)
theorem dX5_posts_1 : decode cX5_posts 1 = .ok (.istore_n 3, 1) := dk_62 (dk_at dksX5_posts_0 1 rfl rfl)
theorem dX5_posts_2 : decode cX5_posts 2 = .ok (.iconst 0, 1) := dk_3 (dk_at dksX5_posts_0 2 rfl rfl)
theorem dX5_posts_3 : decode cX5_posts 3 = .ok (.istore 4, 2) := dk_54 4 (dk_at dksX5_posts_0 3 rfl rfl)
theorem dX5_posts_5 : decode cX5_posts 5 = .ok (.iload 4, 2) := dk_21 4 (dk_at dksX5_posts_0 5 rfl rfl)
theorem dX5_posts_7 : decode cX5_posts 7 = .ok (.aload_n 0, 1) := dk_42 (dk_at dksX5_posts_0 7 rfl rfl)
theorem dX5_posts_8 : decode cX5_posts 8 = .ok (.getfield 9, 3) := dk_180 0 9 (dk_at dksX5_posts_0 8 rfl rfl)
theorem dX5_posts_11 : decode cX5_posts 11 = .ok (.iconst 4, 1) := dk_7 (dk_at dksX5_posts_0 11 rfl rfl)
theorem dX5_posts_12 : decode cX5_posts 12 = .ok (.iaload, 1) := dk_46 (dk_at dksX5_posts_0 12 rfl rfl)
theorem dX5_posts_13 : decode cX5_posts 13 = .ok (.if_icmp .ge 41, 3) := dk_162 0 41 (dk_at dksX5_posts_0 13 rfl rfl)
theorem dX5_posts_16 : decode cX5_posts 16 = .ok (.iload_n 1, 1) := dk_27 (dk_at dksX5_posts_0 16 rfl rfl)
theorem dX5_posts_17 : decode cX5_posts 17 = .ok (.iconst (-1), 1) := dk_2 (dk_at dksX5_posts_0 17 rfl rfl)
theorem dX5_posts_18 : decode cX5_posts 18 = .ok (.if_icmp .eq 14, 3) := dk_159 0 14 (dk_at dksX5_posts_0 18 rfl rfl)
theorem dX5_posts_21 : decode cX5_posts 21 = .ok (.aload_n 0, 1) := dk_42 (dk_at dksX5_posts_0 21 rfl rfl)
theorem dX5_posts_22 : decode cX5_posts 22 = .ok (.iload 4, 2) := dk_21 4 (dk_at dksX5_posts_0 22 rfl rfl)
theorem dX5_posts_24 : decode cX5_posts 24 = .ok (.iconst 2, 1) := dk_5 (dk_at dksX5_posts_1 0 rfl rfl)
theorem dX5_posts_25 : decode cX5_posts 25 = .ok (.invokevirtual 130, 3) := dk_182 0 130 (dk_at dksX5_posts_1 1 rfl rfl)
theorem dX5_posts_28 : decode cX5_posts 28 = .ok (.iload_n 1, 1) := dk_27 (dk_at dksX5_posts_1 4 rfl rfl)
theorem dX5_posts_29 : decode cX5_posts 29 = .ok (.if_icmp .ne 19, 3) := dk_160 0 19 (dk_at dksX5_posts_1 5 rfl rfl)
theorem dX5_posts_32 : decode cX5_posts 32 = .ok (.iload_n 2, 1) := dk_28 (dk_at dksX5_posts_1 8 rfl rfl)
theorem dX5_posts_33 : decode cX5_posts 33 = .ok (.ifCond .eq 12, 3) := dk_153 0 12 (dk_at dksX5_posts_1 9 rfl rfl)
theorem dX5_posts_36 : decode cX5_posts 36 = .ok (.aload_n 0, 1) := dk_42 (dk_at dksX5_posts_1 12 rfl rfl)
theorem dX5_posts_37 : decode cX5_posts 37 = .ok (.iload 4, 2) := dk_21 4 (dk_at dksX5_posts_1 13 rfl rfl)
theorem dX5_posts_39 : decode cX5_posts 39 = .ok (.invokevirtual 134, 3) := dk_182 0 134 (dk_at dksX5_posts_1 15 rfl rfl)
theorem dX5_posts_42 : decode cX5_posts 42 = .ok (.ifCond .eq 6, 3) := dk_153 0 6 (dk_at dksX5_posts_1 18 rfl rfl)
theorem dX5_posts_45 : decode cX5_posts 45 = .ok (.iinc 3 1, 3) := dk_132 3 1 (dk_at dksX5_posts_1 21 rfl rfl)
theorem dX5_posts_48 : decode cX5_posts 48 = .ok (.iinc 4 1, 3) := dk_132 4 1 (dk_at dksX5_posts_2 0 rfl rfl)
theorem dX5_posts_51 : decode cX5_posts 51 = .ok (.goto (-46), 3) := dk_167 255 210 (dk_at dksX5_posts_2 3 rfl rfl)
theorem dX5_posts_54 : decode cX5_posts 54 = .ok (.iload_n 3, 1) := dk_29 (dk_at dksX5_posts_2 6 rfl rfl)
theorem dX5_posts_55 : decode cX5_posts 55 = .ok (.ireturn, 1) := dk_172 (dk_at dksX5_posts_2 7 rfl rfl)
abbrev cX5_states : ByteArray := prog_13_method_70_code
def yX5_states : MethodName := ⟨RX5, "states", "(II)I"⟩
def dkwX5_states_2 : List UInt8 := [28, 182, 1, 54, 42, 42, 27, 5, 182, 0, 130, 4, 182, 0, 236, 172]
abbrev dktX5_states_2 : List UInt8 := dkwX5_states_2 ++ []
def dkwX5_states_1 : List UInt8 := [167, 0, 4, 3, 3, 182, 1, 2, 153, 0, 5, 3, 172, 42, 42, 180, 0, 9, 182, 1, 146, 42, 27, 7]
abbrev dktX5_states_1 : List UInt8 := dkwX5_states_1 ++ dktX5_states_2
def dkwX5_states_0 : List UInt8 := [42, 27, 182, 1, 161, 62, 42, 29, 29, 154, 0, 17, 42, 27, 7, 182, 0, 130, 28, 160, 0, 7, 4]
abbrev dktX5_states_0 : List UInt8 := dkwX5_states_0 ++ dktX5_states_1
theorem dksX5_states_0 : cX5_states.data.toList.drop 0 = dktX5_states_0 := by decide +kernel
theorem dksX5_states_1 : cX5_states.data.toList.drop 23 = dktX5_states_1 := dk_seg dksX5_states_0 23 rfl rfl
theorem dksX5_states_2 : cX5_states.data.toList.drop 47 = dktX5_states_2 := dk_seg dksX5_states_1 24 rfl rfl
theorem dX5_states_0 : decode cX5_states 0 = .ok (.aload_n 0, 1) := dk_42 (dk_at dksX5_states_0 0 rfl rfl)
theorem dX5_states_1 : decode cX5_states 1 = .ok (.iload_n 1, 1) := dk_27 (dk_at dksX5_states_0 1 rfl rfl)
theorem dX5_states_2 : decode cX5_states 2 = .ok (.invokevirtual 417, 3) := dk_182 1 161 (dk_at dksX5_states_0 2 rfl rfl)
theorem dX5_states_5 : decode cX5_states 5 = .ok (.istore_n 3, 1) := dk_62 (dk_at dksX5_states_0 5 rfl rfl)
theorem dX5_states_6 : decode cX5_states 6 = .ok (.aload_n 0, 1) := dk_42 (dk_at dksX5_states_0 6 rfl rfl)
theorem dX5_states_7 : decode cX5_states 7 = .ok (.iload_n 3, 1) := dk_29 (dk_at dksX5_states_0 7 rfl rfl)
theorem dX5_states_8 : decode cX5_states 8 = .ok (.iload_n 3, 1) := dk_29 (dk_at dksX5_states_0 8 rfl rfl)
theorem dX5_states_9 : decode cX5_states 9 = .ok (.ifCond .ne 17, 3) := dk_154 0 17 (dk_at dksX5_states_0 9 rfl rfl)
theorem dX5_states_12 : decode cX5_states 12 = .ok (.aload_n 0, 1) := dk_42 (dk_at dksX5_states_0 12 rfl rfl)
theorem dX5_states_13 : decode cX5_states 13 = .ok (.iload_n 1, 1) := dk_27 (dk_at dksX5_states_0 13 rfl rfl)
theorem dX5_states_14 : decode cX5_states 14 = .ok (.iconst 4, 1) := dk_7 (dk_at dksX5_states_0 14 rfl rfl)
theorem dX5_states_15 : decode cX5_states 15 = .ok (.invokevirtual 130, 3) := dk_182 0 130 (dk_at dksX5_states_0 15 rfl rfl)
theorem dX5_states_18 : decode cX5_states 18 = .ok (.iload_n 2, 1) := dk_28 (dk_at dksX5_states_0 18 rfl rfl)
theorem dX5_states_19 : decode cX5_states 19 = .ok (.if_icmp .ne 7, 3) := dk_160 0 7 (dk_at dksX5_states_0 19 rfl rfl)
theorem dX5_states_22 : decode cX5_states 22 = .ok (.iconst 1, 1) := dk_4 (dk_at dksX5_states_0 22 rfl rfl)
theorem dX5_states_23 : decode cX5_states 23 = .ok (.goto 4, 3) := dk_167 0 4 (dk_at dksX5_states_1 0 rfl rfl)
theorem dX5_states_26 : decode cX5_states 26 = .ok (.iconst 0, 1) := dk_3 (dk_at dksX5_states_1 3 rfl rfl)
theorem dX5_states_27 : decode cX5_states 27 = .ok (.iconst 0, 1) := dk_3 (dk_at dksX5_states_1 4 rfl rfl)
theorem dX5_states_28 : decode cX5_states 28 = .ok (.invokevirtual 258, 3) := dk_182 1 2 (dk_at dksX5_states_1 5 rfl rfl)
theorem dX5_states_31 : decode cX5_states 31 = .ok (.ifCond .eq 5, 3) := dk_153 0 5 (dk_at dksX5_states_1 8 rfl rfl)
theorem dX5_states_34 : decode cX5_states 34 = .ok (.iconst 0, 1) := dk_3 (dk_at dksX5_states_1 11 rfl rfl)
theorem dX5_states_35 : decode cX5_states 35 = .ok (.ireturn, 1) := dk_172 (dk_at dksX5_states_1 12 rfl rfl)
theorem dX5_states_36 : decode cX5_states 36 = .ok (.aload_n 0, 1) := dk_42 (dk_at dksX5_states_1 13 rfl rfl)
theorem dX5_states_37 : decode cX5_states 37 = .ok (.aload_n 0, 1) := dk_42 (dk_at dksX5_states_1 14 rfl rfl)
theorem dX5_states_38 : decode cX5_states 38 = .ok (.getfield 9, 3) := dk_180 0 9 (dk_at dksX5_states_1 15 rfl rfl)
theorem dX5_states_41 : decode cX5_states 41 = .ok (.invokevirtual 402, 3) := dk_182 1 146 (dk_at dksX5_states_1 18 rfl rfl)
theorem dX5_states_44 : decode cX5_states 44 = .ok (.aload_n 0, 1) := dk_42 (dk_at dksX5_states_1 21 rfl rfl)
theorem dX5_states_45 : decode cX5_states 45 = .ok (.iload_n 1, 1) := dk_27 (dk_at dksX5_states_1 22 rfl rfl)
theorem dX5_states_46 : decode cX5_states 46 = .ok (.iconst 4, 1) := dk_7 (dk_at dksX5_states_1 23 rfl rfl)
theorem dX5_states_47 : decode cX5_states 47 = .ok (.iload_n 2, 1) := dk_28 (dk_at dksX5_states_2 0 rfl rfl)
theorem dX5_states_48 : decode cX5_states 48 = .ok (.invokevirtual 310, 3) := dk_182 1 54 (dk_at dksX5_states_2 1 rfl rfl)
theorem dX5_states_51 : decode cX5_states 51 = .ok (.aload_n 0, 1) := dk_42 (dk_at dksX5_states_2 4 rfl rfl)
theorem dX5_states_52 : decode cX5_states 52 = .ok (.aload_n 0, 1) := dk_42 (dk_at dksX5_states_2 5 rfl rfl)
theorem dX5_states_53 : decode cX5_states 53 = .ok (.iload_n 1, 1) := dk_27 (dk_at dksX5_states_2 6 rfl rfl)
theorem dX5_states_54 : decode cX5_states 54 = .ok (.iconst 2, 1) := dk_5 (dk_at dksX5_states_2 7 rfl rfl)
theorem dX5_states_55 : decode cX5_states 55 = .ok (.invokevirtual 130, 3) := dk_182 0 130 (dk_at dksX5_states_2 8 rfl rfl)
theorem dX5_states_58 : decode cX5_states 58 = .ok (.iconst 1, 1) := dk_4 (dk_at dksX5_states_2 11 rfl rfl)
theorem dX5_states_59 : decode cX5_states 59 = .ok (.invokevirtual 236, 3) := dk_182 0 236 (dk_at dksX5_states_2 12 rfl rfl)
theorem dX5_states_62 : decode cX5_states 62 = .ok (.ireturn, 1) := dk_172 (dk_at dksX5_states_2 15 rfl rfl)
abbrev cX5_lose : ByteArray := prog_13_method_71_code
def yX5_lose : MethodName := ⟨RX5, "lose", "(I)I"⟩
def dkwX5_lose_0 : List UInt8 := [42, 27, 4, 182, 1, 164, 172]
abbrev dktX5_lose_0 : List UInt8 := dkwX5_lose_0 ++ []
theorem dksX5_lose_0 : cX5_lose.data.toList.drop 0 = dktX5_lose_0 := by decide +kernel
theorem dX5_lose_0 : decode cX5_lose 0 = .ok (.aload_n 0, 1) := dk_42 (dk_at dksX5_lose_0 0 rfl rfl)
theorem dX5_lose_1 : decode cX5_lose 1 = .ok (.iload_n 1, 1) := dk_27 (dk_at dksX5_lose_0 1 rfl rfl)
theorem dX5_lose_2 : decode cX5_lose 2 = .ok (.iconst 1, 1) := dk_4 (dk_at dksX5_lose_0 2 rfl rfl)
theorem dX5_lose_3 : decode cX5_lose 3 = .ok (.invokevirtual 420, 3) := dk_182 1 164 (dk_at dksX5_lose_0 3 rfl rfl)
theorem dX5_lose_6 : decode cX5_lose 6 = .ok (.ireturn, 1) := dk_172 (dk_at dksX5_lose_0 6 rfl rfl)
abbrev cX5_mend : ByteArray := prog_13_method_72_code
def yX5_mend : MethodName := ⟨RX5, "mend", "(I)I"⟩
def dkwX5_mend_0 : List UInt8 := [42, 27, 3, 182, 1, 164, 172]
abbrev dktX5_mend_0 : List UInt8 := dkwX5_mend_0 ++ []
theorem dksX5_mend_0 : cX5_mend.data.toList.drop 0 = dktX5_mend_0 := by decide +kernel
theorem dX5_mend_0 : decode cX5_mend 0 = .ok (.aload_n 0, 1) := dk_42 (dk_at dksX5_mend_0 0 rfl rfl)
theorem dX5_mend_1 : decode cX5_mend 1 = .ok (.iload_n 1, 1) := dk_27 (dk_at dksX5_mend_0 1 rfl rfl)
theorem dX5_mend_2 : decode cX5_mend 2 = .ok (.iconst 0, 1) := dk_3 (dk_at dksX5_mend_0 2 rfl rfl)
theorem dX5_mend_3 : decode cX5_mend 3 = .ok (.invokevirtual 420, 3) := dk_182 1 164 (dk_at dksX5_mend_0 3 rfl rfl)
theorem dX5_mend_6 : decode cX5_mend 6 = .ok (.ireturn, 1) := dk_172 (dk_at dksX5_mend_0 6 rfl rfl)
abbrev cX5_setBlock : ByteArray := prog_13_method_73_code
def yX5_setBlock : MethodName := ⟨RX5, "setBlock", "(IIZ)I"⟩
def dkwX5_setBlock_4 : List UInt8 := [172]
abbrev dktX5_setBlock_4 : List UInt8 := dkwX5_setBlock_4 ++ []
def dkwX5_setBlock_3 : List UInt8 := [182, 1, 146, 42, 27, 28, 29, 153, 0, 7, 4, 167, 0, 4, 3, 182, 1, 117, 42, 180, 0, 9, 8, 46]
abbrev dktX5_setBlock_3 : List UInt8 := dkwX5_setBlock_3 ++ dktX5_setBlock_4
def dkwX5_setBlock_2 : List UInt8 := [154, 0, 7, 4, 167, 0, 4, 3, 3, 182, 1, 2, 153, 0, 5, 3, 172, 42, 42, 180, 0, 9]
abbrev dktX5_setBlock_2 : List UInt8 := dkwX5_setBlock_2 ++ dktX5_setBlock_3
def dkwX5_setBlock_1 : List UInt8 := [29, 153, 0, 15, 42, 27, 28, 182, 1, 114, 158, 0, 19, 167, 0, 12, 42, 27, 28, 182, 0, 127]
abbrev dktX5_setBlock_1 : List UInt8 := dkwX5_setBlock_1 ++ dktX5_setBlock_2
def dkwX5_setBlock_0 : List UInt8 := [42, 27, 28, 182, 0, 123, 154, 0, 7, 4, 167, 0, 4, 3, 54, 4, 42, 21, 4, 21, 4, 154, 0, 32]
abbrev dktX5_setBlock_0 : List UInt8 := dkwX5_setBlock_0 ++ dktX5_setBlock_1
theorem dksX5_setBlock_0 : cX5_setBlock.data.toList.drop 0 = dktX5_setBlock_0 := by decide +kernel
theorem dksX5_setBlock_1 : cX5_setBlock.data.toList.drop 24 = dktX5_setBlock_1 := dk_seg dksX5_setBlock_0 24 rfl rfl
theorem dksX5_setBlock_2 : cX5_setBlock.data.toList.drop 46 = dktX5_setBlock_2 := dk_seg dksX5_setBlock_1 22 rfl rfl
theorem dksX5_setBlock_3 : cX5_setBlock.data.toList.drop 68 = dktX5_setBlock_3 := dk_seg dksX5_setBlock_2 22 rfl rfl
theorem dksX5_setBlock_4 : cX5_setBlock.data.toList.drop 92 = dktX5_setBlock_4 := dk_seg dksX5_setBlock_3 24 rfl rfl
theorem dX5_setBlock_0 : decode cX5_setBlock 0 = .ok (.aload_n 0, 1) := dk_42 (dk_at dksX5_setBlock_0 0 rfl rfl)
theorem dX5_setBlock_1 : decode cX5_setBlock 1 = .ok (.iload_n 1, 1) := dk_27 (dk_at dksX5_setBlock_0 1 rfl rfl)
theorem dX5_setBlock_2 : decode cX5_setBlock 2 = .ok (.iload_n 2, 1) := dk_28 (dk_at dksX5_setBlock_0 2 rfl rfl)
theorem dX5_setBlock_3 : decode cX5_setBlock 3 = .ok (.invokevirtual 123, 3) := dk_182 0 123 (dk_at dksX5_setBlock_0 3 rfl rfl)
theorem dX5_setBlock_6 : decode cX5_setBlock 6 = .ok (.ifCond .ne 7, 3) := dk_154 0 7 (dk_at dksX5_setBlock_0 6 rfl rfl)
theorem dX5_setBlock_9 : decode cX5_setBlock 9 = .ok (.iconst 1, 1) := dk_4 (dk_at dksX5_setBlock_0 9 rfl rfl)
theorem dX5_setBlock_10 : decode cX5_setBlock 10 = .ok (.goto 4, 3) := dk_167 0 4 (dk_at dksX5_setBlock_0 10 rfl rfl)
theorem dX5_setBlock_13 : decode cX5_setBlock 13 = .ok (.iconst 0, 1) := dk_3 (dk_at dksX5_setBlock_0 13 rfl rfl)
theorem dX5_setBlock_14 : decode cX5_setBlock 14 = .ok (.istore 4, 2) := dk_54 4 (dk_at dksX5_setBlock_0 14 rfl rfl)
theorem dX5_setBlock_16 : decode cX5_setBlock 16 = .ok (.aload_n 0, 1) := dk_42 (dk_at dksX5_setBlock_0 16 rfl rfl)
theorem dX5_setBlock_17 : decode cX5_setBlock 17 = .ok (.iload 4, 2) := dk_21 4 (dk_at dksX5_setBlock_0 17 rfl rfl)
theorem dX5_setBlock_19 : decode cX5_setBlock 19 = .ok (.iload 4, 2) := dk_21 4 (dk_at dksX5_setBlock_0 19 rfl rfl)
theorem dX5_setBlock_21 : decode cX5_setBlock 21 = .ok (.ifCond .ne 32, 3) := dk_154 0 32 (dk_at dksX5_setBlock_0 21 rfl rfl)
theorem dX5_setBlock_24 : decode cX5_setBlock 24 = .ok (.iload_n 3, 1) := dk_29 (dk_at dksX5_setBlock_1 0 rfl rfl)
theorem dX5_setBlock_25 : decode cX5_setBlock 25 = .ok (.ifCond .eq 15, 3) := dk_153 0 15 (dk_at dksX5_setBlock_1 1 rfl rfl)
theorem dX5_setBlock_28 : decode cX5_setBlock 28 = .ok (.aload_n 0, 1) := dk_42 (dk_at dksX5_setBlock_1 4 rfl rfl)
theorem dX5_setBlock_29 : decode cX5_setBlock 29 = .ok (.iload_n 1, 1) := dk_27 (dk_at dksX5_setBlock_1 5 rfl rfl)
theorem dX5_setBlock_30 : decode cX5_setBlock 30 = .ok (.iload_n 2, 1) := dk_28 (dk_at dksX5_setBlock_1 6 rfl rfl)
theorem dX5_setBlock_31 : decode cX5_setBlock 31 = .ok (.invokevirtual 370, 3) := dk_182 1 114 (dk_at dksX5_setBlock_1 7 rfl rfl)
theorem dX5_setBlock_34 : decode cX5_setBlock 34 = .ok (.ifCond .le 19, 3) := dk_158 0 19 (dk_at dksX5_setBlock_1 10 rfl rfl)
theorem dX5_setBlock_37 : decode cX5_setBlock 37 = .ok (.goto 12, 3) := dk_167 0 12 (dk_at dksX5_setBlock_1 13 rfl rfl)
theorem dX5_setBlock_40 : decode cX5_setBlock 40 = .ok (.aload_n 0, 1) := dk_42 (dk_at dksX5_setBlock_1 16 rfl rfl)
theorem dX5_setBlock_41 : decode cX5_setBlock 41 = .ok (.iload_n 1, 1) := dk_27 (dk_at dksX5_setBlock_1 17 rfl rfl)
theorem dX5_setBlock_42 : decode cX5_setBlock 42 = .ok (.iload_n 2, 1) := dk_28 (dk_at dksX5_setBlock_1 18 rfl rfl)
theorem dX5_setBlock_43 : decode cX5_setBlock 43 = .ok (.invokevirtual 127, 3) := dk_182 0 127 (dk_at dksX5_setBlock_1 19 rfl rfl)
theorem dX5_setBlock_46 : decode cX5_setBlock 46 = .ok (.ifCond .ne 7, 3) := dk_154 0 7 (dk_at dksX5_setBlock_2 0 rfl rfl)
theorem dX5_setBlock_49 : decode cX5_setBlock 49 = .ok (.iconst 1, 1) := dk_4 (dk_at dksX5_setBlock_2 3 rfl rfl)
theorem dX5_setBlock_50 : decode cX5_setBlock 50 = .ok (.goto 4, 3) := dk_167 0 4 (dk_at dksX5_setBlock_2 4 rfl rfl)
theorem dX5_setBlock_53 : decode cX5_setBlock 53 = .ok (.iconst 0, 1) := dk_3 (dk_at dksX5_setBlock_2 7 rfl rfl)
theorem dX5_setBlock_54 : decode cX5_setBlock 54 = .ok (.iconst 0, 1) := dk_3 (dk_at dksX5_setBlock_2 8 rfl rfl)
theorem dX5_setBlock_55 : decode cX5_setBlock 55 = .ok (.invokevirtual 258, 3) := dk_182 1 2 (dk_at dksX5_setBlock_2 9 rfl rfl)
theorem dX5_setBlock_58 : decode cX5_setBlock 58 = .ok (.ifCond .eq 5, 3) := dk_153 0 5 (dk_at dksX5_setBlock_2 12 rfl rfl)
theorem dX5_setBlock_61 : decode cX5_setBlock 61 = .ok (.iconst 0, 1) := dk_3 (dk_at dksX5_setBlock_2 15 rfl rfl)
theorem dX5_setBlock_62 : decode cX5_setBlock 62 = .ok (.ireturn, 1) := dk_172 (dk_at dksX5_setBlock_2 16 rfl rfl)
theorem dX5_setBlock_63 : decode cX5_setBlock 63 = .ok (.aload_n 0, 1) := dk_42 (dk_at dksX5_setBlock_2 17 rfl rfl)
theorem dX5_setBlock_64 : decode cX5_setBlock 64 = .ok (.aload_n 0, 1) := dk_42 (dk_at dksX5_setBlock_2 18 rfl rfl)
theorem dX5_setBlock_65 : decode cX5_setBlock 65 = .ok (.getfield 9, 3) := dk_180 0 9 (dk_at dksX5_setBlock_2 19 rfl rfl)
theorem dX5_setBlock_68 : decode cX5_setBlock 68 = .ok (.invokevirtual 402, 3) := dk_182 1 146 (dk_at dksX5_setBlock_3 0 rfl rfl)
theorem dX5_setBlock_71 : decode cX5_setBlock 71 = .ok (.aload_n 0, 1) := dk_42 (dk_at dksX5_setBlock_3 3 rfl rfl)
theorem dX5_setBlock_72 : decode cX5_setBlock 72 = .ok (.iload_n 1, 1) := dk_27 (dk_at dksX5_setBlock_3 4 rfl rfl)
theorem dX5_setBlock_73 : decode cX5_setBlock 73 = .ok (.iload_n 2, 1) := dk_28 (dk_at dksX5_setBlock_3 5 rfl rfl)
theorem dX5_setBlock_74 : decode cX5_setBlock 74 = .ok (.iload_n 3, 1) := dk_29 (dk_at dksX5_setBlock_3 6 rfl rfl)
theorem dX5_setBlock_75 : decode cX5_setBlock 75 = .ok (.ifCond .eq 7, 3) := dk_153 0 7 (dk_at dksX5_setBlock_3 7 rfl rfl)
theorem dX5_setBlock_78 : decode cX5_setBlock 78 = .ok (.iconst 1, 1) := dk_4 (dk_at dksX5_setBlock_3 10 rfl rfl)
theorem dX5_setBlock_79 : decode cX5_setBlock 79 = .ok (.goto 4, 3) := dk_167 0 4 (dk_at dksX5_setBlock_3 11 rfl rfl)
theorem dX5_setBlock_82 : decode cX5_setBlock 82 = .ok (.iconst 0, 1) := dk_3 (dk_at dksX5_setBlock_3 14 rfl rfl)
theorem dX5_setBlock_83 : decode cX5_setBlock 83 = .ok (.invokevirtual 373, 3) := dk_182 1 117 (dk_at dksX5_setBlock_3 15 rfl rfl)
theorem dX5_setBlock_86 : decode cX5_setBlock 86 = .ok (.aload_n 0, 1) := dk_42 (dk_at dksX5_setBlock_3 18 rfl rfl)
theorem dX5_setBlock_87 : decode cX5_setBlock 87 = .ok (.getfield 9, 3) := dk_180 0 9 (dk_at dksX5_setBlock_3 19 rfl rfl)
theorem dX5_setBlock_90 : decode cX5_setBlock 90 = .ok (.iconst 5, 1) := dk_8 (dk_at dksX5_setBlock_3 22 rfl rfl)
theorem dX5_setBlock_91 : decode cX5_setBlock 91 = .ok (.iaload, 1) := dk_46 (dk_at dksX5_setBlock_3 23 rfl rfl)
theorem dX5_setBlock_92 : decode cX5_setBlock 92 = .ok (.ireturn, 1) := dk_172 (dk_at dksX5_setBlock_4 0 rfl rfl)
abbrev cX5_noSetting : ByteArray := prog_13_method_74_code
def yX5_noSetting : MethodName := ⟨RX5, "noSetting", "(II)Z"⟩
def dkwX5_noSetting_1 : List UInt8 := [167, 0, 16, 27, 3, 5, 184, 0, 119, 154, 0, 7, 4, 167, 0, 4, 3, 172]
abbrev dktX5_noSetting_1 : List UInt8 := dkwX5_noSetting_1 ++ []
def dkwX5_noSetting_0 : List UInt8 := [26, 3, 4, 184, 0, 119, 153, 0, 29, 26, 154, 0, 16, 27, 4, 16, 12, 184, 0, 119, 153, 0, 15]
abbrev dktX5_noSetting_0 : List UInt8 := dkwX5_noSetting_0 ++ dktX5_noSetting_1
theorem dksX5_noSetting_0 : cX5_noSetting.data.toList.drop 0 = dktX5_noSetting_0 := by decide +kernel
theorem dksX5_noSetting_1 : cX5_noSetting.data.toList.drop 23 = dktX5_noSetting_1 := dk_seg dksX5_noSetting_0 23 rfl rfl
theorem dX5_noSetting_0 : decode cX5_noSetting 0 = .ok (.iload_n 0, 1) := dk_26 (dk_at dksX5_noSetting_0 0 rfl rfl)
theorem dX5_noSetting_1 : decode cX5_noSetting 1 = .ok (.iconst 0, 1) := dk_3 (dk_at dksX5_noSetting_0 1 rfl rfl)
theorem dX5_noSetting_2 : decode cX5_noSetting 2 = .ok (.iconst 1, 1) := dk_4 (dk_at dksX5_noSetting_0 2 rfl rfl)
theorem dX5_noSetting_3 : decode cX5_noSetting 3 = .ok (.invokestatic 119, 3) := dk_184 0 119 (dk_at dksX5_noSetting_0 3 rfl rfl)
theorem dX5_noSetting_6 : decode cX5_noSetting 6 = .ok (.ifCond .eq 29, 3) := dk_153 0 29 (dk_at dksX5_noSetting_0 6 rfl rfl)
theorem dX5_noSetting_9 : decode cX5_noSetting 9 = .ok (.iload_n 0, 1) := dk_26 (dk_at dksX5_noSetting_0 9 rfl rfl)
theorem dX5_noSetting_10 : decode cX5_noSetting 10 = .ok (.ifCond .ne 16, 3) := dk_154 0 16 (dk_at dksX5_noSetting_0 10 rfl rfl)
theorem dX5_noSetting_13 : decode cX5_noSetting 13 = .ok (.iload_n 1, 1) := dk_27 (dk_at dksX5_noSetting_0 13 rfl rfl)
theorem dX5_noSetting_14 : decode cX5_noSetting 14 = .ok (.iconst 1, 1) := dk_4 (dk_at dksX5_noSetting_0 14 rfl rfl)
theorem dX5_noSetting_15 : decode cX5_noSetting 15 = .ok (.bipush 12, 2) := dk_16 12 (dk_at dksX5_noSetting_0 15 rfl rfl)
theorem dX5_noSetting_17 : decode cX5_noSetting 17 = .ok (.invokestatic 119, 3) := dk_184 0 119 (dk_at dksX5_noSetting_0 17 rfl rfl)
theorem dX5_noSetting_20 : decode cX5_noSetting 20 = .ok (.ifCond .eq 15, 3) := dk_153 0 15 (dk_at dksX5_noSetting_0 20 rfl rfl)
theorem dX5_noSetting_23 : decode cX5_noSetting 23 = .ok (.goto 16, 3) := dk_167 0 16 (dk_at dksX5_noSetting_1 0 rfl rfl)
theorem dX5_noSetting_26 : decode cX5_noSetting 26 = .ok (.iload_n 1, 1) := dk_27 (dk_at dksX5_noSetting_1 3 rfl rfl)
theorem dX5_noSetting_27 : decode cX5_noSetting 27 = .ok (.iconst 0, 1) := dk_3 (dk_at dksX5_noSetting_1 4 rfl rfl)
theorem dX5_noSetting_28 : decode cX5_noSetting 28 = .ok (.iconst 2, 1) := dk_5 (dk_at dksX5_noSetting_1 5 rfl rfl)
theorem dX5_noSetting_29 : decode cX5_noSetting 29 = .ok (.invokestatic 119, 3) := dk_184 0 119 (dk_at dksX5_noSetting_1 6 rfl rfl)
theorem dX5_noSetting_32 : decode cX5_noSetting 32 = .ok (.ifCond .ne 7, 3) := dk_154 0 7 (dk_at dksX5_noSetting_1 9 rfl rfl)
theorem dX5_noSetting_35 : decode cX5_noSetting 35 = .ok (.iconst 1, 1) := dk_4 (dk_at dksX5_noSetting_1 12 rfl rfl)
theorem dX5_noSetting_36 : decode cX5_noSetting 36 = .ok (.goto 4, 3) := dk_167 0 4 (dk_at dksX5_noSetting_1 13 rfl rfl)
theorem dX5_noSetting_39 : decode cX5_noSetting 39 = .ok (.iconst 0, 1) := dk_3 (dk_at dksX5_noSetting_1 16 rfl rfl)
theorem dX5_noSetting_40 : decode cX5_noSetting 40 = .ok (.ireturn, 1) := dk_172 (dk_at dksX5_noSetting_1 17 rfl rfl)
abbrev cX5_set : ByteArray := prog_13_method_75_code
def yX5_set : MethodName := ⟨RX5, "set", "(II)I"⟩
def dkwX5_set_1 : List UInt8 := [42, 180, 0, 9, 5, 27, 96, 46, 62, 42, 180, 0, 9, 5, 27, 96, 28, 79, 29, 172]
abbrev dktX5_set_1 : List UInt8 := dkwX5_set_1 ++ []
def dkwX5_set_0 : List UInt8 := [42, 27, 28, 184, 1, 167, 3, 3, 182, 1, 2, 153, 0, 5, 3, 172, 42, 42, 180, 0, 9, 182, 1, 146]
abbrev dktX5_set_0 : List UInt8 := dkwX5_set_0 ++ dktX5_set_1
theorem dksX5_set_0 : cX5_set.data.toList.drop 0 = dktX5_set_0 := by decide +kernel
theorem dksX5_set_1 : cX5_set.data.toList.drop 24 = dktX5_set_1 := dk_seg dksX5_set_0 24 rfl rfl
theorem dX5_set_0 : decode cX5_set 0 = .ok (.aload_n 0, 1) := dk_42 (dk_at dksX5_set_0 0 rfl rfl)
theorem dX5_set_1 : decode cX5_set 1 = .ok (.iload_n 1, 1) := dk_27 (dk_at dksX5_set_0 1 rfl rfl)
theorem dX5_set_2 : decode cX5_set 2 = .ok (.iload_n 2, 1) := dk_28 (dk_at dksX5_set_0 2 rfl rfl)
theorem dX5_set_3 : decode cX5_set 3 = .ok (.invokestatic 423, 3) := dk_184 1 167 (dk_at dksX5_set_0 3 rfl rfl)
theorem dX5_set_6 : decode cX5_set 6 = .ok (.iconst 0, 1) := dk_3 (dk_at dksX5_set_0 6 rfl rfl)
theorem dX5_set_7 : decode cX5_set 7 = .ok (.iconst 0, 1) := dk_3 (dk_at dksX5_set_0 7 rfl rfl)
theorem dX5_set_8 : decode cX5_set 8 = .ok (.invokevirtual 258, 3) := dk_182 1 2 (dk_at dksX5_set_0 8 rfl rfl)
theorem dX5_set_11 : decode cX5_set 11 = .ok (.ifCond .eq 5, 3) := dk_153 0 5 (dk_at dksX5_set_0 11 rfl rfl)
theorem dX5_set_14 : decode cX5_set 14 = .ok (.iconst 0, 1) := dk_3 (dk_at dksX5_set_0 14 rfl rfl)
theorem dX5_set_15 : decode cX5_set 15 = .ok (.ireturn, 1) := dk_172 (dk_at dksX5_set_0 15 rfl rfl)
theorem dX5_set_16 : decode cX5_set 16 = .ok (.aload_n 0, 1) := dk_42 (dk_at dksX5_set_0 16 rfl rfl)
theorem dX5_set_17 : decode cX5_set 17 = .ok (.aload_n 0, 1) := dk_42 (dk_at dksX5_set_0 17 rfl rfl)
theorem dX5_set_18 : decode cX5_set 18 = .ok (.getfield 9, 3) := dk_180 0 9 (dk_at dksX5_set_0 18 rfl rfl)
theorem dX5_set_21 : decode cX5_set 21 = .ok (.invokevirtual 402, 3) := dk_182 1 146 (dk_at dksX5_set_0 21 rfl rfl)
theorem dX5_set_24 : decode cX5_set 24 = .ok (.aload_n 0, 1) := dk_42 (dk_at dksX5_set_1 0 rfl rfl)
theorem dX5_set_25 : decode cX5_set 25 = .ok (.getfield 9, 3) := dk_180 0 9 (dk_at dksX5_set_1 1 rfl rfl)
theorem dX5_set_28 : decode cX5_set 28 = .ok (.iconst 2, 1) := dk_5 (dk_at dksX5_set_1 4 rfl rfl)
theorem dX5_set_29 : decode cX5_set 29 = .ok (.iload_n 1, 1) := dk_27 (dk_at dksX5_set_1 5 rfl rfl)
theorem dX5_set_30 : decode cX5_set 30 = .ok (.iadd, 1) := dk_96 (dk_at dksX5_set_1 6 rfl rfl)
theorem dX5_set_31 : decode cX5_set 31 = .ok (.iaload, 1) := dk_46 (dk_at dksX5_set_1 7 rfl rfl)
theorem dX5_set_32 : decode cX5_set 32 = .ok (.istore_n 3, 1) := dk_62 (dk_at dksX5_set_1 8 rfl rfl)
theorem dX5_set_33 : decode cX5_set 33 = .ok (.aload_n 0, 1) := dk_42 (dk_at dksX5_set_1 9 rfl rfl)
theorem dX5_set_34 : decode cX5_set 34 = .ok (.getfield 9, 3) := dk_180 0 9 (dk_at dksX5_set_1 10 rfl rfl)
theorem dX5_set_37 : decode cX5_set 37 = .ok (.iconst 2, 1) := dk_5 (dk_at dksX5_set_1 13 rfl rfl)
theorem dX5_set_38 : decode cX5_set 38 = .ok (.iload_n 1, 1) := dk_27 (dk_at dksX5_set_1 14 rfl rfl)
theorem dX5_set_39 : decode cX5_set 39 = .ok (.iadd, 1) := dk_96 (dk_at dksX5_set_1 15 rfl rfl)
theorem dX5_set_40 : decode cX5_set 40 = .ok (.iload_n 2, 1) := dk_28 (dk_at dksX5_set_1 16 rfl rfl)
theorem dX5_set_41 : decode cX5_set 41 = .ok (.iastore, 1) := dk_79 (dk_at dksX5_set_1 17 rfl rfl)
theorem dX5_set_42 : decode cX5_set 42 = .ok (.iload_n 3, 1) := dk_29 (dk_at dksX5_set_1 18 rfl rfl)
theorem dX5_set_43 : decode cX5_set 43 = .ok (.ireturn, 1) := dk_172 (dk_at dksX5_set_1 19 rfl rfl)
abbrev cX5_undo : ByteArray := prog_13_method_76_code
def yX5_undo : MethodName := ⟨RX5, "undo", "()I"⟩
def dkwX5_undo_2 : List UInt8 := [180, 0, 9, 3, 184, 0, 115, 42, 180, 0, 103, 172]
abbrev dktX5_undo_2 : List UInt8 := dkwX5_undo_2 ++ []
def dkwX5_undo_1 : List UInt8 := [89, 180, 0, 103, 4, 100, 181, 0, 103, 42, 180, 0, 16, 42, 180, 0, 103, 17, 2, 14, 104, 42]
abbrev dktX5_undo_1 : List UInt8 := dkwX5_undo_1 ++ dktX5_undo_2
def dkwX5_undo_0 : List UInt8 := [42, 42, 180, 0, 103, 154, 0, 7, 4, 167, 0, 4, 3, 3, 3, 182, 1, 2, 153, 0, 5, 3, 172, 42]
abbrev dktX5_undo_0 : List UInt8 := dkwX5_undo_0 ++ dktX5_undo_1
theorem dksX5_undo_0 : cX5_undo.data.toList.drop 0 = dktX5_undo_0 := by decide +kernel
theorem dksX5_undo_1 : cX5_undo.data.toList.drop 24 = dktX5_undo_1 := dk_seg dksX5_undo_0 24 rfl rfl
theorem dksX5_undo_2 : cX5_undo.data.toList.drop 46 = dktX5_undo_2 := dk_seg dksX5_undo_1 22 rfl rfl
theorem dX5_undo_0 : decode cX5_undo 0 = .ok (.aload_n 0, 1) := dk_42 (dk_at dksX5_undo_0 0 rfl rfl)
theorem dX5_undo_1 : decode cX5_undo 1 = .ok (.aload_n 0, 1) := dk_42 (dk_at dksX5_undo_0 1 rfl rfl)
theorem dX5_undo_2 : decode cX5_undo 2 = .ok (.getfield 103, 3) := dk_180 0 103 (dk_at dksX5_undo_0 2 rfl rfl)
theorem dX5_undo_5 : decode cX5_undo 5 = .ok (.ifCond .ne 7, 3) := dk_154 0 7 (dk_at dksX5_undo_0 5 rfl rfl)
theorem dX5_undo_8 : decode cX5_undo 8 = .ok (.iconst 1, 1) := dk_4 (dk_at dksX5_undo_0 8 rfl rfl)
theorem dX5_undo_9 : decode cX5_undo 9 = .ok (.goto 4, 3) := dk_167 0 4 (dk_at dksX5_undo_0 9 rfl rfl)
theorem dX5_undo_12 : decode cX5_undo 12 = .ok (.iconst 0, 1) := dk_3 (dk_at dksX5_undo_0 12 rfl rfl)
theorem dX5_undo_13 : decode cX5_undo 13 = .ok (.iconst 0, 1) := dk_3 (dk_at dksX5_undo_0 13 rfl rfl)
theorem dX5_undo_14 : decode cX5_undo 14 = .ok (.iconst 0, 1) := dk_3 (dk_at dksX5_undo_0 14 rfl rfl)
theorem dX5_undo_15 : decode cX5_undo 15 = .ok (.invokevirtual 258, 3) := dk_182 1 2 (dk_at dksX5_undo_0 15 rfl rfl)
theorem dX5_undo_18 : decode cX5_undo 18 = .ok (.ifCond .eq 5, 3) := dk_153 0 5 (dk_at dksX5_undo_0 18 rfl rfl)
theorem dX5_undo_21 : decode cX5_undo 21 = .ok (.iconst 0, 1) := dk_3 (dk_at dksX5_undo_0 21 rfl rfl)
theorem dX5_undo_22 : decode cX5_undo 22 = .ok (.ireturn, 1) := dk_172 (dk_at dksX5_undo_0 22 rfl rfl)
theorem dX5_undo_23 : decode cX5_undo 23 = .ok (.aload_n 0, 1) := dk_42 (dk_at dksX5_undo_0 23 rfl rfl)
theorem dX5_undo_24 : decode cX5_undo 24 = .ok (.dup, 1) := dk_89 (dk_at dksX5_undo_1 0 rfl rfl)
theorem dX5_undo_25 : decode cX5_undo 25 = .ok (.getfield 103, 3) := dk_180 0 103 (dk_at dksX5_undo_1 1 rfl rfl)
theorem dX5_undo_28 : decode cX5_undo 28 = .ok (.iconst 1, 1) := dk_4 (dk_at dksX5_undo_1 4 rfl rfl)
theorem dX5_undo_29 : decode cX5_undo 29 = .ok (.isub, 1) := dk_100 (dk_at dksX5_undo_1 5 rfl rfl)
theorem dX5_undo_30 : decode cX5_undo 30 = .ok (.putfield 103, 3) := dk_181 0 103 (dk_at dksX5_undo_1 6 rfl rfl)
theorem dX5_undo_33 : decode cX5_undo 33 = .ok (.aload_n 0, 1) := dk_42 (dk_at dksX5_undo_1 9 rfl rfl)
theorem dX5_undo_34 : decode cX5_undo 34 = .ok (.getfield 16, 3) := dk_180 0 16 (dk_at dksX5_undo_1 10 rfl rfl)
theorem dX5_undo_37 : decode cX5_undo 37 = .ok (.aload_n 0, 1) := dk_42 (dk_at dksX5_undo_1 13 rfl rfl)
theorem dX5_undo_38 : decode cX5_undo 38 = .ok (.getfield 103, 3) := dk_180 0 103 (dk_at dksX5_undo_1 14 rfl rfl)
theorem dX5_undo_41 : decode cX5_undo 41 = .ok (.sipush 526, 3) := dk_17 2 14 (dk_at dksX5_undo_1 17 rfl rfl)
theorem dX5_undo_44 : decode cX5_undo 44 = .ok (.imul, 1) := dk_104 (dk_at dksX5_undo_1 20 rfl rfl)
theorem dX5_undo_45 : decode cX5_undo 45 = .ok (.aload_n 0, 1) := dk_42 (dk_at dksX5_undo_1 21 rfl rfl)
theorem dX5_undo_46 : decode cX5_undo 46 = .ok (.getfield 9, 3) := dk_180 0 9 (dk_at dksX5_undo_2 0 rfl rfl)
theorem dX5_undo_49 : decode cX5_undo 49 = .ok (.iconst 0, 1) := dk_3 (dk_at dksX5_undo_2 3 rfl rfl)
theorem dX5_undo_50 : decode cX5_undo 50 = .ok (.invokestatic 115, 3) := dk_184 0 115 (dk_at dksX5_undo_2 4 rfl rfl)
theorem dX5_undo_53 : decode cX5_undo 53 = .ok (.aload_n 0, 1) := dk_42 (dk_at dksX5_undo_2 7 rfl rfl)
theorem dX5_undo_54 : decode cX5_undo 54 = .ok (.getfield 103, 3) := dk_180 0 103 (dk_at dksX5_undo_2 8 rfl rfl)
theorem dX5_undo_57 : decode cX5_undo 57 = .ok (.ireturn, 1) := dk_172 (dk_at dksX5_undo_2 11 rfl rfl)
abbrev cX5_save : ByteArray := prog_13_method_77_code
def yX5_save : MethodName := ⟨RX5, "save", "(I)I"⟩
def dkwX5_save_2 : List UInt8 := [84, 42, 180, 0, 9, 7, 46, 172]
abbrev dktX5_save_2 : List UInt8 := dkwX5_save_2 ++ []
def dkwX5_save_1 : List UInt8 := [172, 42, 180, 0, 9, 3, 42, 180, 0, 19, 27, 17, 2, 14, 104, 184, 0, 115, 42, 180, 0, 25, 27, 4]
abbrev dktX5_save_1 : List UInt8 := dkwX5_save_1 ++ dktX5_save_2
def dkwX5_save_0 : List UInt8 := [42, 27, 3, 4, 184, 0, 119, 154, 0, 7, 4, 167, 0, 4, 3, 3, 3, 182, 1, 2, 153, 0, 5, 3]
abbrev dktX5_save_0 : List UInt8 := dkwX5_save_0 ++ dktX5_save_1
theorem dksX5_save_0 : cX5_save.data.toList.drop 0 = dktX5_save_0 := by decide +kernel
theorem dksX5_save_1 : cX5_save.data.toList.drop 24 = dktX5_save_1 := dk_seg dksX5_save_0 24 rfl rfl
theorem dksX5_save_2 : cX5_save.data.toList.drop 48 = dktX5_save_2 := dk_seg dksX5_save_1 24 rfl rfl
theorem dX5_save_0 : decode cX5_save 0 = .ok (.aload_n 0, 1) := dk_42 (dk_at dksX5_save_0 0 rfl rfl)
theorem dX5_save_1 : decode cX5_save 1 = .ok (.iload_n 1, 1) := dk_27 (dk_at dksX5_save_0 1 rfl rfl)
theorem dX5_save_2 : decode cX5_save 2 = .ok (.iconst 0, 1) := dk_3 (dk_at dksX5_save_0 2 rfl rfl)
theorem dX5_save_3 : decode cX5_save 3 = .ok (.iconst 1, 1) := dk_4 (dk_at dksX5_save_0 3 rfl rfl)
theorem dX5_save_4 : decode cX5_save 4 = .ok (.invokestatic 119, 3) := dk_184 0 119 (dk_at dksX5_save_0 4 rfl rfl)
theorem dX5_save_7 : decode cX5_save 7 = .ok (.ifCond .ne 7, 3) := dk_154 0 7 (dk_at dksX5_save_0 7 rfl rfl)
theorem dX5_save_10 : decode cX5_save 10 = .ok (.iconst 1, 1) := dk_4 (dk_at dksX5_save_0 10 rfl rfl)
theorem dX5_save_11 : decode cX5_save 11 = .ok (.goto 4, 3) := dk_167 0 4 (dk_at dksX5_save_0 11 rfl rfl)
theorem dX5_save_14 : decode cX5_save 14 = .ok (.iconst 0, 1) := dk_3 (dk_at dksX5_save_0 14 rfl rfl)
theorem dX5_save_15 : decode cX5_save 15 = .ok (.iconst 0, 1) := dk_3 (dk_at dksX5_save_0 15 rfl rfl)
theorem dX5_save_16 : decode cX5_save 16 = .ok (.iconst 0, 1) := dk_3 (dk_at dksX5_save_0 16 rfl rfl)
theorem dX5_save_17 : decode cX5_save 17 = .ok (.invokevirtual 258, 3) := dk_182 1 2 (dk_at dksX5_save_0 17 rfl rfl)
theorem dX5_save_20 : decode cX5_save 20 = .ok (.ifCond .eq 5, 3) := dk_153 0 5 (dk_at dksX5_save_0 20 rfl rfl)
theorem dX5_save_23 : decode cX5_save 23 = .ok (.iconst 0, 1) := dk_3 (dk_at dksX5_save_0 23 rfl rfl)
theorem dX5_save_24 : decode cX5_save 24 = .ok (.ireturn, 1) := dk_172 (dk_at dksX5_save_1 0 rfl rfl)
theorem dX5_save_25 : decode cX5_save 25 = .ok (.aload_n 0, 1) := dk_42 (dk_at dksX5_save_1 1 rfl rfl)
theorem dX5_save_26 : decode cX5_save 26 = .ok (.getfield 9, 3) := dk_180 0 9 (dk_at dksX5_save_1 2 rfl rfl)
theorem dX5_save_29 : decode cX5_save 29 = .ok (.iconst 0, 1) := dk_3 (dk_at dksX5_save_1 5 rfl rfl)
theorem dX5_save_30 : decode cX5_save 30 = .ok (.aload_n 0, 1) := dk_42 (dk_at dksX5_save_1 6 rfl rfl)
theorem dX5_save_31 : decode cX5_save 31 = .ok (.getfield 19, 3) := dk_180 0 19 (dk_at dksX5_save_1 7 rfl rfl)
theorem dX5_save_34 : decode cX5_save 34 = .ok (.iload_n 1, 1) := dk_27 (dk_at dksX5_save_1 10 rfl rfl)
theorem dX5_save_35 : decode cX5_save 35 = .ok (.sipush 526, 3) := dk_17 2 14 (dk_at dksX5_save_1 11 rfl rfl)
theorem dX5_save_38 : decode cX5_save 38 = .ok (.imul, 1) := dk_104 (dk_at dksX5_save_1 14 rfl rfl)
theorem dX5_save_39 : decode cX5_save 39 = .ok (.invokestatic 115, 3) := dk_184 0 115 (dk_at dksX5_save_1 15 rfl rfl)
theorem dX5_save_42 : decode cX5_save 42 = .ok (.aload_n 0, 1) := dk_42 (dk_at dksX5_save_1 18 rfl rfl)
theorem dX5_save_43 : decode cX5_save 43 = .ok (.getfield 25, 3) := dk_180 0 25 (dk_at dksX5_save_1 19 rfl rfl)
theorem dX5_save_46 : decode cX5_save 46 = .ok (.iload_n 1, 1) := dk_27 (dk_at dksX5_save_1 22 rfl rfl)
theorem dX5_save_47 : decode cX5_save 47 = .ok (.iconst 1, 1) := dk_4 (dk_at dksX5_save_1 23 rfl rfl)
theorem dX5_save_48 : decode cX5_save 48 = .ok (.bastore, 1) := dk_84 (dk_at dksX5_save_2 0 rfl rfl)
theorem dX5_save_49 : decode cX5_save 49 = .ok (.aload_n 0, 1) := dk_42 (dk_at dksX5_save_2 1 rfl rfl)
theorem dX5_save_50 : decode cX5_save 50 = .ok (.getfield 9, 3) := dk_180 0 9 (dk_at dksX5_save_2 2 rfl rfl)
theorem dX5_save_53 : decode cX5_save 53 = .ok (.iconst 4, 1) := dk_7 (dk_at dksX5_save_2 5 rfl rfl)
theorem dX5_save_54 : decode cX5_save 54 = .ok (.iaload, 1) := dk_46 (dk_at dksX5_save_2 6 rfl rfl)
theorem dX5_save_55 : decode cX5_save 55 = .ok (.ireturn, 1) := dk_172 (dk_at dksX5_save_2 7 rfl rfl)
abbrev cX5_restore : ByteArray := prog_13_method_78_code
def yX5_restore : MethodName := ⟨RX5, "restore", "(I)I"⟩
def dkwX5_restore_3 : List UInt8 := [180, 0, 9, 7, 46, 172]
abbrev dktX5_restore_3 : List UInt8 := dkwX5_restore_3 ++ []
def dkwX5_restore_2 : List UInt8 := [180, 0, 9, 182, 1, 146, 42, 180, 0, 19, 27, 17, 2, 14, 104, 42, 180, 0, 9, 3, 184, 0, 115, 42]
abbrev dktX5_restore_2 : List UInt8 := dkwX5_restore_2 ++ dktX5_restore_3
def dkwX5_restore_1 : List UInt8 := [180, 0, 25, 27, 51, 154, 0, 7, 4, 167, 0, 4, 3, 3, 182, 1, 2, 153, 0, 5, 3, 172, 42, 42]
abbrev dktX5_restore_1 : List UInt8 := dkwX5_restore_1 ++ dktX5_restore_2
def dkwX5_restore_0 : List UInt8 := [27, 3, 4, 184, 0, 119, 154, 0, 7, 4, 167, 0, 4, 3, 61, 42, 28, 28, 154, 0, 16, 42]
abbrev dktX5_restore_0 : List UInt8 := dkwX5_restore_0 ++ dktX5_restore_1
theorem dksX5_restore_0 : cX5_restore.data.toList.drop 0 = dktX5_restore_0 := by decide +kernel
theorem dksX5_restore_1 : cX5_restore.data.toList.drop 22 = dktX5_restore_1 := dk_seg dksX5_restore_0 22 rfl rfl
theorem dksX5_restore_2 : cX5_restore.data.toList.drop 46 = dktX5_restore_2 := dk_seg dksX5_restore_1 24 rfl rfl
theorem dksX5_restore_3 : cX5_restore.data.toList.drop 70 = dktX5_restore_3 := dk_seg dksX5_restore_2 24 rfl rfl
theorem dX5_restore_0 : decode cX5_restore 0 = .ok (.iload_n 1, 1) := dk_27 (dk_at dksX5_restore_0 0 rfl rfl)
theorem dX5_restore_1 : decode cX5_restore 1 = .ok (.iconst 0, 1) := dk_3 (dk_at dksX5_restore_0 1 rfl rfl)
theorem dX5_restore_2 : decode cX5_restore 2 = .ok (.iconst 1, 1) := dk_4 (dk_at dksX5_restore_0 2 rfl rfl)
theorem dX5_restore_3 : decode cX5_restore 3 = .ok (.invokestatic 119, 3) := dk_184 0 119 (dk_at dksX5_restore_0 3 rfl rfl)
theorem dX5_restore_6 : decode cX5_restore 6 = .ok (.ifCond .ne 7, 3) := dk_154 0 7 (dk_at dksX5_restore_0 6 rfl rfl)
theorem dX5_restore_9 : decode cX5_restore 9 = .ok (.iconst 1, 1) := dk_4 (dk_at dksX5_restore_0 9 rfl rfl)
theorem dX5_restore_10 : decode cX5_restore 10 = .ok (.goto 4, 3) := dk_167 0 4 (dk_at dksX5_restore_0 10 rfl rfl)
theorem dX5_restore_13 : decode cX5_restore 13 = .ok (.iconst 0, 1) := dk_3 (dk_at dksX5_restore_0 13 rfl rfl)
theorem dX5_restore_14 : decode cX5_restore 14 = .ok (.istore_n 2, 1) := dk_61 (dk_at dksX5_restore_0 14 rfl rfl)
theorem dX5_restore_15 : decode cX5_restore 15 = .ok (.aload_n 0, 1) := dk_42 (dk_at dksX5_restore_0 15 rfl rfl)
theorem dX5_restore_16 : decode cX5_restore 16 = .ok (.iload_n 2, 1) := dk_28 (dk_at dksX5_restore_0 16 rfl rfl)
theorem dX5_restore_17 : decode cX5_restore 17 = .ok (.iload_n 2, 1) := dk_28 (dk_at dksX5_restore_0 17 rfl rfl)
theorem dX5_restore_18 : decode cX5_restore 18 = .ok (.ifCond .ne 16, 3) := dk_154 0 16 (dk_at dksX5_restore_0 18 rfl rfl)
theorem dX5_restore_21 : decode cX5_restore 21 = .ok (.aload_n 0, 1) := dk_42 (dk_at dksX5_restore_0 21 rfl rfl)
theorem dX5_restore_22 : decode cX5_restore 22 = .ok (.getfield 25, 3) := dk_180 0 25 (dk_at dksX5_restore_1 0 rfl rfl)
theorem dX5_restore_25 : decode cX5_restore 25 = .ok (.iload_n 1, 1) := dk_27 (dk_at dksX5_restore_1 3 rfl rfl)
theorem dX5_restore_26 : decode cX5_restore 26 = .ok (.baload, 1) := dk_51 (dk_at dksX5_restore_1 4 rfl rfl)
theorem dX5_restore_27 : decode cX5_restore 27 = .ok (.ifCond .ne 7, 3) := dk_154 0 7 (dk_at dksX5_restore_1 5 rfl rfl)
theorem dX5_restore_30 : decode cX5_restore 30 = .ok (.iconst 1, 1) := dk_4 (dk_at dksX5_restore_1 8 rfl rfl)
theorem dX5_restore_31 : decode cX5_restore 31 = .ok (.goto 4, 3) := dk_167 0 4 (dk_at dksX5_restore_1 9 rfl rfl)
theorem dX5_restore_34 : decode cX5_restore 34 = .ok (.iconst 0, 1) := dk_3 (dk_at dksX5_restore_1 12 rfl rfl)
theorem dX5_restore_35 : decode cX5_restore 35 = .ok (.iconst 0, 1) := dk_3 (dk_at dksX5_restore_1 13 rfl rfl)
theorem dX5_restore_36 : decode cX5_restore 36 = .ok (.invokevirtual 258, 3) := dk_182 1 2 (dk_at dksX5_restore_1 14 rfl rfl)
theorem dX5_restore_39 : decode cX5_restore 39 = .ok (.ifCond .eq 5, 3) := dk_153 0 5 (dk_at dksX5_restore_1 17 rfl rfl)
theorem dX5_restore_42 : decode cX5_restore 42 = .ok (.iconst 0, 1) := dk_3 (dk_at dksX5_restore_1 20 rfl rfl)
theorem dX5_restore_43 : decode cX5_restore 43 = .ok (.ireturn, 1) := dk_172 (dk_at dksX5_restore_1 21 rfl rfl)
theorem dX5_restore_44 : decode cX5_restore 44 = .ok (.aload_n 0, 1) := dk_42 (dk_at dksX5_restore_1 22 rfl rfl)
theorem dX5_restore_45 : decode cX5_restore 45 = .ok (.aload_n 0, 1) := dk_42 (dk_at dksX5_restore_1 23 rfl rfl)
theorem dX5_restore_46 : decode cX5_restore 46 = .ok (.getfield 9, 3) := dk_180 0 9 (dk_at dksX5_restore_2 0 rfl rfl)
theorem dX5_restore_49 : decode cX5_restore 49 = .ok (.invokevirtual 402, 3) := dk_182 1 146 (dk_at dksX5_restore_2 3 rfl rfl)
theorem dX5_restore_52 : decode cX5_restore 52 = .ok (.aload_n 0, 1) := dk_42 (dk_at dksX5_restore_2 6 rfl rfl)
theorem dX5_restore_53 : decode cX5_restore 53 = .ok (.getfield 19, 3) := dk_180 0 19 (dk_at dksX5_restore_2 7 rfl rfl)
theorem dX5_restore_56 : decode cX5_restore 56 = .ok (.iload_n 1, 1) := dk_27 (dk_at dksX5_restore_2 10 rfl rfl)
theorem dX5_restore_57 : decode cX5_restore 57 = .ok (.sipush 526, 3) := dk_17 2 14 (dk_at dksX5_restore_2 11 rfl rfl)
theorem dX5_restore_60 : decode cX5_restore 60 = .ok (.imul, 1) := dk_104 (dk_at dksX5_restore_2 14 rfl rfl)
theorem dX5_restore_61 : decode cX5_restore 61 = .ok (.aload_n 0, 1) := dk_42 (dk_at dksX5_restore_2 15 rfl rfl)
theorem dX5_restore_62 : decode cX5_restore 62 = .ok (.getfield 9, 3) := dk_180 0 9 (dk_at dksX5_restore_2 16 rfl rfl)
theorem dX5_restore_65 : decode cX5_restore 65 = .ok (.iconst 0, 1) := dk_3 (dk_at dksX5_restore_2 19 rfl rfl)
theorem dX5_restore_66 : decode cX5_restore 66 = .ok (.invokestatic 115, 3) := dk_184 0 115 (dk_at dksX5_restore_2 20 rfl rfl)
theorem dX5_restore_69 : decode cX5_restore 69 = .ok (.aload_n 0, 1) := dk_42 (dk_at dksX5_restore_2 23 rfl rfl)
theorem dX5_restore_70 : decode cX5_restore 70 = .ok (.getfield 9, 3) := dk_180 0 9 (dk_at dksX5_restore_3 0 rfl rfl)
theorem dX5_restore_73 : decode cX5_restore 73 = .ok (.iconst 4, 1) := dk_7 (dk_at dksX5_restore_3 3 rfl rfl)
theorem dX5_restore_74 : decode cX5_restore 74 = .ok (.iaload, 1) := dk_46 (dk_at dksX5_restore_3 4 rfl rfl)
theorem dX5_restore_75 : decode cX5_restore 75 = .ok (.ireturn, 1) := dk_172 (dk_at dksX5_restore_3 5 rfl rfl)
abbrev cX5_begin : ByteArray := prog_13_method_20_code
def yX5_begin : MethodName := ⟨RX5, "begin", "(I)I"⟩
def dkwX5_begin_1 : List UInt8 := [182, 0, 134, 153, 0, 5, 28, 172, 132, 2, 1, 167, 255, 223, 2, 172]
abbrev dktX5_begin_1 : List UInt8 := dkwX5_begin_1 ++ []
def dkwX5_begin_0 : List UInt8 := [3, 61, 28, 42, 180, 0, 9, 7, 46, 162, 0, 29, 42, 28, 5, 182, 0, 130, 27, 160, 0, 13, 42, 28]
abbrev dktX5_begin_0 : List UInt8 := dkwX5_begin_0 ++ dktX5_begin_1
theorem dksX5_begin_0 : cX5_begin.data.toList.drop 0 = dktX5_begin_0 := by decide +kernel
theorem dksX5_begin_1 : cX5_begin.data.toList.drop 24 = dktX5_begin_1 := dk_seg dksX5_begin_0 24 rfl rfl
theorem dX5_begin_0 : decode cX5_begin 0 = .ok (.iconst 0, 1) := dk_3 (dk_at dksX5_begin_0 0 rfl rfl)
theorem dX5_begin_1 : decode cX5_begin 1 = .ok (.istore_n 2, 1) := dk_61 (dk_at dksX5_begin_0 1 rfl rfl)
theorem dX5_begin_2 : decode cX5_begin 2 = .ok (.iload_n 2, 1) := dk_28 (dk_at dksX5_begin_0 2 rfl rfl)
theorem dX5_begin_3 : decode cX5_begin 3 = .ok (.aload_n 0, 1) := dk_42 (dk_at dksX5_begin_0 3 rfl rfl)
theorem dX5_begin_4 : decode cX5_begin 4 = .ok (.getfield 9, 3) := dk_180 0 9 (dk_at dksX5_begin_0 4 rfl rfl)
theorem dX5_begin_7 : decode cX5_begin 7 = .ok (.iconst 4, 1) := dk_7 (dk_at dksX5_begin_0 7 rfl rfl)
theorem dX5_begin_8 : decode cX5_begin 8 = .ok (.iaload, 1) := dk_46 (dk_at dksX5_begin_0 8 rfl rfl)
theorem dX5_begin_9 : decode cX5_begin 9 = .ok (.if_icmp .ge 29, 3) := dk_162 0 29 (dk_at dksX5_begin_0 9 rfl rfl)
theorem dX5_begin_12 : decode cX5_begin 12 = .ok (.aload_n 0, 1) := dk_42 (dk_at dksX5_begin_0 12 rfl rfl)
theorem dX5_begin_13 : decode cX5_begin 13 = .ok (.iload_n 2, 1) := dk_28 (dk_at dksX5_begin_0 13 rfl rfl)
theorem dX5_begin_14 : decode cX5_begin 14 = .ok (.iconst 2, 1) := dk_5 (dk_at dksX5_begin_0 14 rfl rfl)
theorem dX5_begin_15 : decode cX5_begin 15 = .ok (.invokevirtual 130, 3) := dk_182 0 130 (dk_at dksX5_begin_0 15 rfl rfl)
theorem dX5_begin_18 : decode cX5_begin 18 = .ok (.iload_n 1, 1) := dk_27 (dk_at dksX5_begin_0 18 rfl rfl)
theorem dX5_begin_19 : decode cX5_begin 19 = .ok (.if_icmp .ne 13, 3) := dk_160 0 13 (dk_at dksX5_begin_0 19 rfl rfl)
theorem dX5_begin_22 : decode cX5_begin 22 = .ok (.aload_n 0, 1) := dk_42 (dk_at dksX5_begin_0 22 rfl rfl)
theorem dX5_begin_23 : decode cX5_begin 23 = .ok (.iload_n 2, 1) := dk_28 (dk_at dksX5_begin_0 23 rfl rfl)
theorem dX5_begin_24 : decode cX5_begin 24 = .ok (.invokevirtual 134, 3) := dk_182 0 134 (dk_at dksX5_begin_1 0 rfl rfl)
theorem dX5_begin_27 : decode cX5_begin 27 = .ok (.ifCond .eq 5, 3) := dk_153 0 5 (dk_at dksX5_begin_1 3 rfl rfl)
theorem dX5_begin_30 : decode cX5_begin 30 = .ok (.iload_n 2, 1) := dk_28 (dk_at dksX5_begin_1 6 rfl rfl)
theorem dX5_begin_31 : decode cX5_begin 31 = .ok (.ireturn, 1) := dk_172 (dk_at dksX5_begin_1 7 rfl rfl)
theorem dX5_begin_32 : decode cX5_begin 32 = .ok (.iinc 2 1, 3) := dk_132 2 1 (dk_at dksX5_begin_1 8 rfl rfl)
theorem dX5_begin_35 : decode cX5_begin 35 = .ok (.goto (-33), 3) := dk_167 255 223 (dk_at dksX5_begin_1 11 rfl rfl)
theorem dX5_begin_38 : decode cX5_begin 38 = .ok (.iconst (-1), 1) := dk_2 (dk_at dksX5_begin_1 14 rfl rfl)
theorem dX5_begin_39 : decode cX5_begin 39 = .ok (.ireturn, 1) := dk_172 (dk_at dksX5_begin_1 15 rfl rfl)
abbrev cX5_begins : ByteArray := prog_13_method_28_code
def yX5_begins : MethodName := ⟨RX5, "begins", "(I)V"⟩
def dkwX5_begins_4 : List UInt8 := [96, 79, 42, 4, 181, 0, 199, 177]
abbrev dktX5_begins_4 : List UInt8 := dkwX5_begins_4 ++ []
def dkwX5_begins_3 : List UInt8 := [154, 0, 4, 177, 42, 180, 0, 45, 3, 16, 100, 42, 27, 3, 182, 0, 130, 104, 42, 27, 4, 182, 0, 130]
abbrev dktX5_begins_3 : List UInt8 := dkwX5_begins_3 ++ dktX5_begins_4
def dkwX5_begins_2 : List UInt8 := [180, 0, 60, 28, 3, 84, 132, 2, 1, 167, 255, 240, 27, 2, 159, 0, 11, 42, 27, 182, 0, 134]
abbrev dktX5_begins_2 : List UInt8 := dkwX5_begins_2 ++ dktX5_begins_3
def dkwX5_begins_1 : List UInt8 := [181, 0, 211, 42, 4, 181, 0, 214, 42, 2, 181, 0, 217, 3, 61, 28, 16, 24, 162, 0, 16, 42]
abbrev dktX5_begins_1 : List UInt8 := dkwX5_begins_1 ++ dktX5_begins_2
def dkwX5_begins_0 : List UInt8 := [42, 3, 181, 0, 208, 42, 3, 181, 0, 199, 42, 3, 181, 0, 202, 42, 3, 181, 0, 205, 42, 3]
abbrev dktX5_begins_0 : List UInt8 := dkwX5_begins_0 ++ dktX5_begins_1
theorem dksX5_begins_0 : cX5_begins.data.toList.drop 0 = dktX5_begins_0 := by decide +kernel
theorem dksX5_begins_1 : cX5_begins.data.toList.drop 22 = dktX5_begins_1 := dk_seg dksX5_begins_0 22 rfl rfl
theorem dksX5_begins_2 : cX5_begins.data.toList.drop 44 = dktX5_begins_2 := dk_seg dksX5_begins_1 22 rfl rfl
theorem dksX5_begins_3 : cX5_begins.data.toList.drop 66 = dktX5_begins_3 := dk_seg dksX5_begins_2 22 rfl rfl
theorem dksX5_begins_4 : cX5_begins.data.toList.drop 90 = dktX5_begins_4 := dk_seg dksX5_begins_3 24 rfl rfl
theorem dX5_begins_0 : decode cX5_begins 0 = .ok (.aload_n 0, 1) := dk_42 (dk_at dksX5_begins_0 0 rfl rfl)
theorem dX5_begins_1 : decode cX5_begins 1 = .ok (.iconst 0, 1) := dk_3 (dk_at dksX5_begins_0 1 rfl rfl)
theorem dX5_begins_2 : decode cX5_begins 2 = .ok (.putfield 208, 3) := dk_181 0 208 (dk_at dksX5_begins_0 2 rfl rfl)
theorem dX5_begins_5 : decode cX5_begins 5 = .ok (.aload_n 0, 1) := dk_42 (dk_at dksX5_begins_0 5 rfl rfl)
theorem dX5_begins_6 : decode cX5_begins 6 = .ok (.iconst 0, 1) := dk_3 (dk_at dksX5_begins_0 6 rfl rfl)
theorem dX5_begins_7 : decode cX5_begins 7 = .ok (.putfield 199, 3) := dk_181 0 199 (dk_at dksX5_begins_0 7 rfl rfl)
theorem dX5_begins_10 : decode cX5_begins 10 = .ok (.aload_n 0, 1) := dk_42 (dk_at dksX5_begins_0 10 rfl rfl)
theorem dX5_begins_11 : decode cX5_begins 11 = .ok (.iconst 0, 1) := dk_3 (dk_at dksX5_begins_0 11 rfl rfl)
theorem dX5_begins_12 : decode cX5_begins 12 = .ok (.putfield 202, 3) := dk_181 0 202 (dk_at dksX5_begins_0 12 rfl rfl)
theorem dX5_begins_15 : decode cX5_begins 15 = .ok (.aload_n 0, 1) := dk_42 (dk_at dksX5_begins_0 15 rfl rfl)
theorem dX5_begins_16 : decode cX5_begins 16 = .ok (.iconst 0, 1) := dk_3 (dk_at dksX5_begins_0 16 rfl rfl)
theorem dX5_begins_17 : decode cX5_begins 17 = .ok (.putfield 205, 3) := dk_181 0 205 (dk_at dksX5_begins_0 17 rfl rfl)
theorem dX5_begins_20 : decode cX5_begins 20 = .ok (.aload_n 0, 1) := dk_42 (dk_at dksX5_begins_0 20 rfl rfl)
theorem dX5_begins_21 : decode cX5_begins 21 = .ok (.iconst 0, 1) := dk_3 (dk_at dksX5_begins_0 21 rfl rfl)
theorem dX5_begins_22 : decode cX5_begins 22 = .ok (.putfield 211, 3) := dk_181 0 211 (dk_at dksX5_begins_1 0 rfl rfl)
theorem dX5_begins_25 : decode cX5_begins 25 = .ok (.aload_n 0, 1) := dk_42 (dk_at dksX5_begins_1 3 rfl rfl)
theorem dX5_begins_26 : decode cX5_begins 26 = .ok (.iconst 1, 1) := dk_4 (dk_at dksX5_begins_1 4 rfl rfl)
theorem dX5_begins_27 : decode cX5_begins 27 = .ok (.putfield 214, 3) := dk_181 0 214 (dk_at dksX5_begins_1 5 rfl rfl)
theorem dX5_begins_30 : decode cX5_begins 30 = .ok (.aload_n 0, 1) := dk_42 (dk_at dksX5_begins_1 8 rfl rfl)
theorem dX5_begins_31 : decode cX5_begins 31 = .ok (.iconst (-1), 1) := dk_2 (dk_at dksX5_begins_1 9 rfl rfl)
theorem dX5_begins_32 : decode cX5_begins 32 = .ok (.putfield 217, 3) := dk_181 0 217 (dk_at dksX5_begins_1 10 rfl rfl)
theorem dX5_begins_35 : decode cX5_begins 35 = .ok (.iconst 0, 1) := dk_3 (dk_at dksX5_begins_1 13 rfl rfl)
theorem dX5_begins_36 : decode cX5_begins 36 = .ok (.istore_n 2, 1) := dk_61 (dk_at dksX5_begins_1 14 rfl rfl)
theorem dX5_begins_37 : decode cX5_begins 37 = .ok (.iload_n 2, 1) := dk_28 (dk_at dksX5_begins_1 15 rfl rfl)
theorem dX5_begins_38 : decode cX5_begins 38 = .ok (.bipush 24, 2) := dk_16 24 (dk_at dksX5_begins_1 16 rfl rfl)
theorem dX5_begins_40 : decode cX5_begins 40 = .ok (.if_icmp .ge 16, 3) := dk_162 0 16 (dk_at dksX5_begins_1 18 rfl rfl)
theorem dX5_begins_43 : decode cX5_begins 43 = .ok (.aload_n 0, 1) := dk_42 (dk_at dksX5_begins_1 21 rfl rfl)
theorem dX5_begins_44 : decode cX5_begins 44 = .ok (.getfield 60, 3) := dk_180 0 60 (dk_at dksX5_begins_2 0 rfl rfl)
theorem dX5_begins_47 : decode cX5_begins 47 = .ok (.iload_n 2, 1) := dk_28 (dk_at dksX5_begins_2 3 rfl rfl)
theorem dX5_begins_48 : decode cX5_begins 48 = .ok (.iconst 0, 1) := dk_3 (dk_at dksX5_begins_2 4 rfl rfl)
theorem dX5_begins_49 : decode cX5_begins 49 = .ok (.bastore, 1) := dk_84 (dk_at dksX5_begins_2 5 rfl rfl)
theorem dX5_begins_50 : decode cX5_begins 50 = .ok (.iinc 2 1, 3) := dk_132 2 1 (dk_at dksX5_begins_2 6 rfl rfl)
theorem dX5_begins_53 : decode cX5_begins 53 = .ok (.goto (-16), 3) := dk_167 255 240 (dk_at dksX5_begins_2 9 rfl rfl)
theorem dX5_begins_56 : decode cX5_begins 56 = .ok (.iload_n 1, 1) := dk_27 (dk_at dksX5_begins_2 12 rfl rfl)
theorem dX5_begins_57 : decode cX5_begins 57 = .ok (.iconst (-1), 1) := dk_2 (dk_at dksX5_begins_2 13 rfl rfl)
theorem dX5_begins_58 : decode cX5_begins 58 = .ok (.if_icmp .eq 11, 3) := dk_159 0 11 (dk_at dksX5_begins_2 14 rfl rfl)
theorem dX5_begins_61 : decode cX5_begins 61 = .ok (.aload_n 0, 1) := dk_42 (dk_at dksX5_begins_2 17 rfl rfl)
theorem dX5_begins_62 : decode cX5_begins 62 = .ok (.iload_n 1, 1) := dk_27 (dk_at dksX5_begins_2 18 rfl rfl)
theorem dX5_begins_63 : decode cX5_begins 63 = .ok (.invokevirtual 134, 3) := dk_182 0 134 (dk_at dksX5_begins_2 19 rfl rfl)
theorem dX5_begins_66 : decode cX5_begins 66 = .ok (.ifCond .ne 4, 3) := dk_154 0 4 (dk_at dksX5_begins_3 0 rfl rfl)
theorem dX5_begins_69 : decode cX5_begins 69 = .ok (.return_, 1) := dk_177 (dk_at dksX5_begins_3 3 rfl rfl)
theorem dX5_begins_70 : decode cX5_begins 70 = .ok (.aload_n 0, 1) := dk_42 (dk_at dksX5_begins_3 4 rfl rfl)
theorem dX5_begins_71 : decode cX5_begins 71 = .ok (.getfield 45, 3) := dk_180 0 45 (dk_at dksX5_begins_3 5 rfl rfl)
theorem dX5_begins_74 : decode cX5_begins 74 = .ok (.iconst 0, 1) := dk_3 (dk_at dksX5_begins_3 8 rfl rfl)
theorem dX5_begins_75 : decode cX5_begins 75 = .ok (.bipush 100, 2) := dk_16 100 (dk_at dksX5_begins_3 9 rfl rfl)
theorem dX5_begins_77 : decode cX5_begins 77 = .ok (.aload_n 0, 1) := dk_42 (dk_at dksX5_begins_3 11 rfl rfl)
theorem dX5_begins_78 : decode cX5_begins 78 = .ok (.iload_n 1, 1) := dk_27 (dk_at dksX5_begins_3 12 rfl rfl)
theorem dX5_begins_79 : decode cX5_begins 79 = .ok (.iconst 0, 1) := dk_3 (dk_at dksX5_begins_3 13 rfl rfl)
theorem dX5_begins_80 : decode cX5_begins 80 = .ok (.invokevirtual 130, 3) := dk_182 0 130 (dk_at dksX5_begins_3 14 rfl rfl)
theorem dX5_begins_83 : decode cX5_begins 83 = .ok (.imul, 1) := dk_104 (dk_at dksX5_begins_3 17 rfl rfl)
theorem dX5_begins_84 : decode cX5_begins 84 = .ok (.aload_n 0, 1) := dk_42 (dk_at dksX5_begins_3 18 rfl rfl)
theorem dX5_begins_85 : decode cX5_begins 85 = .ok (.iload_n 1, 1) := dk_27 (dk_at dksX5_begins_3 19 rfl rfl)
theorem dX5_begins_86 : decode cX5_begins 86 = .ok (.iconst 1, 1) := dk_4 (dk_at dksX5_begins_3 20 rfl rfl)
theorem dX5_begins_87 : decode cX5_begins 87 = .ok (.invokevirtual 130, 3) := dk_182 0 130 (dk_at dksX5_begins_3 21 rfl rfl)
theorem dX5_begins_90 : decode cX5_begins 90 = .ok (.iadd, 1) := dk_96 (dk_at dksX5_begins_4 0 rfl rfl)
theorem dX5_begins_91 : decode cX5_begins 91 = .ok (.iastore, 1) := dk_79 (dk_at dksX5_begins_4 1 rfl rfl)
theorem dX5_begins_92 : decode cX5_begins 92 = .ok (.aload_n 0, 1) := dk_42 (dk_at dksX5_begins_4 2 rfl rfl)
theorem dX5_begins_93 : decode cX5_begins 93 = .ok (.iconst 1, 1) := dk_4 (dk_at dksX5_begins_4 3 rfl rfl)
theorem dX5_begins_94 : decode cX5_begins 94 = .ok (.putfield 199, 3) := dk_181 0 199 (dk_at dksX5_begins_4 4 rfl rfl)
theorem dX5_begins_97 : decode cX5_begins 97 = .ok (.return_, 1) := dk_177 (dk_at dksX5_begins_4 7 rfl rfl)
abbrev cX5_isFree : ByteArray := prog_13_method_14_code
def yX5_isFree : MethodName := ⟨RX5, "isFree", "(II)Z"⟩
def dkwX5_isFree_0 : List UInt8 := [42, 27, 28, 182, 0, 123, 153, 0, 16, 42, 27, 28, 182, 0, 127, 154, 0, 7, 4, 167, 0, 4, 3, 172]
abbrev dktX5_isFree_0 : List UInt8 := dkwX5_isFree_0 ++ []
theorem dksX5_isFree_0 : cX5_isFree.data.toList.drop 0 = dktX5_isFree_0 := by decide +kernel
theorem dX5_isFree_0 : decode cX5_isFree 0 = .ok (.aload_n 0, 1) := dk_42 (dk_at dksX5_isFree_0 0 rfl rfl)
theorem dX5_isFree_1 : decode cX5_isFree 1 = .ok (.iload_n 1, 1) := dk_27 (dk_at dksX5_isFree_0 1 rfl rfl)
theorem dX5_isFree_2 : decode cX5_isFree 2 = .ok (.iload_n 2, 1) := dk_28 (dk_at dksX5_isFree_0 2 rfl rfl)
theorem dX5_isFree_3 : decode cX5_isFree 3 = .ok (.invokevirtual 123, 3) := dk_182 0 123 (dk_at dksX5_isFree_0 3 rfl rfl)
theorem dX5_isFree_6 : decode cX5_isFree 6 = .ok (.ifCond .eq 16, 3) := dk_153 0 16 (dk_at dksX5_isFree_0 6 rfl rfl)
theorem dX5_isFree_9 : decode cX5_isFree 9 = .ok (.aload_n 0, 1) := dk_42 (dk_at dksX5_isFree_0 9 rfl rfl)
theorem dX5_isFree_10 : decode cX5_isFree 10 = .ok (.iload_n 1, 1) := dk_27 (dk_at dksX5_isFree_0 10 rfl rfl)
theorem dX5_isFree_11 : decode cX5_isFree 11 = .ok (.iload_n 2, 1) := dk_28 (dk_at dksX5_isFree_0 11 rfl rfl)
theorem dX5_isFree_12 : decode cX5_isFree 12 = .ok (.invokevirtual 127, 3) := dk_182 0 127 (dk_at dksX5_isFree_0 12 rfl rfl)
theorem dX5_isFree_15 : decode cX5_isFree 15 = .ok (.ifCond .ne 7, 3) := dk_154 0 7 (dk_at dksX5_isFree_0 15 rfl rfl)
theorem dX5_isFree_18 : decode cX5_isFree 18 = .ok (.iconst 1, 1) := dk_4 (dk_at dksX5_isFree_0 18 rfl rfl)
theorem dX5_isFree_19 : decode cX5_isFree 19 = .ok (.goto 4, 3) := dk_167 0 4 (dk_at dksX5_isFree_0 19 rfl rfl)
theorem dX5_isFree_22 : decode cX5_isFree 22 = .ok (.iconst 0, 1) := dk_3 (dk_at dksX5_isFree_0 22 rfl rfl)
theorem dX5_isFree_23 : decode cX5_isFree 23 = .ok (.ireturn, 1) := dk_172 (dk_at dksX5_isFree_0 23 rfl rfl)
abbrev cX5_leg : ByteArray := prog_13_method_21_code
def yX5_leg : MethodName := ⟨RX5, "leg", "(IIII)V"⟩
def dkwX5_leg_6 : List UInt8 := [160, 0, 17, 42, 21, 7, 181, 0, 141, 42, 42, 180, 0, 138, 181, 0, 144, 167, 255, 123, 177]
abbrev dktX5_leg_6 : List UInt8 := dkwX5_leg_6 ++ []
def dkwX5_leg_5 : List UInt8 := [21, 7, 182, 0, 134, 153, 0, 34, 42, 21, 7, 5, 182, 0, 130, 42, 21, 4, 5, 182, 0, 130]
abbrev dktX5_leg_5 : List UInt8 := dkwX5_leg_5 ++ dktX5_leg_6
def dkwX5_leg_4 : List UInt8 := [54, 7, 42, 180, 0, 141, 2, 160, 0, 56, 21, 7, 2, 159, 0, 50, 21, 7, 21, 4, 159, 0, 43, 42]
abbrev dktX5_leg_4 : List UInt8 := dkwX5_leg_4 ++ dktX5_leg_5
def dkwX5_leg_3 : List UInt8 := [184, 0, 151, 96, 54, 6, 42, 89, 180, 0, 138, 4, 96, 181, 0, 138, 42, 21, 5, 21, 6, 182, 0, 157]
abbrev dktX5_leg_3 : List UInt8 := dkwX5_leg_3 ++ dktX5_leg_4
def dkwX5_leg_2 : List UInt8 := [184, 0, 151, 96, 182, 0, 154, 153, 0, 105, 21, 5, 29, 184, 0, 147, 96, 54, 5, 21, 6, 29]
abbrev dktX5_leg_2 : List UInt8 := dkwX5_leg_2 ++ dktX5_leg_3
def dkwX5_leg_1 : List UInt8 := [180, 0, 138, 42, 180, 0, 9, 5, 46, 162, 0, 126, 42, 21, 5, 29, 184, 0, 147, 96, 21, 6, 29]
abbrev dktX5_leg_1 : List UInt8 := dkwX5_leg_1 ++ dktX5_leg_2
def dkwX5_leg_0 : List UInt8 := [42, 3, 181, 0, 138, 42, 2, 181, 0, 141, 42, 3, 181, 0, 144, 27, 54, 5, 28, 54, 6, 42]
abbrev dktX5_leg_0 : List UInt8 := dkwX5_leg_0 ++ dktX5_leg_1
theorem dksX5_leg_0 : cX5_leg.data.toList.drop 0 = dktX5_leg_0 := by decide +kernel
theorem dksX5_leg_1 : cX5_leg.data.toList.drop 22 = dktX5_leg_1 := dk_seg dksX5_leg_0 22 rfl rfl
theorem dksX5_leg_2 : cX5_leg.data.toList.drop 45 = dktX5_leg_2 := dk_seg dksX5_leg_1 23 rfl rfl
theorem dksX5_leg_3 : cX5_leg.data.toList.drop 67 = dktX5_leg_3 := dk_seg dksX5_leg_2 22 rfl rfl
theorem dksX5_leg_4 : cX5_leg.data.toList.drop 91 = dktX5_leg_4 := dk_seg dksX5_leg_3 24 rfl rfl
theorem dksX5_leg_5 : cX5_leg.data.toList.drop 115 = dktX5_leg_5 := dk_seg dksX5_leg_4 24 rfl rfl
theorem dksX5_leg_6 : cX5_leg.data.toList.drop 137 = dktX5_leg_6 := dk_seg dksX5_leg_5 22 rfl rfl
theorem dX5_leg_0 : decode cX5_leg 0 = .ok (.aload_n 0, 1) := dk_42 (dk_at dksX5_leg_0 0 rfl rfl)
theorem dX5_leg_1 : decode cX5_leg 1 = .ok (.iconst 0, 1) := dk_3 (dk_at dksX5_leg_0 1 rfl rfl)
theorem dX5_leg_2 : decode cX5_leg 2 = .ok (.putfield 138, 3) := dk_181 0 138 (dk_at dksX5_leg_0 2 rfl rfl)
theorem dX5_leg_5 : decode cX5_leg 5 = .ok (.aload_n 0, 1) := dk_42 (dk_at dksX5_leg_0 5 rfl rfl)
theorem dX5_leg_6 : decode cX5_leg 6 = .ok (.iconst (-1), 1) := dk_2 (dk_at dksX5_leg_0 6 rfl rfl)
theorem dX5_leg_7 : decode cX5_leg 7 = .ok (.putfield 141, 3) := dk_181 0 141 (dk_at dksX5_leg_0 7 rfl rfl)
theorem dX5_leg_10 : decode cX5_leg 10 = .ok (.aload_n 0, 1) := dk_42 (dk_at dksX5_leg_0 10 rfl rfl)
theorem dX5_leg_11 : decode cX5_leg 11 = .ok (.iconst 0, 1) := dk_3 (dk_at dksX5_leg_0 11 rfl rfl)
theorem dX5_leg_12 : decode cX5_leg 12 = .ok (.putfield 144, 3) := dk_181 0 144 (dk_at dksX5_leg_0 12 rfl rfl)
theorem dX5_leg_15 : decode cX5_leg 15 = .ok (.iload_n 1, 1) := dk_27 (dk_at dksX5_leg_0 15 rfl rfl)
theorem dX5_leg_16 : decode cX5_leg 16 = .ok (.istore 5, 2) := dk_54 5 (dk_at dksX5_leg_0 16 rfl rfl)
theorem dX5_leg_18 : decode cX5_leg 18 = .ok (.iload_n 2, 1) := dk_28 (dk_at dksX5_leg_0 18 rfl rfl)
theorem dX5_leg_19 : decode cX5_leg 19 = .ok (.istore 6, 2) := dk_54 6 (dk_at dksX5_leg_0 19 rfl rfl)
theorem dX5_leg_21 : decode cX5_leg 21 = .ok (.aload_n 0, 1) := dk_42 (dk_at dksX5_leg_0 21 rfl rfl)
theorem dX5_leg_22 : decode cX5_leg 22 = .ok (.getfield 138, 3) := dk_180 0 138 (dk_at dksX5_leg_1 0 rfl rfl)
theorem dX5_leg_25 : decode cX5_leg 25 = .ok (.aload_n 0, 1) := dk_42 (dk_at dksX5_leg_1 3 rfl rfl)
theorem dX5_leg_26 : decode cX5_leg 26 = .ok (.getfield 9, 3) := dk_180 0 9 (dk_at dksX5_leg_1 4 rfl rfl)
theorem dX5_leg_29 : decode cX5_leg 29 = .ok (.iconst 2, 1) := dk_5 (dk_at dksX5_leg_1 7 rfl rfl)
theorem dX5_leg_30 : decode cX5_leg 30 = .ok (.iaload, 1) := dk_46 (dk_at dksX5_leg_1 8 rfl rfl)
theorem dX5_leg_31 : decode cX5_leg 31 = .ok (.if_icmp .ge 126, 3) := dk_162 0 126 (dk_at dksX5_leg_1 9 rfl rfl)
theorem dX5_leg_34 : decode cX5_leg 34 = .ok (.aload_n 0, 1) := dk_42 (dk_at dksX5_leg_1 12 rfl rfl)
theorem dX5_leg_35 : decode cX5_leg 35 = .ok (.iload 5, 2) := dk_21 5 (dk_at dksX5_leg_1 13 rfl rfl)
theorem dX5_leg_37 : decode cX5_leg 37 = .ok (.iload_n 3, 1) := dk_29 (dk_at dksX5_leg_1 15 rfl rfl)
theorem dX5_leg_38 : decode cX5_leg 38 = .ok (.invokestatic 147, 3) := dk_184 0 147 (dk_at dksX5_leg_1 16 rfl rfl)
theorem dX5_leg_41 : decode cX5_leg 41 = .ok (.iadd, 1) := dk_96 (dk_at dksX5_leg_1 19 rfl rfl)
theorem dX5_leg_42 : decode cX5_leg 42 = .ok (.iload 6, 2) := dk_21 6 (dk_at dksX5_leg_1 20 rfl rfl)
theorem dX5_leg_44 : decode cX5_leg 44 = .ok (.iload_n 3, 1) := dk_29 (dk_at dksX5_leg_1 22 rfl rfl)
theorem dX5_leg_45 : decode cX5_leg 45 = .ok (.invokestatic 151, 3) := dk_184 0 151 (dk_at dksX5_leg_2 0 rfl rfl)
theorem dX5_leg_48 : decode cX5_leg 48 = .ok (.iadd, 1) := dk_96 (dk_at dksX5_leg_2 3 rfl rfl)
theorem dX5_leg_49 : decode cX5_leg 49 = .ok (.invokevirtual 154, 3) := dk_182 0 154 (dk_at dksX5_leg_2 4 rfl rfl)
theorem dX5_leg_52 : decode cX5_leg 52 = .ok (.ifCond .eq 105, 3) := dk_153 0 105 (dk_at dksX5_leg_2 7 rfl rfl)
theorem dX5_leg_55 : decode cX5_leg 55 = .ok (.iload 5, 2) := dk_21 5 (dk_at dksX5_leg_2 10 rfl rfl)
theorem dX5_leg_57 : decode cX5_leg 57 = .ok (.iload_n 3, 1) := dk_29 (dk_at dksX5_leg_2 12 rfl rfl)
theorem dX5_leg_58 : decode cX5_leg 58 = .ok (.invokestatic 147, 3) := dk_184 0 147 (dk_at dksX5_leg_2 13 rfl rfl)
theorem dX5_leg_61 : decode cX5_leg 61 = .ok (.iadd, 1) := dk_96 (dk_at dksX5_leg_2 16 rfl rfl)
theorem dX5_leg_62 : decode cX5_leg 62 = .ok (.istore 5, 2) := dk_54 5 (dk_at dksX5_leg_2 17 rfl rfl)
theorem dX5_leg_64 : decode cX5_leg 64 = .ok (.iload 6, 2) := dk_21 6 (dk_at dksX5_leg_2 19 rfl rfl)
theorem dX5_leg_66 : decode cX5_leg 66 = .ok (.iload_n 3, 1) := dk_29 (dk_at dksX5_leg_2 21 rfl rfl)
theorem dX5_leg_67 : decode cX5_leg 67 = .ok (.invokestatic 151, 3) := dk_184 0 151 (dk_at dksX5_leg_3 0 rfl rfl)
theorem dX5_leg_70 : decode cX5_leg 70 = .ok (.iadd, 1) := dk_96 (dk_at dksX5_leg_3 3 rfl rfl)
theorem dX5_leg_71 : decode cX5_leg 71 = .ok (.istore 6, 2) := dk_54 6 (dk_at dksX5_leg_3 4 rfl rfl)
theorem dX5_leg_73 : decode cX5_leg 73 = .ok (.aload_n 0, 1) := dk_42 (dk_at dksX5_leg_3 6 rfl rfl)
theorem dX5_leg_74 : decode cX5_leg 74 = .ok (.dup, 1) := dk_89 (dk_at dksX5_leg_3 7 rfl rfl)
theorem dX5_leg_75 : decode cX5_leg 75 = .ok (.getfield 138, 3) := dk_180 0 138 (dk_at dksX5_leg_3 8 rfl rfl)
theorem dX5_leg_78 : decode cX5_leg 78 = .ok (.iconst 1, 1) := dk_4 (dk_at dksX5_leg_3 11 rfl rfl)
theorem dX5_leg_79 : decode cX5_leg 79 = .ok (.iadd, 1) := dk_96 (dk_at dksX5_leg_3 12 rfl rfl)
theorem dX5_leg_80 : decode cX5_leg 80 = .ok (.putfield 138, 3) := dk_181 0 138 (dk_at dksX5_leg_3 13 rfl rfl)
theorem dX5_leg_83 : decode cX5_leg 83 = .ok (.aload_n 0, 1) := dk_42 (dk_at dksX5_leg_3 16 rfl rfl)
theorem dX5_leg_84 : decode cX5_leg 84 = .ok (.iload 5, 2) := dk_21 5 (dk_at dksX5_leg_3 17 rfl rfl)
theorem dX5_leg_86 : decode cX5_leg 86 = .ok (.iload 6, 2) := dk_21 6 (dk_at dksX5_leg_3 19 rfl rfl)
theorem dX5_leg_88 : decode cX5_leg 88 = .ok (.invokevirtual 157, 3) := dk_182 0 157 (dk_at dksX5_leg_3 21 rfl rfl)
theorem dX5_leg_91 : decode cX5_leg 91 = .ok (.istore 7, 2) := dk_54 7 (dk_at dksX5_leg_4 0 rfl rfl)
theorem dX5_leg_93 : decode cX5_leg 93 = .ok (.aload_n 0, 1) := dk_42 (dk_at dksX5_leg_4 2 rfl rfl)
theorem dX5_leg_94 : decode cX5_leg 94 = .ok (.getfield 141, 3) := dk_180 0 141 (dk_at dksX5_leg_4 3 rfl rfl)
theorem dX5_leg_97 : decode cX5_leg 97 = .ok (.iconst (-1), 1) := dk_2 (dk_at dksX5_leg_4 6 rfl rfl)
theorem dX5_leg_98 : decode cX5_leg 98 = .ok (.if_icmp .ne 56, 3) := dk_160 0 56 (dk_at dksX5_leg_4 7 rfl rfl)
theorem dX5_leg_101 : decode cX5_leg 101 = .ok (.iload 7, 2) := dk_21 7 (dk_at dksX5_leg_4 10 rfl rfl)
theorem dX5_leg_103 : decode cX5_leg 103 = .ok (.iconst (-1), 1) := dk_2 (dk_at dksX5_leg_4 12 rfl rfl)
theorem dX5_leg_104 : decode cX5_leg 104 = .ok (.if_icmp .eq 50, 3) := dk_159 0 50 (dk_at dksX5_leg_4 13 rfl rfl)
theorem dX5_leg_107 : decode cX5_leg 107 = .ok (.iload 7, 2) := dk_21 7 (dk_at dksX5_leg_4 16 rfl rfl)
theorem dX5_leg_109 : decode cX5_leg 109 = .ok (.iload 4, 2) := dk_21 4 (dk_at dksX5_leg_4 18 rfl rfl)
theorem dX5_leg_111 : decode cX5_leg 111 = .ok (.if_icmp .eq 43, 3) := dk_159 0 43 (dk_at dksX5_leg_4 20 rfl rfl)
theorem dX5_leg_114 : decode cX5_leg 114 = .ok (.aload_n 0, 1) := dk_42 (dk_at dksX5_leg_4 23 rfl rfl)
theorem dX5_leg_115 : decode cX5_leg 115 = .ok (.iload 7, 2) := dk_21 7 (dk_at dksX5_leg_5 0 rfl rfl)
theorem dX5_leg_117 : decode cX5_leg 117 = .ok (.invokevirtual 134, 3) := dk_182 0 134 (dk_at dksX5_leg_5 2 rfl rfl)
theorem dX5_leg_120 : decode cX5_leg 120 = .ok (.ifCond .eq 34, 3) := dk_153 0 34 (dk_at dksX5_leg_5 5 rfl rfl)
theorem dX5_leg_123 : decode cX5_leg 123 = .ok (.aload_n 0, 1) := dk_42 (dk_at dksX5_leg_5 8 rfl rfl)
theorem dX5_leg_124 : decode cX5_leg 124 = .ok (.iload 7, 2) := dk_21 7 (dk_at dksX5_leg_5 9 rfl rfl)
theorem dX5_leg_126 : decode cX5_leg 126 = .ok (.iconst 2, 1) := dk_5 (dk_at dksX5_leg_5 11 rfl rfl)
theorem dX5_leg_127 : decode cX5_leg 127 = .ok (.invokevirtual 130, 3) := dk_182 0 130 (dk_at dksX5_leg_5 12 rfl rfl)
theorem dX5_leg_130 : decode cX5_leg 130 = .ok (.aload_n 0, 1) := dk_42 (dk_at dksX5_leg_5 15 rfl rfl)
theorem dX5_leg_131 : decode cX5_leg 131 = .ok (.iload 4, 2) := dk_21 4 (dk_at dksX5_leg_5 16 rfl rfl)
theorem dX5_leg_133 : decode cX5_leg 133 = .ok (.iconst 2, 1) := dk_5 (dk_at dksX5_leg_5 18 rfl rfl)
theorem dX5_leg_134 : decode cX5_leg 134 = .ok (.invokevirtual 130, 3) := dk_182 0 130 (dk_at dksX5_leg_5 19 rfl rfl)
theorem dX5_leg_137 : decode cX5_leg 137 = .ok (.if_icmp .ne 17, 3) := dk_160 0 17 (dk_at dksX5_leg_6 0 rfl rfl)
theorem dX5_leg_140 : decode cX5_leg 140 = .ok (.aload_n 0, 1) := dk_42 (dk_at dksX5_leg_6 3 rfl rfl)
theorem dX5_leg_141 : decode cX5_leg 141 = .ok (.iload 7, 2) := dk_21 7 (dk_at dksX5_leg_6 4 rfl rfl)
theorem dX5_leg_143 : decode cX5_leg 143 = .ok (.putfield 141, 3) := dk_181 0 141 (dk_at dksX5_leg_6 6 rfl rfl)
theorem dX5_leg_146 : decode cX5_leg 146 = .ok (.aload_n 0, 1) := dk_42 (dk_at dksX5_leg_6 9 rfl rfl)
theorem dX5_leg_147 : decode cX5_leg 147 = .ok (.aload_n 0, 1) := dk_42 (dk_at dksX5_leg_6 10 rfl rfl)
theorem dX5_leg_148 : decode cX5_leg 148 = .ok (.getfield 138, 3) := dk_180 0 138 (dk_at dksX5_leg_6 11 rfl rfl)
theorem dX5_leg_151 : decode cX5_leg 151 = .ok (.putfield 144, 3) := dk_181 0 144 (dk_at dksX5_leg_6 14 rfl rfl)
theorem dX5_leg_154 : decode cX5_leg 154 = .ok (.goto (-133), 3) := dk_167 255 123 (dk_at dksX5_leg_6 17 rfl rfl)
theorem dX5_leg_157 : decode cX5_leg 157 = .ok (.return_, 1) := dk_177 (dk_at dksX5_leg_6 20 rfl rfl)
abbrev cX5_steps : ByteArray := prog_13_method_22_code
def yX5_steps : MethodName := ⟨RX5, "steps", "()I"⟩
def dkwX5_steps_0 : List UInt8 := [42, 180, 0, 160, 42, 180, 0, 163, 96, 42, 180, 0, 166, 96, 172]
abbrev dktX5_steps_0 : List UInt8 := dkwX5_steps_0 ++ []
theorem dksX5_steps_0 : cX5_steps.data.toList.drop 0 = dktX5_steps_0 := by decide +kernel
theorem dX5_steps_0 : decode cX5_steps 0 = .ok (.aload_n 0, 1) := dk_42 (dk_at dksX5_steps_0 0 rfl rfl)
theorem dX5_steps_1 : decode cX5_steps 1 = .ok (.getfield 160, 3) := dk_180 0 160 (dk_at dksX5_steps_0 1 rfl rfl)
theorem dX5_steps_4 : decode cX5_steps 4 = .ok (.aload_n 0, 1) := dk_42 (dk_at dksX5_steps_0 4 rfl rfl)
theorem dX5_steps_5 : decode cX5_steps 5 = .ok (.getfield 163, 3) := dk_180 0 163 (dk_at dksX5_steps_0 5 rfl rfl)
theorem dX5_steps_8 : decode cX5_steps 8 = .ok (.iadd, 1) := dk_96 (dk_at dksX5_steps_0 8 rfl rfl)
theorem dX5_steps_9 : decode cX5_steps 9 = .ok (.aload_n 0, 1) := dk_42 (dk_at dksX5_steps_0 9 rfl rfl)
theorem dX5_steps_10 : decode cX5_steps 10 = .ok (.getfield 166, 3) := dk_180 0 166 (dk_at dksX5_steps_0 10 rfl rfl)
theorem dX5_steps_13 : decode cX5_steps 13 = .ok (.iadd, 1) := dk_96 (dk_at dksX5_steps_0 13 rfl rfl)
theorem dX5_steps_14 : decode cX5_steps 14 = .ok (.ireturn, 1) := dk_172 (dk_at dksX5_steps_0 14 rfl rfl)
abbrev cX5_found : ByteArray := prog_13_method_23_code
def yX5_found : MethodName := ⟨RX5, "found", "(IIIIIII)V"⟩
def dkwX5_found_2 : List UInt8 := [181, 0, 163, 42, 21, 6, 181, 0, 181, 42, 21, 7, 181, 0, 166, 177]
abbrev dktX5_found_2 : List UInt8 := dkwX5_found_2 ++ []
def dkwX5_found_1 : List UInt8 := [27, 181, 0, 169, 42, 28, 181, 0, 175, 42, 29, 181, 0, 160, 42, 21, 4, 181, 0, 178, 42, 21, 5]
abbrev dktX5_found_1 : List UInt8 := dkwX5_found_1 ++ dktX5_found_2
def dkwX5_found_0 : List UInt8 := [42, 180, 0, 169, 2, 159, 0, 18, 29, 21, 5, 96, 21, 7, 96, 42, 182, 0, 172, 161, 0, 4, 177, 42]
abbrev dktX5_found_0 : List UInt8 := dkwX5_found_0 ++ dktX5_found_1
theorem dksX5_found_0 : cX5_found.data.toList.drop 0 = dktX5_found_0 := by decide +kernel
theorem dksX5_found_1 : cX5_found.data.toList.drop 24 = dktX5_found_1 := dk_seg dksX5_found_0 24 rfl rfl
theorem dksX5_found_2 : cX5_found.data.toList.drop 47 = dktX5_found_2 := dk_seg dksX5_found_1 23 rfl rfl
theorem dX5_found_0 : decode cX5_found 0 = .ok (.aload_n 0, 1) := dk_42 (dk_at dksX5_found_0 0 rfl rfl)
theorem dX5_found_1 : decode cX5_found 1 = .ok (.getfield 169, 3) := dk_180 0 169 (dk_at dksX5_found_0 1 rfl rfl)
theorem dX5_found_4 : decode cX5_found 4 = .ok (.iconst (-1), 1) := dk_2 (dk_at dksX5_found_0 4 rfl rfl)
theorem dX5_found_5 : decode cX5_found 5 = .ok (.if_icmp .eq 18, 3) := dk_159 0 18 (dk_at dksX5_found_0 5 rfl rfl)
theorem dX5_found_8 : decode cX5_found 8 = .ok (.iload_n 3, 1) := dk_29 (dk_at dksX5_found_0 8 rfl rfl)
theorem dX5_found_9 : decode cX5_found 9 = .ok (.iload 5, 2) := dk_21 5 (dk_at dksX5_found_0 9 rfl rfl)
theorem dX5_found_11 : decode cX5_found 11 = .ok (.iadd, 1) := dk_96 (dk_at dksX5_found_0 11 rfl rfl)
theorem dX5_found_12 : decode cX5_found 12 = .ok (.iload 7, 2) := dk_21 7 (dk_at dksX5_found_0 12 rfl rfl)
theorem dX5_found_14 : decode cX5_found 14 = .ok (.iadd, 1) := dk_96 (dk_at dksX5_found_0 14 rfl rfl)
theorem dX5_found_15 : decode cX5_found 15 = .ok (.aload_n 0, 1) := dk_42 (dk_at dksX5_found_0 15 rfl rfl)
theorem dX5_found_16 : decode cX5_found 16 = .ok (.invokevirtual 172, 3) := dk_182 0 172 (dk_at dksX5_found_0 16 rfl rfl)
theorem dX5_found_19 : decode cX5_found 19 = .ok (.if_icmp .lt 4, 3) := dk_161 0 4 (dk_at dksX5_found_0 19 rfl rfl)
theorem dX5_found_22 : decode cX5_found 22 = .ok (.return_, 1) := dk_177 (dk_at dksX5_found_0 22 rfl rfl)
theorem dX5_found_23 : decode cX5_found 23 = .ok (.aload_n 0, 1) := dk_42 (dk_at dksX5_found_0 23 rfl rfl)
theorem dX5_found_24 : decode cX5_found 24 = .ok (.iload_n 1, 1) := dk_27 (dk_at dksX5_found_1 0 rfl rfl)
theorem dX5_found_25 : decode cX5_found 25 = .ok (.putfield 169, 3) := dk_181 0 169 (dk_at dksX5_found_1 1 rfl rfl)
theorem dX5_found_28 : decode cX5_found 28 = .ok (.aload_n 0, 1) := dk_42 (dk_at dksX5_found_1 4 rfl rfl)
theorem dX5_found_29 : decode cX5_found 29 = .ok (.iload_n 2, 1) := dk_28 (dk_at dksX5_found_1 5 rfl rfl)
theorem dX5_found_30 : decode cX5_found 30 = .ok (.putfield 175, 3) := dk_181 0 175 (dk_at dksX5_found_1 6 rfl rfl)
theorem dX5_found_33 : decode cX5_found 33 = .ok (.aload_n 0, 1) := dk_42 (dk_at dksX5_found_1 9 rfl rfl)
theorem dX5_found_34 : decode cX5_found 34 = .ok (.iload_n 3, 1) := dk_29 (dk_at dksX5_found_1 10 rfl rfl)
theorem dX5_found_35 : decode cX5_found 35 = .ok (.putfield 160, 3) := dk_181 0 160 (dk_at dksX5_found_1 11 rfl rfl)
theorem dX5_found_38 : decode cX5_found 38 = .ok (.aload_n 0, 1) := dk_42 (dk_at dksX5_found_1 14 rfl rfl)
theorem dX5_found_39 : decode cX5_found 39 = .ok (.iload 4, 2) := dk_21 4 (dk_at dksX5_found_1 15 rfl rfl)
theorem dX5_found_41 : decode cX5_found 41 = .ok (.putfield 178, 3) := dk_181 0 178 (dk_at dksX5_found_1 17 rfl rfl)
theorem dX5_found_44 : decode cX5_found 44 = .ok (.aload_n 0, 1) := dk_42 (dk_at dksX5_found_1 20 rfl rfl)
theorem dX5_found_45 : decode cX5_found 45 = .ok (.iload 5, 2) := dk_21 5 (dk_at dksX5_found_1 21 rfl rfl)
theorem dX5_found_47 : decode cX5_found 47 = .ok (.putfield 163, 3) := dk_181 0 163 (dk_at dksX5_found_2 0 rfl rfl)
theorem dX5_found_50 : decode cX5_found 50 = .ok (.aload_n 0, 1) := dk_42 (dk_at dksX5_found_2 3 rfl rfl)
theorem dX5_found_51 : decode cX5_found 51 = .ok (.iload 6, 2) := dk_21 6 (dk_at dksX5_found_2 4 rfl rfl)
theorem dX5_found_53 : decode cX5_found 53 = .ok (.putfield 181, 3) := dk_181 0 181 (dk_at dksX5_found_2 6 rfl rfl)
theorem dX5_found_56 : decode cX5_found 56 = .ok (.aload_n 0, 1) := dk_42 (dk_at dksX5_found_2 9 rfl rfl)
theorem dX5_found_57 : decode cX5_found 57 = .ok (.iload 7, 2) := dk_21 7 (dk_at dksX5_found_2 10 rfl rfl)
theorem dX5_found_59 : decode cX5_found 59 = .ok (.putfield 166, 3) := dk_181 0 166 (dk_at dksX5_found_2 12 rfl rfl)
theorem dX5_found_62 : decode cX5_found 62 = .ok (.return_, 1) := dk_177 (dk_at dksX5_found_2 15 rfl rfl)
abbrev cX5_turns : ByteArray := prog_13_method_24_code
def yX5_turns : MethodName := ⟨RX5, "turns", "(IIIIIII)V"⟩
def dkwX5_turns_4 : List UInt8 := [5, 29, 21, 4, 21, 7, 21, 9, 42, 180, 0, 144, 182, 0, 188, 132, 9, 1, 167, 255, 165, 177]
abbrev dktX5_turns_4 : List UInt8 := dkwX5_turns_4 ++ []
def dkwX5_turns_3 : List UInt8 := [180, 0, 141, 4, 29, 21, 9, 3, 3, 42, 180, 0, 144, 182, 0, 188, 167, 0, 23, 42, 42, 180, 0, 141]
abbrev dktX5_turns_3 : List UInt8 := dkwX5_turns_3 ++ dktX5_turns_4
def dkwX5_turns_2 : List UInt8 := [27, 182, 0, 184, 42, 180, 0, 141, 2, 160, 0, 6, 167, 0, 49, 28, 4, 160, 0, 24, 42, 42]
abbrev dktX5_turns_2 : List UInt8 := dkwX5_turns_2 ++ dktX5_turns_3
def dkwX5_turns_1 : List UInt8 := [162, 0, 91, 21, 9, 5, 112, 21, 8, 5, 112, 160, 0, 6, 167, 0, 71, 42, 21, 5, 21, 6, 21, 9]
abbrev dktX5_turns_1 : List UInt8 := dkwX5_turns_1 ++ dktX5_turns_2
def dkwX5_turns_0 : List UInt8 := [28, 4, 160, 0, 12, 42, 27, 6, 182, 0, 130, 167, 0, 5, 21, 4, 54, 8, 3, 54, 9, 21, 9, 7]
abbrev dktX5_turns_0 : List UInt8 := dkwX5_turns_0 ++ dktX5_turns_1
theorem dksX5_turns_0 : cX5_turns.data.toList.drop 0 = dktX5_turns_0 := by decide +kernel
theorem dksX5_turns_1 : cX5_turns.data.toList.drop 24 = dktX5_turns_1 := dk_seg dksX5_turns_0 24 rfl rfl
theorem dksX5_turns_2 : cX5_turns.data.toList.drop 48 = dktX5_turns_2 := dk_seg dksX5_turns_1 24 rfl rfl
theorem dksX5_turns_3 : cX5_turns.data.toList.drop 70 = dktX5_turns_3 := dk_seg dksX5_turns_2 22 rfl rfl
theorem dksX5_turns_4 : cX5_turns.data.toList.drop 94 = dktX5_turns_4 := dk_seg dksX5_turns_3 24 rfl rfl
theorem dX5_turns_0 : decode cX5_turns 0 = .ok (.iload_n 2, 1) := dk_28 (dk_at dksX5_turns_0 0 rfl rfl)
theorem dX5_turns_1 : decode cX5_turns 1 = .ok (.iconst 1, 1) := dk_4 (dk_at dksX5_turns_0 1 rfl rfl)
theorem dX5_turns_2 : decode cX5_turns 2 = .ok (.if_icmp .ne 12, 3) := dk_160 0 12 (dk_at dksX5_turns_0 2 rfl rfl)
theorem dX5_turns_5 : decode cX5_turns 5 = .ok (.aload_n 0, 1) := dk_42 (dk_at dksX5_turns_0 5 rfl rfl)
theorem dX5_turns_6 : decode cX5_turns 6 = .ok (.iload_n 1, 1) := dk_27 (dk_at dksX5_turns_0 6 rfl rfl)
theorem dX5_turns_7 : decode cX5_turns 7 = .ok (.iconst 3, 1) := dk_6 (dk_at dksX5_turns_0 7 rfl rfl)
theorem dX5_turns_8 : decode cX5_turns 8 = .ok (.invokevirtual 130, 3) := dk_182 0 130 (dk_at dksX5_turns_0 8 rfl rfl)
theorem dX5_turns_11 : decode cX5_turns 11 = .ok (.goto 5, 3) := dk_167 0 5 (dk_at dksX5_turns_0 11 rfl rfl)
theorem dX5_turns_14 : decode cX5_turns 14 = .ok (.iload 4, 2) := dk_21 4 (dk_at dksX5_turns_0 14 rfl rfl)
theorem dX5_turns_16 : decode cX5_turns 16 = .ok (.istore 8, 2) := dk_54 8 (dk_at dksX5_turns_0 16 rfl rfl)
theorem dX5_turns_18 : decode cX5_turns 18 = .ok (.iconst 0, 1) := dk_3 (dk_at dksX5_turns_0 18 rfl rfl)
theorem dX5_turns_19 : decode cX5_turns 19 = .ok (.istore 9, 2) := dk_54 9 (dk_at dksX5_turns_0 19 rfl rfl)
theorem dX5_turns_21 : decode cX5_turns 21 = .ok (.iload 9, 2) := dk_21 9 (dk_at dksX5_turns_0 21 rfl rfl)
theorem dX5_turns_23 : decode cX5_turns 23 = .ok (.iconst 4, 1) := dk_7 (dk_at dksX5_turns_0 23 rfl rfl)
theorem dX5_turns_24 : decode cX5_turns 24 = .ok (.if_icmp .ge 91, 3) := dk_162 0 91 (dk_at dksX5_turns_1 0 rfl rfl)
theorem dX5_turns_27 : decode cX5_turns 27 = .ok (.iload 9, 2) := dk_21 9 (dk_at dksX5_turns_1 3 rfl rfl)
theorem dX5_turns_29 : decode cX5_turns 29 = .ok (.iconst 2, 1) := dk_5 (dk_at dksX5_turns_1 5 rfl rfl)
theorem dX5_turns_30 : decode cX5_turns 30 = .ok (.irem, 1) := dk_112 (dk_at dksX5_turns_1 6 rfl rfl)
theorem dX5_turns_31 : decode cX5_turns 31 = .ok (.iload 8, 2) := dk_21 8 (dk_at dksX5_turns_1 7 rfl rfl)
theorem dX5_turns_33 : decode cX5_turns 33 = .ok (.iconst 2, 1) := dk_5 (dk_at dksX5_turns_1 9 rfl rfl)
theorem dX5_turns_34 : decode cX5_turns 34 = .ok (.irem, 1) := dk_112 (dk_at dksX5_turns_1 10 rfl rfl)
theorem dX5_turns_35 : decode cX5_turns 35 = .ok (.if_icmp .ne 6, 3) := dk_160 0 6 (dk_at dksX5_turns_1 11 rfl rfl)
theorem dX5_turns_38 : decode cX5_turns 38 = .ok (.goto 71, 3) := dk_167 0 71 (dk_at dksX5_turns_1 14 rfl rfl)
theorem dX5_turns_41 : decode cX5_turns 41 = .ok (.aload_n 0, 1) := dk_42 (dk_at dksX5_turns_1 17 rfl rfl)
theorem dX5_turns_42 : decode cX5_turns 42 = .ok (.iload 5, 2) := dk_21 5 (dk_at dksX5_turns_1 18 rfl rfl)
theorem dX5_turns_44 : decode cX5_turns 44 = .ok (.iload 6, 2) := dk_21 6 (dk_at dksX5_turns_1 20 rfl rfl)
theorem dX5_turns_46 : decode cX5_turns 46 = .ok (.iload 9, 2) := dk_21 9 (dk_at dksX5_turns_1 22 rfl rfl)
theorem dX5_turns_48 : decode cX5_turns 48 = .ok (.iload_n 1, 1) := dk_27 (dk_at dksX5_turns_2 0 rfl rfl)
theorem dX5_turns_49 : decode cX5_turns 49 = .ok (.invokevirtual 184, 3) := dk_182 0 184 (dk_at dksX5_turns_2 1 rfl rfl)
theorem dX5_turns_52 : decode cX5_turns 52 = .ok (.aload_n 0, 1) := dk_42 (dk_at dksX5_turns_2 4 rfl rfl)
theorem dX5_turns_53 : decode cX5_turns 53 = .ok (.getfield 141, 3) := dk_180 0 141 (dk_at dksX5_turns_2 5 rfl rfl)
theorem dX5_turns_56 : decode cX5_turns 56 = .ok (.iconst (-1), 1) := dk_2 (dk_at dksX5_turns_2 8 rfl rfl)
theorem dX5_turns_57 : decode cX5_turns 57 = .ok (.if_icmp .ne 6, 3) := dk_160 0 6 (dk_at dksX5_turns_2 9 rfl rfl)
theorem dX5_turns_60 : decode cX5_turns 60 = .ok (.goto 49, 3) := dk_167 0 49 (dk_at dksX5_turns_2 12 rfl rfl)
theorem dX5_turns_63 : decode cX5_turns 63 = .ok (.iload_n 2, 1) := dk_28 (dk_at dksX5_turns_2 15 rfl rfl)
theorem dX5_turns_64 : decode cX5_turns 64 = .ok (.iconst 1, 1) := dk_4 (dk_at dksX5_turns_2 16 rfl rfl)
theorem dX5_turns_65 : decode cX5_turns 65 = .ok (.if_icmp .ne 24, 3) := dk_160 0 24 (dk_at dksX5_turns_2 17 rfl rfl)
theorem dX5_turns_68 : decode cX5_turns 68 = .ok (.aload_n 0, 1) := dk_42 (dk_at dksX5_turns_2 20 rfl rfl)
theorem dX5_turns_69 : decode cX5_turns 69 = .ok (.aload_n 0, 1) := dk_42 (dk_at dksX5_turns_2 21 rfl rfl)
theorem dX5_turns_70 : decode cX5_turns 70 = .ok (.getfield 141, 3) := dk_180 0 141 (dk_at dksX5_turns_3 0 rfl rfl)
theorem dX5_turns_73 : decode cX5_turns 73 = .ok (.iconst 1, 1) := dk_4 (dk_at dksX5_turns_3 3 rfl rfl)
theorem dX5_turns_74 : decode cX5_turns 74 = .ok (.iload_n 3, 1) := dk_29 (dk_at dksX5_turns_3 4 rfl rfl)
theorem dX5_turns_75 : decode cX5_turns 75 = .ok (.iload 9, 2) := dk_21 9 (dk_at dksX5_turns_3 5 rfl rfl)
theorem dX5_turns_77 : decode cX5_turns 77 = .ok (.iconst 0, 1) := dk_3 (dk_at dksX5_turns_3 7 rfl rfl)
theorem dX5_turns_78 : decode cX5_turns 78 = .ok (.iconst 0, 1) := dk_3 (dk_at dksX5_turns_3 8 rfl rfl)
theorem dX5_turns_79 : decode cX5_turns 79 = .ok (.aload_n 0, 1) := dk_42 (dk_at dksX5_turns_3 9 rfl rfl)
theorem dX5_turns_80 : decode cX5_turns 80 = .ok (.getfield 144, 3) := dk_180 0 144 (dk_at dksX5_turns_3 10 rfl rfl)
theorem dX5_turns_83 : decode cX5_turns 83 = .ok (.invokevirtual 188, 3) := dk_182 0 188 (dk_at dksX5_turns_3 13 rfl rfl)
theorem dX5_turns_86 : decode cX5_turns 86 = .ok (.goto 23, 3) := dk_167 0 23 (dk_at dksX5_turns_3 16 rfl rfl)
theorem dX5_turns_89 : decode cX5_turns 89 = .ok (.aload_n 0, 1) := dk_42 (dk_at dksX5_turns_3 19 rfl rfl)
theorem dX5_turns_90 : decode cX5_turns 90 = .ok (.aload_n 0, 1) := dk_42 (dk_at dksX5_turns_3 20 rfl rfl)
theorem dX5_turns_91 : decode cX5_turns 91 = .ok (.getfield 141, 3) := dk_180 0 141 (dk_at dksX5_turns_3 21 rfl rfl)
theorem dX5_turns_94 : decode cX5_turns 94 = .ok (.iconst 2, 1) := dk_5 (dk_at dksX5_turns_4 0 rfl rfl)
theorem dX5_turns_95 : decode cX5_turns 95 = .ok (.iload_n 3, 1) := dk_29 (dk_at dksX5_turns_4 1 rfl rfl)
theorem dX5_turns_96 : decode cX5_turns 96 = .ok (.iload 4, 2) := dk_21 4 (dk_at dksX5_turns_4 2 rfl rfl)
theorem dX5_turns_98 : decode cX5_turns 98 = .ok (.iload 7, 2) := dk_21 7 (dk_at dksX5_turns_4 4 rfl rfl)
theorem dX5_turns_100 : decode cX5_turns 100 = .ok (.iload 9, 2) := dk_21 9 (dk_at dksX5_turns_4 6 rfl rfl)
theorem dX5_turns_102 : decode cX5_turns 102 = .ok (.aload_n 0, 1) := dk_42 (dk_at dksX5_turns_4 8 rfl rfl)
theorem dX5_turns_103 : decode cX5_turns 103 = .ok (.getfield 144, 3) := dk_180 0 144 (dk_at dksX5_turns_4 9 rfl rfl)
theorem dX5_turns_106 : decode cX5_turns 106 = .ok (.invokevirtual 188, 3) := dk_182 0 188 (dk_at dksX5_turns_4 12 rfl rfl)
theorem dX5_turns_109 : decode cX5_turns 109 = .ok (.iinc 9 1, 3) := dk_132 9 1 (dk_at dksX5_turns_4 15 rfl rfl)
theorem dX5_turns_112 : decode cX5_turns 112 = .ok (.goto (-91), 3) := dk_167 255 165 (dk_at dksX5_turns_4 18 rfl rfl)
theorem dX5_turns_115 : decode cX5_turns 115 = .ok (.return_, 1) := dk_177 (dk_at dksX5_turns_4 21 rfl rfl)
abbrev cX5_twice : ByteArray := prog_13_method_26_code
def yX5_twice : MethodName := ⟨RX5, "twice", "(IIIII)V"⟩
def dkwX5_twice_2 : List UInt8 := [184, 0, 151, 104, 96, 21, 7, 182, 0, 192, 132, 7, 1, 167, 255, 216, 177]
abbrev dktX5_twice_2 : List UInt8 := dkwX5_twice_2 ++ []
def dkwX5_twice_1 : List UInt8 := [163, 0, 39, 42, 27, 5, 28, 29, 21, 4, 21, 7, 29, 184, 0, 147, 104, 96, 21, 5, 21, 7, 29]
abbrev dktX5_twice_1 : List UInt8 := dkwX5_twice_1 ++ dktX5_twice_2
def dkwX5_twice_0 : List UInt8 := [42, 21, 4, 21, 5, 29, 27, 182, 0, 184, 42, 180, 0, 138, 54, 6, 4, 54, 7, 21, 7, 21, 6]
abbrev dktX5_twice_0 : List UInt8 := dkwX5_twice_0 ++ dktX5_twice_1
theorem dksX5_twice_0 : cX5_twice.data.toList.drop 0 = dktX5_twice_0 := by decide +kernel
theorem dksX5_twice_1 : cX5_twice.data.toList.drop 23 = dktX5_twice_1 := dk_seg dksX5_twice_0 23 rfl rfl
theorem dksX5_twice_2 : cX5_twice.data.toList.drop 46 = dktX5_twice_2 := dk_seg dksX5_twice_1 23 rfl rfl
theorem dX5_twice_0 : decode cX5_twice 0 = .ok (.aload_n 0, 1) := dk_42 (dk_at dksX5_twice_0 0 rfl rfl)
theorem dX5_twice_1 : decode cX5_twice 1 = .ok (.iload 4, 2) := dk_21 4 (dk_at dksX5_twice_0 1 rfl rfl)
theorem dX5_twice_3 : decode cX5_twice 3 = .ok (.iload 5, 2) := dk_21 5 (dk_at dksX5_twice_0 3 rfl rfl)
theorem dX5_twice_5 : decode cX5_twice 5 = .ok (.iload_n 3, 1) := dk_29 (dk_at dksX5_twice_0 5 rfl rfl)
theorem dX5_twice_6 : decode cX5_twice 6 = .ok (.iload_n 1, 1) := dk_27 (dk_at dksX5_twice_0 6 rfl rfl)
theorem dX5_twice_7 : decode cX5_twice 7 = .ok (.invokevirtual 184, 3) := dk_182 0 184 (dk_at dksX5_twice_0 7 rfl rfl)
theorem dX5_twice_10 : decode cX5_twice 10 = .ok (.aload_n 0, 1) := dk_42 (dk_at dksX5_twice_0 10 rfl rfl)
theorem dX5_twice_11 : decode cX5_twice 11 = .ok (.getfield 138, 3) := dk_180 0 138 (dk_at dksX5_twice_0 11 rfl rfl)
theorem dX5_twice_14 : decode cX5_twice 14 = .ok (.istore 6, 2) := dk_54 6 (dk_at dksX5_twice_0 14 rfl rfl)
theorem dX5_twice_16 : decode cX5_twice 16 = .ok (.iconst 1, 1) := dk_4 (dk_at dksX5_twice_0 16 rfl rfl)
theorem dX5_twice_17 : decode cX5_twice 17 = .ok (.istore 7, 2) := dk_54 7 (dk_at dksX5_twice_0 17 rfl rfl)
theorem dX5_twice_19 : decode cX5_twice 19 = .ok (.iload 7, 2) := dk_21 7 (dk_at dksX5_twice_0 19 rfl rfl)
theorem dX5_twice_21 : decode cX5_twice 21 = .ok (.iload 6, 2) := dk_21 6 (dk_at dksX5_twice_0 21 rfl rfl)
theorem dX5_twice_23 : decode cX5_twice 23 = .ok (.if_icmp .gt 39, 3) := dk_163 0 39 (dk_at dksX5_twice_1 0 rfl rfl)
theorem dX5_twice_26 : decode cX5_twice 26 = .ok (.aload_n 0, 1) := dk_42 (dk_at dksX5_twice_1 3 rfl rfl)
theorem dX5_twice_27 : decode cX5_twice 27 = .ok (.iload_n 1, 1) := dk_27 (dk_at dksX5_twice_1 4 rfl rfl)
theorem dX5_twice_28 : decode cX5_twice 28 = .ok (.iconst 2, 1) := dk_5 (dk_at dksX5_twice_1 5 rfl rfl)
theorem dX5_twice_29 : decode cX5_twice 29 = .ok (.iload_n 2, 1) := dk_28 (dk_at dksX5_twice_1 6 rfl rfl)
theorem dX5_twice_30 : decode cX5_twice 30 = .ok (.iload_n 3, 1) := dk_29 (dk_at dksX5_twice_1 7 rfl rfl)
theorem dX5_twice_31 : decode cX5_twice 31 = .ok (.iload 4, 2) := dk_21 4 (dk_at dksX5_twice_1 8 rfl rfl)
theorem dX5_twice_33 : decode cX5_twice 33 = .ok (.iload 7, 2) := dk_21 7 (dk_at dksX5_twice_1 10 rfl rfl)
theorem dX5_twice_35 : decode cX5_twice 35 = .ok (.iload_n 3, 1) := dk_29 (dk_at dksX5_twice_1 12 rfl rfl)
theorem dX5_twice_36 : decode cX5_twice 36 = .ok (.invokestatic 147, 3) := dk_184 0 147 (dk_at dksX5_twice_1 13 rfl rfl)
theorem dX5_twice_39 : decode cX5_twice 39 = .ok (.imul, 1) := dk_104 (dk_at dksX5_twice_1 16 rfl rfl)
theorem dX5_twice_40 : decode cX5_twice 40 = .ok (.iadd, 1) := dk_96 (dk_at dksX5_twice_1 17 rfl rfl)
theorem dX5_twice_41 : decode cX5_twice 41 = .ok (.iload 5, 2) := dk_21 5 (dk_at dksX5_twice_1 18 rfl rfl)
theorem dX5_twice_43 : decode cX5_twice 43 = .ok (.iload 7, 2) := dk_21 7 (dk_at dksX5_twice_1 20 rfl rfl)
theorem dX5_twice_45 : decode cX5_twice 45 = .ok (.iload_n 3, 1) := dk_29 (dk_at dksX5_twice_1 22 rfl rfl)
theorem dX5_twice_46 : decode cX5_twice 46 = .ok (.invokestatic 151, 3) := dk_184 0 151 (dk_at dksX5_twice_2 0 rfl rfl)
theorem dX5_twice_49 : decode cX5_twice 49 = .ok (.imul, 1) := dk_104 (dk_at dksX5_twice_2 3 rfl rfl)
theorem dX5_twice_50 : decode cX5_twice 50 = .ok (.iadd, 1) := dk_96 (dk_at dksX5_twice_2 4 rfl rfl)
theorem dX5_twice_51 : decode cX5_twice 51 = .ok (.iload 7, 2) := dk_21 7 (dk_at dksX5_twice_2 5 rfl rfl)
theorem dX5_twice_53 : decode cX5_twice 53 = .ok (.invokevirtual 192, 3) := dk_182 0 192 (dk_at dksX5_twice_2 7 rfl rfl)
theorem dX5_twice_56 : decode cX5_twice 56 = .ok (.iinc 7 1, 3) := dk_132 7 1 (dk_at dksX5_twice_2 10 rfl rfl)
theorem dX5_twice_59 : decode cX5_twice 59 = .ok (.goto (-40), 3) := dk_167 255 216 (dk_at dksX5_twice_2 13 rfl rfl)
theorem dX5_twice_62 : decode cX5_twice 62 = .ok (.return_, 1) := dk_177 (dk_at dksX5_twice_2 16 rfl rfl)
abbrev cX5_find : ByteArray := prog_13_method_25_code
def yX5_find : MethodName := ⟨RX5, "find", "(I)V"⟩
def dkwX5_find_10 : List UInt8 := [167, 255, 209, 132, 6, 1, 167, 255, 193, 177]
abbrev dktX5_find_10 : List UInt8 := dkwX5_find_10 ++ []
def dkwX5_find_9 : List UInt8 := [21, 6, 28, 184, 0, 147, 104, 96, 21, 4, 21, 6, 28, 184, 0, 151, 104, 96, 182, 0, 195, 132, 7, 1]
abbrev dktX5_find_9 : List UInt8 := dkwX5_find_9 ++ dktX5_find_10
def dkwX5_find_8 : List UInt8 := [21, 7, 7, 162, 0, 47, 21, 7, 5, 112, 28, 5, 112, 159, 0, 31, 42, 27, 21, 6, 21, 7, 29]
abbrev dktX5_find_8 : List UInt8 := dkwX5_find_8 ++ dktX5_find_9
def dkwX5_find_7 : List UInt8 := [180, 0, 9, 6, 46, 5, 162, 0, 4, 177, 4, 54, 6, 21, 6, 21, 5, 163, 0, 62, 3, 54, 7]
abbrev dktX5_find_7 : List UInt8 := dkwX5_find_7 ++ dktX5_find_8
def dkwX5_find_6 : List UInt8 := [184, 0, 151, 104, 96, 3, 182, 0, 192, 132, 6, 1, 167, 255, 217, 42, 180, 0, 169, 2, 160, 0, 13, 42]
abbrev dktX5_find_6 : List UInt8 := dkwX5_find_6 ++ dktX5_find_7
def dkwX5_find_5 : List UInt8 := [163, 0, 38, 42, 27, 4, 21, 6, 2, 29, 21, 6, 28, 184, 0, 147, 104, 96, 21, 4, 21, 6, 28]
abbrev dktX5_find_5 : List UInt8 := dkwX5_find_5 ++ dktX5_find_6
def dkwX5_find_4 : List UInt8 := [177, 42, 180, 0, 138, 54, 5, 42, 180, 0, 9, 6, 46, 158, 0, 48, 4, 54, 6, 21, 6, 21, 5]
abbrev dktX5_find_4 : List UInt8 := dkwX5_find_4 ++ dktX5_find_5
def dkwX5_find_3 : List UInt8 := [42, 180, 0, 141, 2, 159, 0, 20, 42, 42, 180, 0, 141, 181, 0, 169, 42, 42, 180, 0, 144, 181, 0, 166]
abbrev dktX5_find_3 : List UInt8 := dkwX5_find_3 ++ dktX5_find_4
def dkwX5_find_2 : List UInt8 := [42, 27, 3, 182, 0, 130, 62, 42, 27, 4, 182, 0, 130, 54, 4, 42, 29, 21, 4, 28, 27, 182, 0, 184]
abbrev dktX5_find_2 : List UInt8 := dkwX5_find_2 ++ dktX5_find_3
def dkwX5_find_1 : List UInt8 := [181, 0, 166, 42, 27, 6, 182, 0, 130, 61, 42, 27, 182, 0, 134, 153, 0, 8, 28, 7, 160, 0, 4, 177]
abbrev dktX5_find_1 : List UInt8 := dkwX5_find_1 ++ dktX5_find_2
def dkwX5_find_0 : List UInt8 := [42, 2, 181, 0, 169, 42, 3, 181, 0, 175, 42, 3, 181, 0, 160, 42, 3, 181, 0, 163, 42, 3]
abbrev dktX5_find_0 : List UInt8 := dkwX5_find_0 ++ dktX5_find_1
theorem dksX5_find_0 : cX5_find.data.toList.drop 0 = dktX5_find_0 := by decide +kernel
theorem dksX5_find_1 : cX5_find.data.toList.drop 22 = dktX5_find_1 := dk_seg dksX5_find_0 22 rfl rfl
theorem dksX5_find_2 : cX5_find.data.toList.drop 46 = dktX5_find_2 := dk_seg dksX5_find_1 24 rfl rfl
theorem dksX5_find_3 : cX5_find.data.toList.drop 70 = dktX5_find_3 := dk_seg dksX5_find_2 24 rfl rfl
theorem dksX5_find_4 : cX5_find.data.toList.drop 94 = dktX5_find_4 := dk_seg dksX5_find_3 24 rfl rfl
theorem dksX5_find_5 : cX5_find.data.toList.drop 117 = dktX5_find_5 := dk_seg dksX5_find_4 23 rfl rfl
theorem dksX5_find_6 : cX5_find.data.toList.drop 140 = dktX5_find_6 := dk_seg dksX5_find_5 23 rfl rfl
theorem dksX5_find_7 : cX5_find.data.toList.drop 164 = dktX5_find_7 := dk_seg dksX5_find_6 24 rfl rfl
theorem dksX5_find_8 : cX5_find.data.toList.drop 187 = dktX5_find_8 := dk_seg dksX5_find_7 23 rfl rfl
theorem dksX5_find_9 : cX5_find.data.toList.drop 210 = dktX5_find_9 := dk_seg dksX5_find_8 23 rfl rfl
theorem dksX5_find_10 : cX5_find.data.toList.drop 234 = dktX5_find_10 := dk_seg dksX5_find_9 24 rfl rfl
theorem dX5_find_0 : decode cX5_find 0 = .ok (.aload_n 0, 1) := dk_42 (dk_at dksX5_find_0 0 rfl rfl)
theorem dX5_find_1 : decode cX5_find 1 = .ok (.iconst (-1), 1) := dk_2 (dk_at dksX5_find_0 1 rfl rfl)
theorem dX5_find_2 : decode cX5_find 2 = .ok (.putfield 169, 3) := dk_181 0 169 (dk_at dksX5_find_0 2 rfl rfl)
theorem dX5_find_5 : decode cX5_find 5 = .ok (.aload_n 0, 1) := dk_42 (dk_at dksX5_find_0 5 rfl rfl)
theorem dX5_find_6 : decode cX5_find 6 = .ok (.iconst 0, 1) := dk_3 (dk_at dksX5_find_0 6 rfl rfl)
theorem dX5_find_7 : decode cX5_find 7 = .ok (.putfield 175, 3) := dk_181 0 175 (dk_at dksX5_find_0 7 rfl rfl)
theorem dX5_find_10 : decode cX5_find 10 = .ok (.aload_n 0, 1) := dk_42 (dk_at dksX5_find_0 10 rfl rfl)
theorem dX5_find_11 : decode cX5_find 11 = .ok (.iconst 0, 1) := dk_3 (dk_at dksX5_find_0 11 rfl rfl)
theorem dX5_find_12 : decode cX5_find 12 = .ok (.putfield 160, 3) := dk_181 0 160 (dk_at dksX5_find_0 12 rfl rfl)
theorem dX5_find_15 : decode cX5_find 15 = .ok (.aload_n 0, 1) := dk_42 (dk_at dksX5_find_0 15 rfl rfl)
theorem dX5_find_16 : decode cX5_find 16 = .ok (.iconst 0, 1) := dk_3 (dk_at dksX5_find_0 16 rfl rfl)
theorem dX5_find_17 : decode cX5_find 17 = .ok (.putfield 163, 3) := dk_181 0 163 (dk_at dksX5_find_0 17 rfl rfl)
theorem dX5_find_20 : decode cX5_find 20 = .ok (.aload_n 0, 1) := dk_42 (dk_at dksX5_find_0 20 rfl rfl)
theorem dX5_find_21 : decode cX5_find 21 = .ok (.iconst 0, 1) := dk_3 (dk_at dksX5_find_0 21 rfl rfl)
theorem dX5_find_22 : decode cX5_find 22 = .ok (.putfield 166, 3) := dk_181 0 166 (dk_at dksX5_find_1 0 rfl rfl)
theorem dX5_find_25 : decode cX5_find 25 = .ok (.aload_n 0, 1) := dk_42 (dk_at dksX5_find_1 3 rfl rfl)
theorem dX5_find_26 : decode cX5_find 26 = .ok (.iload_n 1, 1) := dk_27 (dk_at dksX5_find_1 4 rfl rfl)
theorem dX5_find_27 : decode cX5_find 27 = .ok (.iconst 3, 1) := dk_6 (dk_at dksX5_find_1 5 rfl rfl)
theorem dX5_find_28 : decode cX5_find 28 = .ok (.invokevirtual 130, 3) := dk_182 0 130 (dk_at dksX5_find_1 6 rfl rfl)
theorem dX5_find_31 : decode cX5_find 31 = .ok (.istore_n 2, 1) := dk_61 (dk_at dksX5_find_1 9 rfl rfl)
theorem dX5_find_32 : decode cX5_find 32 = .ok (.aload_n 0, 1) := dk_42 (dk_at dksX5_find_1 10 rfl rfl)
theorem dX5_find_33 : decode cX5_find 33 = .ok (.iload_n 1, 1) := dk_27 (dk_at dksX5_find_1 11 rfl rfl)
theorem dX5_find_34 : decode cX5_find 34 = .ok (.invokevirtual 134, 3) := dk_182 0 134 (dk_at dksX5_find_1 12 rfl rfl)
theorem dX5_find_37 : decode cX5_find 37 = .ok (.ifCond .eq 8, 3) := dk_153 0 8 (dk_at dksX5_find_1 15 rfl rfl)
theorem dX5_find_40 : decode cX5_find 40 = .ok (.iload_n 2, 1) := dk_28 (dk_at dksX5_find_1 18 rfl rfl)
theorem dX5_find_41 : decode cX5_find 41 = .ok (.iconst 4, 1) := dk_7 (dk_at dksX5_find_1 19 rfl rfl)
theorem dX5_find_42 : decode cX5_find 42 = .ok (.if_icmp .ne 4, 3) := dk_160 0 4 (dk_at dksX5_find_1 20 rfl rfl)
theorem dX5_find_45 : decode cX5_find 45 = .ok (.return_, 1) := dk_177 (dk_at dksX5_find_1 23 rfl rfl)
theorem dX5_find_46 : decode cX5_find 46 = .ok (.aload_n 0, 1) := dk_42 (dk_at dksX5_find_2 0 rfl rfl)
theorem dX5_find_47 : decode cX5_find 47 = .ok (.iload_n 1, 1) := dk_27 (dk_at dksX5_find_2 1 rfl rfl)
theorem dX5_find_48 : decode cX5_find 48 = .ok (.iconst 0, 1) := dk_3 (dk_at dksX5_find_2 2 rfl rfl)
theorem dX5_find_49 : decode cX5_find 49 = .ok (.invokevirtual 130, 3) := dk_182 0 130 (dk_at dksX5_find_2 3 rfl rfl)
theorem dX5_find_52 : decode cX5_find 52 = .ok (.istore_n 3, 1) := dk_62 (dk_at dksX5_find_2 6 rfl rfl)
theorem dX5_find_53 : decode cX5_find 53 = .ok (.aload_n 0, 1) := dk_42 (dk_at dksX5_find_2 7 rfl rfl)
theorem dX5_find_54 : decode cX5_find 54 = .ok (.iload_n 1, 1) := dk_27 (dk_at dksX5_find_2 8 rfl rfl)
theorem dX5_find_55 : decode cX5_find 55 = .ok (.iconst 1, 1) := dk_4 (dk_at dksX5_find_2 9 rfl rfl)
theorem dX5_find_56 : decode cX5_find 56 = .ok (.invokevirtual 130, 3) := dk_182 0 130 (dk_at dksX5_find_2 10 rfl rfl)
theorem dX5_find_59 : decode cX5_find 59 = .ok (.istore 4, 2) := dk_54 4 (dk_at dksX5_find_2 13 rfl rfl)
theorem dX5_find_61 : decode cX5_find 61 = .ok (.aload_n 0, 1) := dk_42 (dk_at dksX5_find_2 15 rfl rfl)
theorem dX5_find_62 : decode cX5_find 62 = .ok (.iload_n 3, 1) := dk_29 (dk_at dksX5_find_2 16 rfl rfl)
theorem dX5_find_63 : decode cX5_find 63 = .ok (.iload 4, 2) := dk_21 4 (dk_at dksX5_find_2 17 rfl rfl)
theorem dX5_find_65 : decode cX5_find 65 = .ok (.iload_n 2, 1) := dk_28 (dk_at dksX5_find_2 19 rfl rfl)
theorem dX5_find_66 : decode cX5_find 66 = .ok (.iload_n 1, 1) := dk_27 (dk_at dksX5_find_2 20 rfl rfl)
theorem dX5_find_67 : decode cX5_find 67 = .ok (.invokevirtual 184, 3) := dk_182 0 184 (dk_at dksX5_find_2 21 rfl rfl)
theorem dX5_find_70 : decode cX5_find 70 = .ok (.aload_n 0, 1) := dk_42 (dk_at dksX5_find_3 0 rfl rfl)
theorem dX5_find_71 : decode cX5_find 71 = .ok (.getfield 141, 3) := dk_180 0 141 (dk_at dksX5_find_3 1 rfl rfl)
theorem dX5_find_74 : decode cX5_find 74 = .ok (.iconst (-1), 1) := dk_2 (dk_at dksX5_find_3 4 rfl rfl)
theorem dX5_find_75 : decode cX5_find 75 = .ok (.if_icmp .eq 20, 3) := dk_159 0 20 (dk_at dksX5_find_3 5 rfl rfl)
theorem dX5_find_78 : decode cX5_find 78 = .ok (.aload_n 0, 1) := dk_42 (dk_at dksX5_find_3 8 rfl rfl)
theorem dX5_find_79 : decode cX5_find 79 = .ok (.aload_n 0, 1) := dk_42 (dk_at dksX5_find_3 9 rfl rfl)
theorem dX5_find_80 : decode cX5_find 80 = .ok (.getfield 141, 3) := dk_180 0 141 (dk_at dksX5_find_3 10 rfl rfl)
theorem dX5_find_83 : decode cX5_find 83 = .ok (.putfield 169, 3) := dk_181 0 169 (dk_at dksX5_find_3 13 rfl rfl)
theorem dX5_find_86 : decode cX5_find 86 = .ok (.aload_n 0, 1) := dk_42 (dk_at dksX5_find_3 16 rfl rfl)
theorem dX5_find_87 : decode cX5_find 87 = .ok (.aload_n 0, 1) := dk_42 (dk_at dksX5_find_3 17 rfl rfl)
theorem dX5_find_88 : decode cX5_find 88 = .ok (.getfield 144, 3) := dk_180 0 144 (dk_at dksX5_find_3 18 rfl rfl)
theorem dX5_find_91 : decode cX5_find 91 = .ok (.putfield 166, 3) := dk_181 0 166 (dk_at dksX5_find_3 21 rfl rfl)
theorem dX5_find_94 : decode cX5_find 94 = .ok (.return_, 1) := dk_177 (dk_at dksX5_find_4 0 rfl rfl)
theorem dX5_find_95 : decode cX5_find 95 = .ok (.aload_n 0, 1) := dk_42 (dk_at dksX5_find_4 1 rfl rfl)
theorem dX5_find_96 : decode cX5_find 96 = .ok (.getfield 138, 3) := dk_180 0 138 (dk_at dksX5_find_4 2 rfl rfl)
theorem dX5_find_99 : decode cX5_find 99 = .ok (.istore 5, 2) := dk_54 5 (dk_at dksX5_find_4 5 rfl rfl)
theorem dX5_find_101 : decode cX5_find 101 = .ok (.aload_n 0, 1) := dk_42 (dk_at dksX5_find_4 7 rfl rfl)
theorem dX5_find_102 : decode cX5_find 102 = .ok (.getfield 9, 3) := dk_180 0 9 (dk_at dksX5_find_4 8 rfl rfl)
theorem dX5_find_105 : decode cX5_find 105 = .ok (.iconst 3, 1) := dk_6 (dk_at dksX5_find_4 11 rfl rfl)
theorem dX5_find_106 : decode cX5_find 106 = .ok (.iaload, 1) := dk_46 (dk_at dksX5_find_4 12 rfl rfl)
theorem dX5_find_107 : decode cX5_find 107 = .ok (.ifCond .le 48, 3) := dk_158 0 48 (dk_at dksX5_find_4 13 rfl rfl)
theorem dX5_find_110 : decode cX5_find 110 = .ok (.iconst 1, 1) := dk_4 (dk_at dksX5_find_4 16 rfl rfl)
theorem dX5_find_111 : decode cX5_find 111 = .ok (.istore 6, 2) := dk_54 6 (dk_at dksX5_find_4 17 rfl rfl)
theorem dX5_find_113 : decode cX5_find 113 = .ok (.iload 6, 2) := dk_21 6 (dk_at dksX5_find_4 19 rfl rfl)
theorem dX5_find_115 : decode cX5_find 115 = .ok (.iload 5, 2) := dk_21 5 (dk_at dksX5_find_4 21 rfl rfl)
theorem dX5_find_117 : decode cX5_find 117 = .ok (.if_icmp .gt 38, 3) := dk_163 0 38 (dk_at dksX5_find_5 0 rfl rfl)
theorem dX5_find_120 : decode cX5_find 120 = .ok (.aload_n 0, 1) := dk_42 (dk_at dksX5_find_5 3 rfl rfl)
theorem dX5_find_121 : decode cX5_find 121 = .ok (.iload_n 1, 1) := dk_27 (dk_at dksX5_find_5 4 rfl rfl)
theorem dX5_find_122 : decode cX5_find 122 = .ok (.iconst 1, 1) := dk_4 (dk_at dksX5_find_5 5 rfl rfl)
theorem dX5_find_123 : decode cX5_find 123 = .ok (.iload 6, 2) := dk_21 6 (dk_at dksX5_find_5 6 rfl rfl)
theorem dX5_find_125 : decode cX5_find 125 = .ok (.iconst (-1), 1) := dk_2 (dk_at dksX5_find_5 8 rfl rfl)
theorem dX5_find_126 : decode cX5_find 126 = .ok (.iload_n 3, 1) := dk_29 (dk_at dksX5_find_5 9 rfl rfl)
theorem dX5_find_127 : decode cX5_find 127 = .ok (.iload 6, 2) := dk_21 6 (dk_at dksX5_find_5 10 rfl rfl)
theorem dX5_find_129 : decode cX5_find 129 = .ok (.iload_n 2, 1) := dk_28 (dk_at dksX5_find_5 12 rfl rfl)
theorem dX5_find_130 : decode cX5_find 130 = .ok (.invokestatic 147, 3) := dk_184 0 147 (dk_at dksX5_find_5 13 rfl rfl)
theorem dX5_find_133 : decode cX5_find 133 = .ok (.imul, 1) := dk_104 (dk_at dksX5_find_5 16 rfl rfl)
theorem dX5_find_134 : decode cX5_find 134 = .ok (.iadd, 1) := dk_96 (dk_at dksX5_find_5 17 rfl rfl)
theorem dX5_find_135 : decode cX5_find 135 = .ok (.iload 4, 2) := dk_21 4 (dk_at dksX5_find_5 18 rfl rfl)
theorem dX5_find_137 : decode cX5_find 137 = .ok (.iload 6, 2) := dk_21 6 (dk_at dksX5_find_5 20 rfl rfl)
theorem dX5_find_139 : decode cX5_find 139 = .ok (.iload_n 2, 1) := dk_28 (dk_at dksX5_find_5 22 rfl rfl)
theorem dX5_find_140 : decode cX5_find 140 = .ok (.invokestatic 151, 3) := dk_184 0 151 (dk_at dksX5_find_6 0 rfl rfl)
theorem dX5_find_143 : decode cX5_find 143 = .ok (.imul, 1) := dk_104 (dk_at dksX5_find_6 3 rfl rfl)
theorem dX5_find_144 : decode cX5_find 144 = .ok (.iadd, 1) := dk_96 (dk_at dksX5_find_6 4 rfl rfl)
theorem dX5_find_145 : decode cX5_find 145 = .ok (.iconst 0, 1) := dk_3 (dk_at dksX5_find_6 5 rfl rfl)
theorem dX5_find_146 : decode cX5_find 146 = .ok (.invokevirtual 192, 3) := dk_182 0 192 (dk_at dksX5_find_6 6 rfl rfl)
theorem dX5_find_149 : decode cX5_find 149 = .ok (.iinc 6 1, 3) := dk_132 6 1 (dk_at dksX5_find_6 9 rfl rfl)
theorem dX5_find_152 : decode cX5_find 152 = .ok (.goto (-39), 3) := dk_167 255 217 (dk_at dksX5_find_6 12 rfl rfl)
theorem dX5_find_155 : decode cX5_find 155 = .ok (.aload_n 0, 1) := dk_42 (dk_at dksX5_find_6 15 rfl rfl)
theorem dX5_find_156 : decode cX5_find 156 = .ok (.getfield 169, 3) := dk_180 0 169 (dk_at dksX5_find_6 16 rfl rfl)
theorem dX5_find_159 : decode cX5_find 159 = .ok (.iconst (-1), 1) := dk_2 (dk_at dksX5_find_6 19 rfl rfl)
theorem dX5_find_160 : decode cX5_find 160 = .ok (.if_icmp .ne 13, 3) := dk_160 0 13 (dk_at dksX5_find_6 20 rfl rfl)
theorem dX5_find_163 : decode cX5_find 163 = .ok (.aload_n 0, 1) := dk_42 (dk_at dksX5_find_6 23 rfl rfl)
theorem dX5_find_164 : decode cX5_find 164 = .ok (.getfield 9, 3) := dk_180 0 9 (dk_at dksX5_find_7 0 rfl rfl)
theorem dX5_find_167 : decode cX5_find 167 = .ok (.iconst 3, 1) := dk_6 (dk_at dksX5_find_7 3 rfl rfl)
theorem dX5_find_168 : decode cX5_find 168 = .ok (.iaload, 1) := dk_46 (dk_at dksX5_find_7 4 rfl rfl)
theorem dX5_find_169 : decode cX5_find 169 = .ok (.iconst 2, 1) := dk_5 (dk_at dksX5_find_7 5 rfl rfl)
theorem dX5_find_170 : decode cX5_find 170 = .ok (.if_icmp .ge 4, 3) := dk_162 0 4 (dk_at dksX5_find_7 6 rfl rfl)
theorem dX5_find_173 : decode cX5_find 173 = .ok (.return_, 1) := dk_177 (dk_at dksX5_find_7 9 rfl rfl)
theorem dX5_find_174 : decode cX5_find 174 = .ok (.iconst 1, 1) := dk_4 (dk_at dksX5_find_7 10 rfl rfl)
theorem dX5_find_175 : decode cX5_find 175 = .ok (.istore 6, 2) := dk_54 6 (dk_at dksX5_find_7 11 rfl rfl)
theorem dX5_find_177 : decode cX5_find 177 = .ok (.iload 6, 2) := dk_21 6 (dk_at dksX5_find_7 13 rfl rfl)
theorem dX5_find_179 : decode cX5_find 179 = .ok (.iload 5, 2) := dk_21 5 (dk_at dksX5_find_7 15 rfl rfl)
theorem dX5_find_181 : decode cX5_find 181 = .ok (.if_icmp .gt 62, 3) := dk_163 0 62 (dk_at dksX5_find_7 17 rfl rfl)
theorem dX5_find_184 : decode cX5_find 184 = .ok (.iconst 0, 1) := dk_3 (dk_at dksX5_find_7 20 rfl rfl)
theorem dX5_find_185 : decode cX5_find 185 = .ok (.istore 7, 2) := dk_54 7 (dk_at dksX5_find_7 21 rfl rfl)
theorem dX5_find_187 : decode cX5_find 187 = .ok (.iload 7, 2) := dk_21 7 (dk_at dksX5_find_8 0 rfl rfl)
theorem dX5_find_189 : decode cX5_find 189 = .ok (.iconst 4, 1) := dk_7 (dk_at dksX5_find_8 2 rfl rfl)
theorem dX5_find_190 : decode cX5_find 190 = .ok (.if_icmp .ge 47, 3) := dk_162 0 47 (dk_at dksX5_find_8 3 rfl rfl)
theorem dX5_find_193 : decode cX5_find 193 = .ok (.iload 7, 2) := dk_21 7 (dk_at dksX5_find_8 6 rfl rfl)
theorem dX5_find_195 : decode cX5_find 195 = .ok (.iconst 2, 1) := dk_5 (dk_at dksX5_find_8 8 rfl rfl)
theorem dX5_find_196 : decode cX5_find 196 = .ok (.irem, 1) := dk_112 (dk_at dksX5_find_8 9 rfl rfl)
theorem dX5_find_197 : decode cX5_find 197 = .ok (.iload_n 2, 1) := dk_28 (dk_at dksX5_find_8 10 rfl rfl)
theorem dX5_find_198 : decode cX5_find 198 = .ok (.iconst 2, 1) := dk_5 (dk_at dksX5_find_8 11 rfl rfl)
theorem dX5_find_199 : decode cX5_find 199 = .ok (.irem, 1) := dk_112 (dk_at dksX5_find_8 12 rfl rfl)
theorem dX5_find_200 : decode cX5_find 200 = .ok (.if_icmp .eq 31, 3) := dk_159 0 31 (dk_at dksX5_find_8 13 rfl rfl)
theorem dX5_find_203 : decode cX5_find 203 = .ok (.aload_n 0, 1) := dk_42 (dk_at dksX5_find_8 16 rfl rfl)
theorem dX5_find_204 : decode cX5_find 204 = .ok (.iload_n 1, 1) := dk_27 (dk_at dksX5_find_8 17 rfl rfl)
theorem dX5_find_205 : decode cX5_find 205 = .ok (.iload 6, 2) := dk_21 6 (dk_at dksX5_find_8 18 rfl rfl)
theorem dX5_find_207 : decode cX5_find 207 = .ok (.iload 7, 2) := dk_21 7 (dk_at dksX5_find_8 20 rfl rfl)
theorem dX5_find_209 : decode cX5_find 209 = .ok (.iload_n 3, 1) := dk_29 (dk_at dksX5_find_8 22 rfl rfl)
theorem dX5_find_210 : decode cX5_find 210 = .ok (.iload 6, 2) := dk_21 6 (dk_at dksX5_find_9 0 rfl rfl)
theorem dX5_find_212 : decode cX5_find 212 = .ok (.iload_n 2, 1) := dk_28 (dk_at dksX5_find_9 2 rfl rfl)
theorem dX5_find_213 : decode cX5_find 213 = .ok (.invokestatic 147, 3) := dk_184 0 147 (dk_at dksX5_find_9 3 rfl rfl)
theorem dX5_find_216 : decode cX5_find 216 = .ok (.imul, 1) := dk_104 (dk_at dksX5_find_9 6 rfl rfl)
theorem dX5_find_217 : decode cX5_find 217 = .ok (.iadd, 1) := dk_96 (dk_at dksX5_find_9 7 rfl rfl)
theorem dX5_find_218 : decode cX5_find 218 = .ok (.iload 4, 2) := dk_21 4 (dk_at dksX5_find_9 8 rfl rfl)
theorem dX5_find_220 : decode cX5_find 220 = .ok (.iload 6, 2) := dk_21 6 (dk_at dksX5_find_9 10 rfl rfl)
theorem dX5_find_222 : decode cX5_find 222 = .ok (.iload_n 2, 1) := dk_28 (dk_at dksX5_find_9 12 rfl rfl)
theorem dX5_find_223 : decode cX5_find 223 = .ok (.invokestatic 151, 3) := dk_184 0 151 (dk_at dksX5_find_9 13 rfl rfl)
theorem dX5_find_226 : decode cX5_find 226 = .ok (.imul, 1) := dk_104 (dk_at dksX5_find_9 16 rfl rfl)
theorem dX5_find_227 : decode cX5_find 227 = .ok (.iadd, 1) := dk_96 (dk_at dksX5_find_9 17 rfl rfl)
theorem dX5_find_228 : decode cX5_find 228 = .ok (.invokevirtual 195, 3) := dk_182 0 195 (dk_at dksX5_find_9 18 rfl rfl)
theorem dX5_find_231 : decode cX5_find 231 = .ok (.iinc 7 1, 3) := dk_132 7 1 (dk_at dksX5_find_9 21 rfl rfl)
theorem dX5_find_234 : decode cX5_find 234 = .ok (.goto (-47), 3) := dk_167 255 209 (dk_at dksX5_find_10 0 rfl rfl)
theorem dX5_find_237 : decode cX5_find 237 = .ok (.iinc 6 1, 3) := dk_132 6 1 (dk_at dksX5_find_10 3 rfl rfl)
theorem dX5_find_240 : decode cX5_find 240 = .ok (.goto (-63), 3) := dk_167 255 193 (dk_at dksX5_find_10 6 rfl rfl)
theorem dX5_find_243 : decode cX5_find 243 = .ok (.return_, 1) := dk_177 (dk_at dksX5_find_10 9 rfl rfl)
abbrev cX5_goes : ByteArray := prog_13_method_27_code
def yX5_goes : MethodName := ⟨RX5, "goes", "(IIZ)V"⟩
def dkwX5_goes_5 : List UInt8 := [21, 4, 79, 42, 89, 180, 0, 205, 4, 96, 181, 0, 205, 177]
abbrev dktX5_goes_5 : List UInt8 := dkwX5_goes_5 ++ []
def dkwX5_goes_4 : List UInt8 := [84, 42, 89, 180, 0, 202, 4, 96, 181, 0, 202, 29, 154, 0, 4, 177, 42, 180, 0, 54, 42, 180, 0, 205]
abbrev dktX5_goes_4 : List UInt8 := dkwX5_goes_4 ++ dktX5_goes_5
def dkwX5_goes_3 : List UInt8 := [180, 0, 202, 27, 79, 42, 180, 0, 51, 42, 180, 0, 202, 28, 79, 42, 180, 0, 57, 42, 180, 0, 202, 29]
abbrev dktX5_goes_3 : List UInt8 := dkwX5_goes_3 ++ dktX5_goes_4
def dkwX5_goes_2 : List UInt8 := [21, 4, 79, 42, 89, 180, 0, 199, 4, 96, 181, 0, 199, 132, 5, 1, 167, 255, 209, 42, 180, 0, 48, 42]
abbrev dktX5_goes_2 : List UInt8 := dkwX5_goes_2 ++ dktX5_goes_3
def dkwX5_goes_1 : List UInt8 := [16, 100, 28, 184, 0, 147, 104, 28, 184, 0, 151, 96, 96, 54, 4, 42, 180, 0, 45, 42, 180, 0, 199]
abbrev dktX5_goes_1 : List UInt8 := dkwX5_goes_1 ++ dktX5_goes_2
def dkwX5_goes_0 : List UInt8 := [42, 180, 0, 45, 42, 180, 0, 199, 4, 100, 46, 54, 4, 3, 54, 5, 21, 5, 27, 162, 0, 47, 21, 4]
abbrev dktX5_goes_0 : List UInt8 := dkwX5_goes_0 ++ dktX5_goes_1
theorem dksX5_goes_0 : cX5_goes.data.toList.drop 0 = dktX5_goes_0 := by decide +kernel
theorem dksX5_goes_1 : cX5_goes.data.toList.drop 24 = dktX5_goes_1 := dk_seg dksX5_goes_0 24 rfl rfl
theorem dksX5_goes_2 : cX5_goes.data.toList.drop 47 = dktX5_goes_2 := dk_seg dksX5_goes_1 23 rfl rfl
theorem dksX5_goes_3 : cX5_goes.data.toList.drop 71 = dktX5_goes_3 := dk_seg dksX5_goes_2 24 rfl rfl
theorem dksX5_goes_4 : cX5_goes.data.toList.drop 95 = dktX5_goes_4 := dk_seg dksX5_goes_3 24 rfl rfl
theorem dksX5_goes_5 : cX5_goes.data.toList.drop 119 = dktX5_goes_5 := dk_seg dksX5_goes_4 24 rfl rfl
theorem dX5_goes_0 : decode cX5_goes 0 = .ok (.aload_n 0, 1) := dk_42 (dk_at dksX5_goes_0 0 rfl rfl)
theorem dX5_goes_1 : decode cX5_goes 1 = .ok (.getfield 45, 3) := dk_180 0 45 (dk_at dksX5_goes_0 1 rfl rfl)
theorem dX5_goes_4 : decode cX5_goes 4 = .ok (.aload_n 0, 1) := dk_42 (dk_at dksX5_goes_0 4 rfl rfl)
theorem dX5_goes_5 : decode cX5_goes 5 = .ok (.getfield 199, 3) := dk_180 0 199 (dk_at dksX5_goes_0 5 rfl rfl)
theorem dX5_goes_8 : decode cX5_goes 8 = .ok (.iconst 1, 1) := dk_4 (dk_at dksX5_goes_0 8 rfl rfl)
theorem dX5_goes_9 : decode cX5_goes 9 = .ok (.isub, 1) := dk_100 (dk_at dksX5_goes_0 9 rfl rfl)
theorem dX5_goes_10 : decode cX5_goes 10 = .ok (.iaload, 1) := dk_46 (dk_at dksX5_goes_0 10 rfl rfl)
theorem dX5_goes_11 : decode cX5_goes 11 = .ok (.istore 4, 2) := dk_54 4 (dk_at dksX5_goes_0 11 rfl rfl)
theorem dX5_goes_13 : decode cX5_goes 13 = .ok (.iconst 0, 1) := dk_3 (dk_at dksX5_goes_0 13 rfl rfl)
theorem dX5_goes_14 : decode cX5_goes 14 = .ok (.istore 5, 2) := dk_54 5 (dk_at dksX5_goes_0 14 rfl rfl)
theorem dX5_goes_16 : decode cX5_goes 16 = .ok (.iload 5, 2) := dk_21 5 (dk_at dksX5_goes_0 16 rfl rfl)
theorem dX5_goes_18 : decode cX5_goes 18 = .ok (.iload_n 1, 1) := dk_27 (dk_at dksX5_goes_0 18 rfl rfl)
theorem dX5_goes_19 : decode cX5_goes 19 = .ok (.if_icmp .ge 47, 3) := dk_162 0 47 (dk_at dksX5_goes_0 19 rfl rfl)
theorem dX5_goes_22 : decode cX5_goes 22 = .ok (.iload 4, 2) := dk_21 4 (dk_at dksX5_goes_0 22 rfl rfl)
theorem dX5_goes_24 : decode cX5_goes 24 = .ok (.bipush 100, 2) := dk_16 100 (dk_at dksX5_goes_1 0 rfl rfl)
theorem dX5_goes_26 : decode cX5_goes 26 = .ok (.iload_n 2, 1) := dk_28 (dk_at dksX5_goes_1 2 rfl rfl)
theorem dX5_goes_27 : decode cX5_goes 27 = .ok (.invokestatic 147, 3) := dk_184 0 147 (dk_at dksX5_goes_1 3 rfl rfl)
theorem dX5_goes_30 : decode cX5_goes 30 = .ok (.imul, 1) := dk_104 (dk_at dksX5_goes_1 6 rfl rfl)
theorem dX5_goes_31 : decode cX5_goes 31 = .ok (.iload_n 2, 1) := dk_28 (dk_at dksX5_goes_1 7 rfl rfl)
theorem dX5_goes_32 : decode cX5_goes 32 = .ok (.invokestatic 151, 3) := dk_184 0 151 (dk_at dksX5_goes_1 8 rfl rfl)
theorem dX5_goes_35 : decode cX5_goes 35 = .ok (.iadd, 1) := dk_96 (dk_at dksX5_goes_1 11 rfl rfl)
theorem dX5_goes_36 : decode cX5_goes 36 = .ok (.iadd, 1) := dk_96 (dk_at dksX5_goes_1 12 rfl rfl)
theorem dX5_goes_37 : decode cX5_goes 37 = .ok (.istore 4, 2) := dk_54 4 (dk_at dksX5_goes_1 13 rfl rfl)
theorem dX5_goes_39 : decode cX5_goes 39 = .ok (.aload_n 0, 1) := dk_42 (dk_at dksX5_goes_1 15 rfl rfl)
theorem dX5_goes_40 : decode cX5_goes 40 = .ok (.getfield 45, 3) := dk_180 0 45 (dk_at dksX5_goes_1 16 rfl rfl)
theorem dX5_goes_43 : decode cX5_goes 43 = .ok (.aload_n 0, 1) := dk_42 (dk_at dksX5_goes_1 19 rfl rfl)
theorem dX5_goes_44 : decode cX5_goes 44 = .ok (.getfield 199, 3) := dk_180 0 199 (dk_at dksX5_goes_1 20 rfl rfl)
theorem dX5_goes_47 : decode cX5_goes 47 = .ok (.iload 4, 2) := dk_21 4 (dk_at dksX5_goes_2 0 rfl rfl)
theorem dX5_goes_49 : decode cX5_goes 49 = .ok (.iastore, 1) := dk_79 (dk_at dksX5_goes_2 2 rfl rfl)
theorem dX5_goes_50 : decode cX5_goes 50 = .ok (.aload_n 0, 1) := dk_42 (dk_at dksX5_goes_2 3 rfl rfl)
theorem dX5_goes_51 : decode cX5_goes 51 = .ok (.dup, 1) := dk_89 (dk_at dksX5_goes_2 4 rfl rfl)
theorem dX5_goes_52 : decode cX5_goes 52 = .ok (.getfield 199, 3) := dk_180 0 199 (dk_at dksX5_goes_2 5 rfl rfl)
theorem dX5_goes_55 : decode cX5_goes 55 = .ok (.iconst 1, 1) := dk_4 (dk_at dksX5_goes_2 8 rfl rfl)
theorem dX5_goes_56 : decode cX5_goes 56 = .ok (.iadd, 1) := dk_96 (dk_at dksX5_goes_2 9 rfl rfl)
theorem dX5_goes_57 : decode cX5_goes 57 = .ok (.putfield 199, 3) := dk_181 0 199 (dk_at dksX5_goes_2 10 rfl rfl)
theorem dX5_goes_60 : decode cX5_goes 60 = .ok (.iinc 5 1, 3) := dk_132 5 1 (dk_at dksX5_goes_2 13 rfl rfl)
theorem dX5_goes_63 : decode cX5_goes 63 = .ok (.goto (-47), 3) := dk_167 255 209 (dk_at dksX5_goes_2 16 rfl rfl)
theorem dX5_goes_66 : decode cX5_goes 66 = .ok (.aload_n 0, 1) := dk_42 (dk_at dksX5_goes_2 19 rfl rfl)
theorem dX5_goes_67 : decode cX5_goes 67 = .ok (.getfield 48, 3) := dk_180 0 48 (dk_at dksX5_goes_2 20 rfl rfl)
theorem dX5_goes_70 : decode cX5_goes 70 = .ok (.aload_n 0, 1) := dk_42 (dk_at dksX5_goes_2 23 rfl rfl)
theorem dX5_goes_71 : decode cX5_goes 71 = .ok (.getfield 202, 3) := dk_180 0 202 (dk_at dksX5_goes_3 0 rfl rfl)
theorem dX5_goes_74 : decode cX5_goes 74 = .ok (.iload_n 1, 1) := dk_27 (dk_at dksX5_goes_3 3 rfl rfl)
theorem dX5_goes_75 : decode cX5_goes 75 = .ok (.iastore, 1) := dk_79 (dk_at dksX5_goes_3 4 rfl rfl)
theorem dX5_goes_76 : decode cX5_goes 76 = .ok (.aload_n 0, 1) := dk_42 (dk_at dksX5_goes_3 5 rfl rfl)
theorem dX5_goes_77 : decode cX5_goes 77 = .ok (.getfield 51, 3) := dk_180 0 51 (dk_at dksX5_goes_3 6 rfl rfl)
theorem dX5_goes_80 : decode cX5_goes 80 = .ok (.aload_n 0, 1) := dk_42 (dk_at dksX5_goes_3 9 rfl rfl)
theorem dX5_goes_81 : decode cX5_goes 81 = .ok (.getfield 202, 3) := dk_180 0 202 (dk_at dksX5_goes_3 10 rfl rfl)
theorem dX5_goes_84 : decode cX5_goes 84 = .ok (.iload_n 2, 1) := dk_28 (dk_at dksX5_goes_3 13 rfl rfl)
theorem dX5_goes_85 : decode cX5_goes 85 = .ok (.iastore, 1) := dk_79 (dk_at dksX5_goes_3 14 rfl rfl)
theorem dX5_goes_86 : decode cX5_goes 86 = .ok (.aload_n 0, 1) := dk_42 (dk_at dksX5_goes_3 15 rfl rfl)
theorem dX5_goes_87 : decode cX5_goes 87 = .ok (.getfield 57, 3) := dk_180 0 57 (dk_at dksX5_goes_3 16 rfl rfl)
theorem dX5_goes_90 : decode cX5_goes 90 = .ok (.aload_n 0, 1) := dk_42 (dk_at dksX5_goes_3 19 rfl rfl)
theorem dX5_goes_91 : decode cX5_goes 91 = .ok (.getfield 202, 3) := dk_180 0 202 (dk_at dksX5_goes_3 20 rfl rfl)
theorem dX5_goes_94 : decode cX5_goes 94 = .ok (.iload_n 3, 1) := dk_29 (dk_at dksX5_goes_3 23 rfl rfl)
theorem dX5_goes_95 : decode cX5_goes 95 = .ok (.bastore, 1) := dk_84 (dk_at dksX5_goes_4 0 rfl rfl)
theorem dX5_goes_96 : decode cX5_goes 96 = .ok (.aload_n 0, 1) := dk_42 (dk_at dksX5_goes_4 1 rfl rfl)
theorem dX5_goes_97 : decode cX5_goes 97 = .ok (.dup, 1) := dk_89 (dk_at dksX5_goes_4 2 rfl rfl)
theorem dX5_goes_98 : decode cX5_goes 98 = .ok (.getfield 202, 3) := dk_180 0 202 (dk_at dksX5_goes_4 3 rfl rfl)
theorem dX5_goes_101 : decode cX5_goes 101 = .ok (.iconst 1, 1) := dk_4 (dk_at dksX5_goes_4 6 rfl rfl)
theorem dX5_goes_102 : decode cX5_goes 102 = .ok (.iadd, 1) := dk_96 (dk_at dksX5_goes_4 7 rfl rfl)
theorem dX5_goes_103 : decode cX5_goes 103 = .ok (.putfield 202, 3) := dk_181 0 202 (dk_at dksX5_goes_4 8 rfl rfl)
theorem dX5_goes_106 : decode cX5_goes 106 = .ok (.iload_n 3, 1) := dk_29 (dk_at dksX5_goes_4 11 rfl rfl)
theorem dX5_goes_107 : decode cX5_goes 107 = .ok (.ifCond .ne 4, 3) := dk_154 0 4 (dk_at dksX5_goes_4 12 rfl rfl)
theorem dX5_goes_110 : decode cX5_goes 110 = .ok (.return_, 1) := dk_177 (dk_at dksX5_goes_4 15 rfl rfl)
theorem dX5_goes_111 : decode cX5_goes 111 = .ok (.aload_n 0, 1) := dk_42 (dk_at dksX5_goes_4 16 rfl rfl)
theorem dX5_goes_112 : decode cX5_goes 112 = .ok (.getfield 54, 3) := dk_180 0 54 (dk_at dksX5_goes_4 17 rfl rfl)
theorem dX5_goes_115 : decode cX5_goes 115 = .ok (.aload_n 0, 1) := dk_42 (dk_at dksX5_goes_4 20 rfl rfl)
theorem dX5_goes_116 : decode cX5_goes 116 = .ok (.getfield 205, 3) := dk_180 0 205 (dk_at dksX5_goes_4 21 rfl rfl)
theorem dX5_goes_119 : decode cX5_goes 119 = .ok (.iload 4, 2) := dk_21 4 (dk_at dksX5_goes_5 0 rfl rfl)
theorem dX5_goes_121 : decode cX5_goes 121 = .ok (.iastore, 1) := dk_79 (dk_at dksX5_goes_5 2 rfl rfl)
theorem dX5_goes_122 : decode cX5_goes 122 = .ok (.aload_n 0, 1) := dk_42 (dk_at dksX5_goes_5 3 rfl rfl)
theorem dX5_goes_123 : decode cX5_goes 123 = .ok (.dup, 1) := dk_89 (dk_at dksX5_goes_5 4 rfl rfl)
theorem dX5_goes_124 : decode cX5_goes 124 = .ok (.getfield 205, 3) := dk_180 0 205 (dk_at dksX5_goes_5 5 rfl rfl)
theorem dX5_goes_127 : decode cX5_goes 127 = .ok (.iconst 1, 1) := dk_4 (dk_at dksX5_goes_5 8 rfl rfl)
theorem dX5_goes_128 : decode cX5_goes 128 = .ok (.iadd, 1) := dk_96 (dk_at dksX5_goes_5 9 rfl rfl)
theorem dX5_goes_129 : decode cX5_goes 129 = .ok (.putfield 205, 3) := dk_181 0 205 (dk_at dksX5_goes_5 10 rfl rfl)
theorem dX5_goes_132 : decode cX5_goes 132 = .ok (.return_, 1) := dk_177 (dk_at dksX5_goes_5 13 rfl rfl)
abbrev cX5_walk : ByteArray := prog_13_method_29_code
def yX5_walk : MethodName := ⟨RX5, "walk", "(I)V"⟩
def dkwX5_walk_8 : List UInt8 := [180, 0, 169, 61, 167, 255, 78, 42, 5, 181, 0, 214, 42, 28, 181, 0, 217, 177]
abbrev dktX5_walk_8 : List UInt8 := dkwX5_walk_8 ++ []
def dkwX5_walk_7 : List UInt8 := [180, 0, 175, 4, 160, 0, 10, 42, 180, 0, 178, 167, 0, 7, 42, 180, 0, 181, 3, 182, 0, 232, 42]
abbrev dktX5_walk_7 : List UInt8 := dkwX5_walk_7 ++ dktX5_walk_8
def dkwX5_walk_6 : List UInt8 := [180, 0, 178, 4, 182, 0, 232, 42, 42, 180, 0, 166, 42, 180, 0, 175, 154, 0, 7, 29, 167, 0, 22, 42]
abbrev dktX5_walk_6 : List UInt8 := dkwX5_walk_6 ++ dktX5_walk_7
def dkwX5_walk_5 : List UInt8 := [42, 180, 0, 160, 29, 4, 182, 0, 232, 42, 180, 0, 175, 5, 160, 0, 16, 42, 42, 180, 0, 163, 42]
abbrev dktX5_walk_5 : List UInt8 := dkwX5_walk_5 ++ dktX5_walk_6
def dkwX5_walk_4 : List UInt8 := [182, 0, 172, 184, 0, 227, 181, 0, 211, 42, 28, 6, 182, 0, 130, 62, 42, 180, 0, 175, 158, 0, 13, 42]
abbrev dktX5_walk_4 : List UInt8 := dkwX5_walk_4 ++ dktX5_walk_5
def dkwX5_walk_3 : List UInt8 := [6, 182, 0, 130, 7, 160, 0, 7, 3, 167, 0, 4, 4, 181, 0, 214, 177, 42, 42, 180, 0, 211, 42]
abbrev dktX5_walk_3 : List UInt8 := dkwX5_walk_3 ++ dktX5_walk_4
def dkwX5_walk_2 : List UInt8 := [181, 0, 208, 42, 28, 181, 0, 217, 42, 28, 182, 0, 224, 42, 180, 0, 169, 2, 160, 0, 23, 42, 42, 28]
abbrev dktX5_walk_2 : List UInt8 := dkwX5_walk_2 ++ dktX5_walk_3
def dkwX5_walk_1 : List UInt8 := [42, 180, 0, 60, 28, 4, 84, 42, 180, 0, 42, 42, 180, 0, 208, 28, 79, 42, 89, 180, 0, 208, 4, 96]
abbrev dktX5_walk_1 : List UInt8 := dkwX5_walk_1 ++ dktX5_walk_2
def dkwX5_walk_0 : List UInt8 := [42, 27, 182, 0, 220, 42, 180, 0, 199, 154, 0, 4, 177, 27, 61, 42, 180, 0, 60, 28, 51, 154, 0, 175]
abbrev dktX5_walk_0 : List UInt8 := dkwX5_walk_0 ++ dktX5_walk_1
theorem dksX5_walk_0 : cX5_walk.data.toList.drop 0 = dktX5_walk_0 := by decide +kernel
theorem dksX5_walk_1 : cX5_walk.data.toList.drop 24 = dktX5_walk_1 := dk_seg dksX5_walk_0 24 rfl rfl
theorem dksX5_walk_2 : cX5_walk.data.toList.drop 48 = dktX5_walk_2 := dk_seg dksX5_walk_1 24 rfl rfl
theorem dksX5_walk_3 : cX5_walk.data.toList.drop 72 = dktX5_walk_3 := dk_seg dksX5_walk_2 24 rfl rfl
theorem dksX5_walk_4 : cX5_walk.data.toList.drop 95 = dktX5_walk_4 := dk_seg dksX5_walk_3 23 rfl rfl
theorem dksX5_walk_5 : cX5_walk.data.toList.drop 119 = dktX5_walk_5 := dk_seg dksX5_walk_4 24 rfl rfl
theorem dksX5_walk_6 : cX5_walk.data.toList.drop 142 = dktX5_walk_6 := dk_seg dksX5_walk_5 23 rfl rfl
theorem dksX5_walk_7 : cX5_walk.data.toList.drop 166 = dktX5_walk_7 := dk_seg dksX5_walk_6 24 rfl rfl
theorem dksX5_walk_8 : cX5_walk.data.toList.drop 189 = dktX5_walk_8 := dk_seg dksX5_walk_7 23 rfl rfl
theorem dX5_walk_0 : decode cX5_walk 0 = .ok (.aload_n 0, 1) := dk_42 (dk_at dksX5_walk_0 0 rfl rfl)
theorem dX5_walk_1 : decode cX5_walk 1 = .ok (.iload_n 1, 1) := dk_27 (dk_at dksX5_walk_0 1 rfl rfl)
theorem dX5_walk_2 : decode cX5_walk 2 = .ok (.invokevirtual 220, 3) := dk_182 0 220 (dk_at dksX5_walk_0 2 rfl rfl)
theorem dX5_walk_5 : decode cX5_walk 5 = .ok (.aload_n 0, 1) := dk_42 (dk_at dksX5_walk_0 5 rfl rfl)
theorem dX5_walk_6 : decode cX5_walk 6 = .ok (.getfield 199, 3) := dk_180 0 199 (dk_at dksX5_walk_0 6 rfl rfl)
theorem dX5_walk_9 : decode cX5_walk 9 = .ok (.ifCond .ne 4, 3) := dk_154 0 4 (dk_at dksX5_walk_0 9 rfl rfl)
theorem dX5_walk_12 : decode cX5_walk 12 = .ok (.return_, 1) := dk_177 (dk_at dksX5_walk_0 12 rfl rfl)
theorem dX5_walk_13 : decode cX5_walk 13 = .ok (.iload_n 1, 1) := dk_27 (dk_at dksX5_walk_0 13 rfl rfl)
theorem dX5_walk_14 : decode cX5_walk 14 = .ok (.istore_n 2, 1) := dk_61 (dk_at dksX5_walk_0 14 rfl rfl)
theorem dX5_walk_15 : decode cX5_walk 15 = .ok (.aload_n 0, 1) := dk_42 (dk_at dksX5_walk_0 15 rfl rfl)
theorem dX5_walk_16 : decode cX5_walk 16 = .ok (.getfield 60, 3) := dk_180 0 60 (dk_at dksX5_walk_0 16 rfl rfl)
theorem dX5_walk_19 : decode cX5_walk 19 = .ok (.iload_n 2, 1) := dk_28 (dk_at dksX5_walk_0 19 rfl rfl)
theorem dX5_walk_20 : decode cX5_walk 20 = .ok (.baload, 1) := dk_51 (dk_at dksX5_walk_0 20 rfl rfl)
theorem dX5_walk_21 : decode cX5_walk 21 = .ok (.ifCond .ne 175, 3) := dk_154 0 175 (dk_at dksX5_walk_0 21 rfl rfl)
theorem dX5_walk_24 : decode cX5_walk 24 = .ok (.aload_n 0, 1) := dk_42 (dk_at dksX5_walk_1 0 rfl rfl)
theorem dX5_walk_25 : decode cX5_walk 25 = .ok (.getfield 60, 3) := dk_180 0 60 (dk_at dksX5_walk_1 1 rfl rfl)
theorem dX5_walk_28 : decode cX5_walk 28 = .ok (.iload_n 2, 1) := dk_28 (dk_at dksX5_walk_1 4 rfl rfl)
theorem dX5_walk_29 : decode cX5_walk 29 = .ok (.iconst 1, 1) := dk_4 (dk_at dksX5_walk_1 5 rfl rfl)
theorem dX5_walk_30 : decode cX5_walk 30 = .ok (.bastore, 1) := dk_84 (dk_at dksX5_walk_1 6 rfl rfl)
theorem dX5_walk_31 : decode cX5_walk 31 = .ok (.aload_n 0, 1) := dk_42 (dk_at dksX5_walk_1 7 rfl rfl)
theorem dX5_walk_32 : decode cX5_walk 32 = .ok (.getfield 42, 3) := dk_180 0 42 (dk_at dksX5_walk_1 8 rfl rfl)
theorem dX5_walk_35 : decode cX5_walk 35 = .ok (.aload_n 0, 1) := dk_42 (dk_at dksX5_walk_1 11 rfl rfl)
theorem dX5_walk_36 : decode cX5_walk 36 = .ok (.getfield 208, 3) := dk_180 0 208 (dk_at dksX5_walk_1 12 rfl rfl)
theorem dX5_walk_39 : decode cX5_walk 39 = .ok (.iload_n 2, 1) := dk_28 (dk_at dksX5_walk_1 15 rfl rfl)
theorem dX5_walk_40 : decode cX5_walk 40 = .ok (.iastore, 1) := dk_79 (dk_at dksX5_walk_1 16 rfl rfl)
theorem dX5_walk_41 : decode cX5_walk 41 = .ok (.aload_n 0, 1) := dk_42 (dk_at dksX5_walk_1 17 rfl rfl)
theorem dX5_walk_42 : decode cX5_walk 42 = .ok (.dup, 1) := dk_89 (dk_at dksX5_walk_1 18 rfl rfl)
theorem dX5_walk_43 : decode cX5_walk 43 = .ok (.getfield 208, 3) := dk_180 0 208 (dk_at dksX5_walk_1 19 rfl rfl)
theorem dX5_walk_46 : decode cX5_walk 46 = .ok (.iconst 1, 1) := dk_4 (dk_at dksX5_walk_1 22 rfl rfl)
theorem dX5_walk_47 : decode cX5_walk 47 = .ok (.iadd, 1) := dk_96 (dk_at dksX5_walk_1 23 rfl rfl)
theorem dX5_walk_48 : decode cX5_walk 48 = .ok (.putfield 208, 3) := dk_181 0 208 (dk_at dksX5_walk_2 0 rfl rfl)
theorem dX5_walk_51 : decode cX5_walk 51 = .ok (.aload_n 0, 1) := dk_42 (dk_at dksX5_walk_2 3 rfl rfl)
theorem dX5_walk_52 : decode cX5_walk 52 = .ok (.iload_n 2, 1) := dk_28 (dk_at dksX5_walk_2 4 rfl rfl)
theorem dX5_walk_53 : decode cX5_walk 53 = .ok (.putfield 217, 3) := dk_181 0 217 (dk_at dksX5_walk_2 5 rfl rfl)
theorem dX5_walk_56 : decode cX5_walk 56 = .ok (.aload_n 0, 1) := dk_42 (dk_at dksX5_walk_2 8 rfl rfl)
theorem dX5_walk_57 : decode cX5_walk 57 = .ok (.iload_n 2, 1) := dk_28 (dk_at dksX5_walk_2 9 rfl rfl)
theorem dX5_walk_58 : decode cX5_walk 58 = .ok (.invokevirtual 224, 3) := dk_182 0 224 (dk_at dksX5_walk_2 10 rfl rfl)
theorem dX5_walk_61 : decode cX5_walk 61 = .ok (.aload_n 0, 1) := dk_42 (dk_at dksX5_walk_2 13 rfl rfl)
theorem dX5_walk_62 : decode cX5_walk 62 = .ok (.getfield 169, 3) := dk_180 0 169 (dk_at dksX5_walk_2 14 rfl rfl)
theorem dX5_walk_65 : decode cX5_walk 65 = .ok (.iconst (-1), 1) := dk_2 (dk_at dksX5_walk_2 17 rfl rfl)
theorem dX5_walk_66 : decode cX5_walk 66 = .ok (.if_icmp .ne 23, 3) := dk_160 0 23 (dk_at dksX5_walk_2 18 rfl rfl)
theorem dX5_walk_69 : decode cX5_walk 69 = .ok (.aload_n 0, 1) := dk_42 (dk_at dksX5_walk_2 21 rfl rfl)
theorem dX5_walk_70 : decode cX5_walk 70 = .ok (.aload_n 0, 1) := dk_42 (dk_at dksX5_walk_2 22 rfl rfl)
theorem dX5_walk_71 : decode cX5_walk 71 = .ok (.iload_n 2, 1) := dk_28 (dk_at dksX5_walk_2 23 rfl rfl)
theorem dX5_walk_72 : decode cX5_walk 72 = .ok (.iconst 3, 1) := dk_6 (dk_at dksX5_walk_3 0 rfl rfl)
theorem dX5_walk_73 : decode cX5_walk 73 = .ok (.invokevirtual 130, 3) := dk_182 0 130 (dk_at dksX5_walk_3 1 rfl rfl)
theorem dX5_walk_76 : decode cX5_walk 76 = .ok (.iconst 4, 1) := dk_7 (dk_at dksX5_walk_3 4 rfl rfl)
theorem dX5_walk_77 : decode cX5_walk 77 = .ok (.if_icmp .ne 7, 3) := dk_160 0 7 (dk_at dksX5_walk_3 5 rfl rfl)
theorem dX5_walk_80 : decode cX5_walk 80 = .ok (.iconst 0, 1) := dk_3 (dk_at dksX5_walk_3 8 rfl rfl)
theorem dX5_walk_81 : decode cX5_walk 81 = .ok (.goto 4, 3) := dk_167 0 4 (dk_at dksX5_walk_3 9 rfl rfl)
theorem dX5_walk_84 : decode cX5_walk 84 = .ok (.iconst 1, 1) := dk_4 (dk_at dksX5_walk_3 12 rfl rfl)
theorem dX5_walk_85 : decode cX5_walk 85 = .ok (.putfield 214, 3) := dk_181 0 214 (dk_at dksX5_walk_3 13 rfl rfl)
theorem dX5_walk_88 : decode cX5_walk 88 = .ok (.return_, 1) := dk_177 (dk_at dksX5_walk_3 16 rfl rfl)
theorem dX5_walk_89 : decode cX5_walk 89 = .ok (.aload_n 0, 1) := dk_42 (dk_at dksX5_walk_3 17 rfl rfl)
theorem dX5_walk_90 : decode cX5_walk 90 = .ok (.aload_n 0, 1) := dk_42 (dk_at dksX5_walk_3 18 rfl rfl)
theorem dX5_walk_91 : decode cX5_walk 91 = .ok (.getfield 211, 3) := dk_180 0 211 (dk_at dksX5_walk_3 19 rfl rfl)
theorem dX5_walk_94 : decode cX5_walk 94 = .ok (.aload_n 0, 1) := dk_42 (dk_at dksX5_walk_3 22 rfl rfl)
theorem dX5_walk_95 : decode cX5_walk 95 = .ok (.invokevirtual 172, 3) := dk_182 0 172 (dk_at dksX5_walk_4 0 rfl rfl)
theorem dX5_walk_98 : decode cX5_walk 98 = .ok (.invokestatic 227, 3) := dk_184 0 227 (dk_at dksX5_walk_4 3 rfl rfl)
theorem dX5_walk_101 : decode cX5_walk 101 = .ok (.putfield 211, 3) := dk_181 0 211 (dk_at dksX5_walk_4 6 rfl rfl)
theorem dX5_walk_104 : decode cX5_walk 104 = .ok (.aload_n 0, 1) := dk_42 (dk_at dksX5_walk_4 9 rfl rfl)
theorem dX5_walk_105 : decode cX5_walk 105 = .ok (.iload_n 2, 1) := dk_28 (dk_at dksX5_walk_4 10 rfl rfl)
theorem dX5_walk_106 : decode cX5_walk 106 = .ok (.iconst 3, 1) := dk_6 (dk_at dksX5_walk_4 11 rfl rfl)
theorem dX5_walk_107 : decode cX5_walk 107 = .ok (.invokevirtual 130, 3) := dk_182 0 130 (dk_at dksX5_walk_4 12 rfl rfl)
theorem dX5_walk_110 : decode cX5_walk 110 = .ok (.istore_n 3, 1) := dk_62 (dk_at dksX5_walk_4 15 rfl rfl)
theorem dX5_walk_111 : decode cX5_walk 111 = .ok (.aload_n 0, 1) := dk_42 (dk_at dksX5_walk_4 16 rfl rfl)
theorem dX5_walk_112 : decode cX5_walk 112 = .ok (.getfield 175, 3) := dk_180 0 175 (dk_at dksX5_walk_4 17 rfl rfl)
theorem dX5_walk_115 : decode cX5_walk 115 = .ok (.ifCond .le 13, 3) := dk_158 0 13 (dk_at dksX5_walk_4 20 rfl rfl)
theorem dX5_walk_118 : decode cX5_walk 118 = .ok (.aload_n 0, 1) := dk_42 (dk_at dksX5_walk_4 23 rfl rfl)
theorem dX5_walk_119 : decode cX5_walk 119 = .ok (.aload_n 0, 1) := dk_42 (dk_at dksX5_walk_5 0 rfl rfl)
theorem dX5_walk_120 : decode cX5_walk 120 = .ok (.getfield 160, 3) := dk_180 0 160 (dk_at dksX5_walk_5 1 rfl rfl)
theorem dX5_walk_123 : decode cX5_walk 123 = .ok (.iload_n 3, 1) := dk_29 (dk_at dksX5_walk_5 4 rfl rfl)
theorem dX5_walk_124 : decode cX5_walk 124 = .ok (.iconst 1, 1) := dk_4 (dk_at dksX5_walk_5 5 rfl rfl)
theorem dX5_walk_125 : decode cX5_walk 125 = .ok (.invokevirtual 232, 3) := dk_182 0 232 (dk_at dksX5_walk_5 6 rfl rfl)
theorem dX5_walk_128 : decode cX5_walk 128 = .ok (.aload_n 0, 1) := dk_42 (dk_at dksX5_walk_5 9 rfl rfl)
theorem dX5_walk_129 : decode cX5_walk 129 = .ok (.getfield 175, 3) := dk_180 0 175 (dk_at dksX5_walk_5 10 rfl rfl)
theorem dX5_walk_132 : decode cX5_walk 132 = .ok (.iconst 2, 1) := dk_5 (dk_at dksX5_walk_5 13 rfl rfl)
theorem dX5_walk_133 : decode cX5_walk 133 = .ok (.if_icmp .ne 16, 3) := dk_160 0 16 (dk_at dksX5_walk_5 14 rfl rfl)
theorem dX5_walk_136 : decode cX5_walk 136 = .ok (.aload_n 0, 1) := dk_42 (dk_at dksX5_walk_5 17 rfl rfl)
theorem dX5_walk_137 : decode cX5_walk 137 = .ok (.aload_n 0, 1) := dk_42 (dk_at dksX5_walk_5 18 rfl rfl)
theorem dX5_walk_138 : decode cX5_walk 138 = .ok (.getfield 163, 3) := dk_180 0 163 (dk_at dksX5_walk_5 19 rfl rfl)
theorem dX5_walk_141 : decode cX5_walk 141 = .ok (.aload_n 0, 1) := dk_42 (dk_at dksX5_walk_5 22 rfl rfl)
theorem dX5_walk_142 : decode cX5_walk 142 = .ok (.getfield 178, 3) := dk_180 0 178 (dk_at dksX5_walk_6 0 rfl rfl)
theorem dX5_walk_145 : decode cX5_walk 145 = .ok (.iconst 1, 1) := dk_4 (dk_at dksX5_walk_6 3 rfl rfl)
theorem dX5_walk_146 : decode cX5_walk 146 = .ok (.invokevirtual 232, 3) := dk_182 0 232 (dk_at dksX5_walk_6 4 rfl rfl)
theorem dX5_walk_149 : decode cX5_walk 149 = .ok (.aload_n 0, 1) := dk_42 (dk_at dksX5_walk_6 7 rfl rfl)
theorem dX5_walk_150 : decode cX5_walk 150 = .ok (.aload_n 0, 1) := dk_42 (dk_at dksX5_walk_6 8 rfl rfl)
theorem dX5_walk_151 : decode cX5_walk 151 = .ok (.getfield 166, 3) := dk_180 0 166 (dk_at dksX5_walk_6 9 rfl rfl)
theorem dX5_walk_154 : decode cX5_walk 154 = .ok (.aload_n 0, 1) := dk_42 (dk_at dksX5_walk_6 12 rfl rfl)
theorem dX5_walk_155 : decode cX5_walk 155 = .ok (.getfield 175, 3) := dk_180 0 175 (dk_at dksX5_walk_6 13 rfl rfl)
theorem dX5_walk_158 : decode cX5_walk 158 = .ok (.ifCond .ne 7, 3) := dk_154 0 7 (dk_at dksX5_walk_6 16 rfl rfl)
theorem dX5_walk_161 : decode cX5_walk 161 = .ok (.iload_n 3, 1) := dk_29 (dk_at dksX5_walk_6 19 rfl rfl)
theorem dX5_walk_162 : decode cX5_walk 162 = .ok (.goto 22, 3) := dk_167 0 22 (dk_at dksX5_walk_6 20 rfl rfl)
theorem dX5_walk_165 : decode cX5_walk 165 = .ok (.aload_n 0, 1) := dk_42 (dk_at dksX5_walk_6 23 rfl rfl)
theorem dX5_walk_166 : decode cX5_walk 166 = .ok (.getfield 175, 3) := dk_180 0 175 (dk_at dksX5_walk_7 0 rfl rfl)
theorem dX5_walk_169 : decode cX5_walk 169 = .ok (.iconst 1, 1) := dk_4 (dk_at dksX5_walk_7 3 rfl rfl)
theorem dX5_walk_170 : decode cX5_walk 170 = .ok (.if_icmp .ne 10, 3) := dk_160 0 10 (dk_at dksX5_walk_7 4 rfl rfl)
theorem dX5_walk_173 : decode cX5_walk 173 = .ok (.aload_n 0, 1) := dk_42 (dk_at dksX5_walk_7 7 rfl rfl)
theorem dX5_walk_174 : decode cX5_walk 174 = .ok (.getfield 178, 3) := dk_180 0 178 (dk_at dksX5_walk_7 8 rfl rfl)
theorem dX5_walk_177 : decode cX5_walk 177 = .ok (.goto 7, 3) := dk_167 0 7 (dk_at dksX5_walk_7 11 rfl rfl)
theorem dX5_walk_180 : decode cX5_walk 180 = .ok (.aload_n 0, 1) := dk_42 (dk_at dksX5_walk_7 14 rfl rfl)
theorem dX5_walk_181 : decode cX5_walk 181 = .ok (.getfield 181, 3) := dk_180 0 181 (dk_at dksX5_walk_7 15 rfl rfl)
theorem dX5_walk_184 : decode cX5_walk 184 = .ok (.iconst 0, 1) := dk_3 (dk_at dksX5_walk_7 18 rfl rfl)
theorem dX5_walk_185 : decode cX5_walk 185 = .ok (.invokevirtual 232, 3) := dk_182 0 232 (dk_at dksX5_walk_7 19 rfl rfl)
theorem dX5_walk_188 : decode cX5_walk 188 = .ok (.aload_n 0, 1) := dk_42 (dk_at dksX5_walk_7 22 rfl rfl)
theorem dX5_walk_189 : decode cX5_walk 189 = .ok (.getfield 169, 3) := dk_180 0 169 (dk_at dksX5_walk_8 0 rfl rfl)
theorem dX5_walk_192 : decode cX5_walk 192 = .ok (.istore_n 2, 1) := dk_61 (dk_at dksX5_walk_8 3 rfl rfl)
theorem dX5_walk_193 : decode cX5_walk 193 = .ok (.goto (-178), 3) := dk_167 255 78 (dk_at dksX5_walk_8 4 rfl rfl)
theorem dX5_walk_196 : decode cX5_walk 196 = .ok (.aload_n 0, 1) := dk_42 (dk_at dksX5_walk_8 7 rfl rfl)
theorem dX5_walk_197 : decode cX5_walk 197 = .ok (.iconst 2, 1) := dk_5 (dk_at dksX5_walk_8 8 rfl rfl)
theorem dX5_walk_198 : decode cX5_walk 198 = .ok (.putfield 214, 3) := dk_181 0 214 (dk_at dksX5_walk_8 9 rfl rfl)
theorem dX5_walk_201 : decode cX5_walk 201 = .ok (.aload_n 0, 1) := dk_42 (dk_at dksX5_walk_8 12 rfl rfl)
theorem dX5_walk_202 : decode cX5_walk 202 = .ok (.iload_n 2, 1) := dk_28 (dk_at dksX5_walk_8 13 rfl rfl)
theorem dX5_walk_203 : decode cX5_walk 203 = .ok (.putfield 217, 3) := dk_181 0 217 (dk_at dksX5_walk_8 14 rfl rfl)
theorem dX5_walk_206 : decode cX5_walk 206 = .ok (.return_, 1) := dk_177 (dk_at dksX5_walk_8 17 rfl rfl)
abbrev cX5_metBy : ByteArray := prog_13_method_33_code
def yX5_metBy : MethodName := ⟨RX5, "metBy", "(I)I"⟩
def dkwX5_metBy_0 : List UInt8 := [42, 42, 27, 182, 0, 249, 182, 0, 243, 42, 180, 0, 208, 172]
abbrev dktX5_metBy_0 : List UInt8 := dkwX5_metBy_0 ++ []
theorem dksX5_metBy_0 : cX5_metBy.data.toList.drop 0 = dktX5_metBy_0 := by decide +kernel
theorem dX5_metBy_0 : decode cX5_metBy 0 = .ok (.aload_n 0, 1) := dk_42 (dk_at dksX5_metBy_0 0 rfl rfl)
theorem dX5_metBy_1 : decode cX5_metBy 1 = .ok (.aload_n 0, 1) := dk_42 (dk_at dksX5_metBy_0 1 rfl rfl)
theorem dX5_metBy_2 : decode cX5_metBy 2 = .ok (.iload_n 1, 1) := dk_27 (dk_at dksX5_metBy_0 2 rfl rfl)
theorem dX5_metBy_3 : decode cX5_metBy 3 = .ok (.invokevirtual 249, 3) := dk_182 0 249 (dk_at dksX5_metBy_0 3 rfl rfl)
theorem dX5_metBy_6 : decode cX5_metBy 6 = .ok (.invokevirtual 243, 3) := dk_182 0 243 (dk_at dksX5_metBy_0 6 rfl rfl)
theorem dX5_metBy_9 : decode cX5_metBy 9 = .ok (.aload_n 0, 1) := dk_42 (dk_at dksX5_metBy_0 9 rfl rfl)
theorem dX5_metBy_10 : decode cX5_metBy 10 = .ok (.getfield 208, 3) := dk_180 0 208 (dk_at dksX5_metBy_0 10 rfl rfl)
theorem dX5_metBy_13 : decode cX5_metBy 13 = .ok (.ireturn, 1) := dk_172 (dk_at dksX5_metBy_0 13 rfl rfl)
abbrev cX5_isComplete : ByteArray := prog_13_method_34_code
def yX5_isComplete : MethodName := ⟨RX5, "isComplete", "(I)Z"⟩
def dkwX5_isComplete_1 : List UInt8 := [3, 172]
abbrev dktX5_isComplete_1 : List UInt8 := dkwX5_isComplete_1 ++ []
def dkwX5_isComplete_0 : List UInt8 := [42, 27, 4, 182, 0, 236, 61, 28, 158, 0, 16, 42, 27, 182, 0, 252, 28, 160, 0, 7, 4, 167, 0, 4]
abbrev dktX5_isComplete_0 : List UInt8 := dkwX5_isComplete_0 ++ dktX5_isComplete_1
theorem dksX5_isComplete_0 : cX5_isComplete.data.toList.drop 0 = dktX5_isComplete_0 := by decide +kernel
theorem dksX5_isComplete_1 : cX5_isComplete.data.toList.drop 24 = dktX5_isComplete_1 := dk_seg dksX5_isComplete_0 24 rfl rfl
theorem dX5_isComplete_0 : decode cX5_isComplete 0 = .ok (.aload_n 0, 1) := dk_42 (dk_at dksX5_isComplete_0 0 rfl rfl)
theorem dX5_isComplete_1 : decode cX5_isComplete 1 = .ok (.iload_n 1, 1) := dk_27 (dk_at dksX5_isComplete_0 1 rfl rfl)
theorem dX5_isComplete_2 : decode cX5_isComplete 2 = .ok (.iconst 1, 1) := dk_4 (dk_at dksX5_isComplete_0 2 rfl rfl)
theorem dX5_isComplete_3 : decode cX5_isComplete 3 = .ok (.invokevirtual 236, 3) := dk_182 0 236 (dk_at dksX5_isComplete_0 3 rfl rfl)
theorem dX5_isComplete_6 : decode cX5_isComplete 6 = .ok (.istore_n 2, 1) := dk_61 (dk_at dksX5_isComplete_0 6 rfl rfl)
theorem dX5_isComplete_7 : decode cX5_isComplete 7 = .ok (.iload_n 2, 1) := dk_28 (dk_at dksX5_isComplete_0 7 rfl rfl)
theorem dX5_isComplete_8 : decode cX5_isComplete 8 = .ok (.ifCond .le 16, 3) := dk_158 0 16 (dk_at dksX5_isComplete_0 8 rfl rfl)
theorem dX5_isComplete_11 : decode cX5_isComplete 11 = .ok (.aload_n 0, 1) := dk_42 (dk_at dksX5_isComplete_0 11 rfl rfl)
theorem dX5_isComplete_12 : decode cX5_isComplete 12 = .ok (.iload_n 1, 1) := dk_27 (dk_at dksX5_isComplete_0 12 rfl rfl)
theorem dX5_isComplete_13 : decode cX5_isComplete 13 = .ok (.invokevirtual 252, 3) := dk_182 0 252 (dk_at dksX5_isComplete_0 13 rfl rfl)
theorem dX5_isComplete_16 : decode cX5_isComplete 16 = .ok (.iload_n 2, 1) := dk_28 (dk_at dksX5_isComplete_0 16 rfl rfl)
theorem dX5_isComplete_17 : decode cX5_isComplete 17 = .ok (.if_icmp .ne 7, 3) := dk_160 0 7 (dk_at dksX5_isComplete_0 17 rfl rfl)
theorem dX5_isComplete_20 : decode cX5_isComplete 20 = .ok (.iconst 1, 1) := dk_4 (dk_at dksX5_isComplete_0 20 rfl rfl)
theorem dX5_isComplete_21 : decode cX5_isComplete 21 = .ok (.goto 4, 3) := dk_167 0 4 (dk_at dksX5_isComplete_0 21 rfl rfl)
theorem dX5_isComplete_24 : decode cX5_isComplete 24 = .ok (.iconst 0, 1) := dk_3 (dk_at dksX5_isComplete_1 0 rfl rfl)
theorem dX5_isComplete_25 : decode cX5_isComplete 25 = .ok (.ireturn, 1) := dk_172 (dk_at dksX5_isComplete_1 1 rfl rfl)
abbrev cX5_completeOnes : ByteArray := prog_13_method_79_code
def yX5_completeOnes : MethodName := ⟨RX5, "completeOnes", "()I"⟩
def dkwX5_completeOnes_1 : List UInt8 := [167, 255, 237, 27, 172]
abbrev dktX5_completeOnes_1 : List UInt8 := dkwX5_completeOnes_1 ++ []
def dkwX5_completeOnes_0 : List UInt8 := [3, 60, 3, 61, 28, 7, 162, 0, 20, 42, 28, 182, 1, 170, 153, 0, 6, 132, 1, 1, 132, 2, 1]
abbrev dktX5_completeOnes_0 : List UInt8 := dkwX5_completeOnes_0 ++ dktX5_completeOnes_1
theorem dksX5_completeOnes_0 : cX5_completeOnes.data.toList.drop 0 = dktX5_completeOnes_0 := by decide +kernel
theorem dksX5_completeOnes_1 : cX5_completeOnes.data.toList.drop 23 = dktX5_completeOnes_1 := dk_seg dksX5_completeOnes_0 23 rfl rfl
theorem dX5_completeOnes_0 : decode cX5_completeOnes 0 = .ok (.iconst 0, 1) := dk_3 (dk_at dksX5_completeOnes_0 0 rfl rfl)
theorem dX5_completeOnes_1 : decode cX5_completeOnes 1 = .ok (.istore_n 1, 1) := dk_60 (dk_at dksX5_completeOnes_0 1 rfl rfl)
theorem dX5_completeOnes_2 : decode cX5_completeOnes 2 = .ok (.iconst 0, 1) := dk_3 (dk_at dksX5_completeOnes_0 2 rfl rfl)
theorem dX5_completeOnes_3 : decode cX5_completeOnes 3 = .ok (.istore_n 2, 1) := dk_61 (dk_at dksX5_completeOnes_0 3 rfl rfl)
theorem dX5_completeOnes_4 : decode cX5_completeOnes 4 = .ok (.iload_n 2, 1) := dk_28 (dk_at dksX5_completeOnes_0 4 rfl rfl)
theorem dX5_completeOnes_5 : decode cX5_completeOnes 5 = .ok (.iconst 4, 1) := dk_7 (dk_at dksX5_completeOnes_0 5 rfl rfl)
theorem dX5_completeOnes_6 : decode cX5_completeOnes 6 = .ok (.if_icmp .ge 20, 3) := dk_162 0 20 (dk_at dksX5_completeOnes_0 6 rfl rfl)
theorem dX5_completeOnes_9 : decode cX5_completeOnes 9 = .ok (.aload_n 0, 1) := dk_42 (dk_at dksX5_completeOnes_0 9 rfl rfl)
theorem dX5_completeOnes_10 : decode cX5_completeOnes 10 = .ok (.iload_n 2, 1) := dk_28 (dk_at dksX5_completeOnes_0 10 rfl rfl)
theorem dX5_completeOnes_11 : decode cX5_completeOnes 11 = .ok (.invokevirtual 426, 3) := dk_182 1 170 (dk_at dksX5_completeOnes_0 11 rfl rfl)
theorem dX5_completeOnes_14 : decode cX5_completeOnes 14 = .ok (.ifCond .eq 6, 3) := dk_153 0 6 (dk_at dksX5_completeOnes_0 14 rfl rfl)
theorem dX5_completeOnes_17 : decode cX5_completeOnes 17 = .ok (.iinc 1 1, 3) := dk_132 1 1 (dk_at dksX5_completeOnes_0 17 rfl rfl)
theorem dX5_completeOnes_20 : decode cX5_completeOnes 20 = .ok (.iinc 2 1, 3) := dk_132 2 1 (dk_at dksX5_completeOnes_0 20 rfl rfl)
theorem dX5_completeOnes_23 : decode cX5_completeOnes 23 = .ok (.goto (-19), 3) := dk_167 255 237 (dk_at dksX5_completeOnes_1 0 rfl rfl)
theorem dX5_completeOnes_26 : decode cX5_completeOnes 26 = .ok (.iload_n 1, 1) := dk_27 (dk_at dksX5_completeOnes_1 3 rfl rfl)
theorem dX5_completeOnes_27 : decode cX5_completeOnes 27 = .ok (.ireturn, 1) := dk_172 (dk_at dksX5_completeOnes_1 4 rfl rfl)
abbrev cX5_count : ByteArray := prog_13_method_80_code
def yX5_count : MethodName := ⟨RX5, "count", "(I)I"⟩
def dkwX5_count_5 : List UInt8 := [172, 42, 182, 1, 173, 172, 42, 180, 0, 103, 172, 42, 180, 0, 93, 172]
abbrev dktX5_count_5 : List UInt8 := dkwX5_count_5 ++ []
def dkwX5_count_4 : List UInt8 := [182, 0, 236, 172, 42, 180, 0, 9, 8, 46, 172, 42, 180, 0, 9, 5, 46, 172, 42, 180, 0, 9, 6, 46]
abbrev dktX5_count_4 : List UInt8 := dkwX5_count_4 ++ dktX5_count_5
def dkwX5_count_3 : List UInt8 := [42, 180, 0, 9, 3, 46, 172, 42, 180, 0, 9, 4, 46, 172, 42, 180, 0, 9, 7, 46, 172, 42, 2, 4]
abbrev dktX5_count_3 : List UInt8 := dkwX5_count_3 ++ dktX5_count_4
def dkwX5_count_2 : List UInt8 := [170, 0, 0, 0, 108, 0, 0, 0, 0, 0, 0, 0, 8, 0, 0, 0, 49, 0, 0, 0, 56, 0, 0, 0, 63, 0, 0, 0, 70, 0, 0, 0, 77, 0, 0, 0, 84, 0, 0, 0, 91, 0, 0, 0, 98, 0, 0, 0, 103]
abbrev dktX5_count_2 : List UInt8 := dkwX5_count_2 ++ dktX5_count_3
def dkwX5_count_1 : List UInt8 := [3, 172, 27]
abbrev dktX5_count_1 : List UInt8 := dkwX5_count_1 ++ dktX5_count_2
def dkwX5_count_0 : List UInt8 := [42, 27, 3, 16, 9, 184, 0, 119, 154, 0, 7, 4, 167, 0, 4, 3, 3, 3, 182, 1, 2, 153, 0, 5]
abbrev dktX5_count_0 : List UInt8 := dkwX5_count_0 ++ dktX5_count_1
theorem dksX5_count_0 : cX5_count.data.toList.drop 0 = dktX5_count_0 := by decide +kernel
theorem dksX5_count_1 : cX5_count.data.toList.drop 24 = dktX5_count_1 := dk_seg dksX5_count_0 24 rfl rfl
theorem dksX5_count_2 : cX5_count.data.toList.drop 27 = dktX5_count_2 := dk_seg dksX5_count_1 3 rfl rfl
theorem dksX5_count_3 : cX5_count.data.toList.drop 76 = dktX5_count_3 := dk_seg dksX5_count_2 49 rfl rfl
theorem dksX5_count_4 : cX5_count.data.toList.drop 100 = dktX5_count_4 := dk_seg dksX5_count_3 24 rfl rfl
theorem dksX5_count_5 : cX5_count.data.toList.drop 124 = dktX5_count_5 := dk_seg dksX5_count_4 24 rfl rfl
theorem dX5_count_0 : decode cX5_count 0 = .ok (.aload_n 0, 1) := dk_42 (dk_at dksX5_count_0 0 rfl rfl)
theorem dX5_count_1 : decode cX5_count 1 = .ok (.iload_n 1, 1) := dk_27 (dk_at dksX5_count_0 1 rfl rfl)
theorem dX5_count_2 : decode cX5_count 2 = .ok (.iconst 0, 1) := dk_3 (dk_at dksX5_count_0 2 rfl rfl)
theorem dX5_count_3 : decode cX5_count 3 = .ok (.bipush 9, 2) := dk_16 9 (dk_at dksX5_count_0 3 rfl rfl)
theorem dX5_count_5 : decode cX5_count 5 = .ok (.invokestatic 119, 3) := dk_184 0 119 (dk_at dksX5_count_0 5 rfl rfl)
theorem dX5_count_8 : decode cX5_count 8 = .ok (.ifCond .ne 7, 3) := dk_154 0 7 (dk_at dksX5_count_0 8 rfl rfl)
theorem dX5_count_11 : decode cX5_count 11 = .ok (.iconst 1, 1) := dk_4 (dk_at dksX5_count_0 11 rfl rfl)
theorem dX5_count_12 : decode cX5_count 12 = .ok (.goto 4, 3) := dk_167 0 4 (dk_at dksX5_count_0 12 rfl rfl)
theorem dX5_count_15 : decode cX5_count 15 = .ok (.iconst 0, 1) := dk_3 (dk_at dksX5_count_0 15 rfl rfl)
theorem dX5_count_16 : decode cX5_count 16 = .ok (.iconst 0, 1) := dk_3 (dk_at dksX5_count_0 16 rfl rfl)
theorem dX5_count_17 : decode cX5_count 17 = .ok (.iconst 0, 1) := dk_3 (dk_at dksX5_count_0 17 rfl rfl)
theorem dX5_count_18 : decode cX5_count 18 = .ok (.invokevirtual 258, 3) := dk_182 1 2 (dk_at dksX5_count_0 18 rfl rfl)
theorem dX5_count_21 : decode cX5_count 21 = .ok (.ifCond .eq 5, 3) := dk_153 0 5 (dk_at dksX5_count_0 21 rfl rfl)
theorem dX5_count_24 : decode cX5_count 24 = .ok (.iconst 0, 1) := dk_3 (dk_at dksX5_count_1 0 rfl rfl)
theorem dX5_count_25 : decode cX5_count 25 = .ok (.ireturn, 1) := dk_172 (dk_at dksX5_count_1 1 rfl rfl)
theorem dX5_count_26 : decode cX5_count 26 = .ok (.iload_n 1, 1) := dk_27 (dk_at dksX5_count_1 2 rfl rfl)
theorem dX5_count_27 : decode cX5_count 27 = .ok (.tableswitch 108 0 8 #[49, 56, 63, 70, 77, 84, 91, 98, 103], 49) := by decide +kernel
theorem dX5_count_76 : decode cX5_count 76 = .ok (.aload_n 0, 1) := dk_42 (dk_at dksX5_count_3 0 rfl rfl)
theorem dX5_count_77 : decode cX5_count 77 = .ok (.getfield 9, 3) := dk_180 0 9 (dk_at dksX5_count_3 1 rfl rfl)
theorem dX5_count_80 : decode cX5_count 80 = .ok (.iconst 0, 1) := dk_3 (dk_at dksX5_count_3 4 rfl rfl)
theorem dX5_count_81 : decode cX5_count 81 = .ok (.iaload, 1) := dk_46 (dk_at dksX5_count_3 5 rfl rfl)
theorem dX5_count_82 : decode cX5_count 82 = .ok (.ireturn, 1) := dk_172 (dk_at dksX5_count_3 6 rfl rfl)
theorem dX5_count_83 : decode cX5_count 83 = .ok (.aload_n 0, 1) := dk_42 (dk_at dksX5_count_3 7 rfl rfl)
theorem dX5_count_84 : decode cX5_count 84 = .ok (.getfield 9, 3) := dk_180 0 9 (dk_at dksX5_count_3 8 rfl rfl)
theorem dX5_count_87 : decode cX5_count 87 = .ok (.iconst 1, 1) := dk_4 (dk_at dksX5_count_3 11 rfl rfl)
theorem dX5_count_88 : decode cX5_count 88 = .ok (.iaload, 1) := dk_46 (dk_at dksX5_count_3 12 rfl rfl)
theorem dX5_count_89 : decode cX5_count 89 = .ok (.ireturn, 1) := dk_172 (dk_at dksX5_count_3 13 rfl rfl)
theorem dX5_count_90 : decode cX5_count 90 = .ok (.aload_n 0, 1) := dk_42 (dk_at dksX5_count_3 14 rfl rfl)
theorem dX5_count_91 : decode cX5_count 91 = .ok (.getfield 9, 3) := dk_180 0 9 (dk_at dksX5_count_3 15 rfl rfl)
theorem dX5_count_94 : decode cX5_count 94 = .ok (.iconst 4, 1) := dk_7 (dk_at dksX5_count_3 18 rfl rfl)
theorem dX5_count_95 : decode cX5_count 95 = .ok (.iaload, 1) := dk_46 (dk_at dksX5_count_3 19 rfl rfl)
theorem dX5_count_96 : decode cX5_count 96 = .ok (.ireturn, 1) := dk_172 (dk_at dksX5_count_3 20 rfl rfl)
theorem dX5_count_97 : decode cX5_count 97 = .ok (.aload_n 0, 1) := dk_42 (dk_at dksX5_count_3 21 rfl rfl)
theorem dX5_count_98 : decode cX5_count 98 = .ok (.iconst (-1), 1) := dk_2 (dk_at dksX5_count_3 22 rfl rfl)
theorem dX5_count_99 : decode cX5_count 99 = .ok (.iconst 1, 1) := dk_4 (dk_at dksX5_count_3 23 rfl rfl)
theorem dX5_count_100 : decode cX5_count 100 = .ok (.invokevirtual 236, 3) := dk_182 0 236 (dk_at dksX5_count_4 0 rfl rfl)
theorem dX5_count_103 : decode cX5_count 103 = .ok (.ireturn, 1) := dk_172 (dk_at dksX5_count_4 3 rfl rfl)
theorem dX5_count_104 : decode cX5_count 104 = .ok (.aload_n 0, 1) := dk_42 (dk_at dksX5_count_4 4 rfl rfl)
theorem dX5_count_105 : decode cX5_count 105 = .ok (.getfield 9, 3) := dk_180 0 9 (dk_at dksX5_count_4 5 rfl rfl)
theorem dX5_count_108 : decode cX5_count 108 = .ok (.iconst 5, 1) := dk_8 (dk_at dksX5_count_4 8 rfl rfl)
theorem dX5_count_109 : decode cX5_count 109 = .ok (.iaload, 1) := dk_46 (dk_at dksX5_count_4 9 rfl rfl)
theorem dX5_count_110 : decode cX5_count 110 = .ok (.ireturn, 1) := dk_172 (dk_at dksX5_count_4 10 rfl rfl)
theorem dX5_count_111 : decode cX5_count 111 = .ok (.aload_n 0, 1) := dk_42 (dk_at dksX5_count_4 11 rfl rfl)
theorem dX5_count_112 : decode cX5_count 112 = .ok (.getfield 9, 3) := dk_180 0 9 (dk_at dksX5_count_4 12 rfl rfl)
theorem dX5_count_115 : decode cX5_count 115 = .ok (.iconst 2, 1) := dk_5 (dk_at dksX5_count_4 15 rfl rfl)
theorem dX5_count_116 : decode cX5_count 116 = .ok (.iaload, 1) := dk_46 (dk_at dksX5_count_4 16 rfl rfl)
theorem dX5_count_117 : decode cX5_count 117 = .ok (.ireturn, 1) := dk_172 (dk_at dksX5_count_4 17 rfl rfl)
theorem dX5_count_118 : decode cX5_count 118 = .ok (.aload_n 0, 1) := dk_42 (dk_at dksX5_count_4 18 rfl rfl)
theorem dX5_count_119 : decode cX5_count 119 = .ok (.getfield 9, 3) := dk_180 0 9 (dk_at dksX5_count_4 19 rfl rfl)
theorem dX5_count_122 : decode cX5_count 122 = .ok (.iconst 3, 1) := dk_6 (dk_at dksX5_count_4 22 rfl rfl)
theorem dX5_count_123 : decode cX5_count 123 = .ok (.iaload, 1) := dk_46 (dk_at dksX5_count_4 23 rfl rfl)
theorem dX5_count_124 : decode cX5_count 124 = .ok (.ireturn, 1) := dk_172 (dk_at dksX5_count_5 0 rfl rfl)
theorem dX5_count_125 : decode cX5_count 125 = .ok (.aload_n 0, 1) := dk_42 (dk_at dksX5_count_5 1 rfl rfl)
theorem dX5_count_126 : decode cX5_count 126 = .ok (.invokevirtual 429, 3) := dk_182 1 173 (dk_at dksX5_count_5 2 rfl rfl)
theorem dX5_count_129 : decode cX5_count 129 = .ok (.ireturn, 1) := dk_172 (dk_at dksX5_count_5 5 rfl rfl)
theorem dX5_count_130 : decode cX5_count 130 = .ok (.aload_n 0, 1) := dk_42 (dk_at dksX5_count_5 6 rfl rfl)
theorem dX5_count_131 : decode cX5_count 131 = .ok (.getfield 103, 3) := dk_180 0 103 (dk_at dksX5_count_5 7 rfl rfl)
theorem dX5_count_134 : decode cX5_count 134 = .ok (.ireturn, 1) := dk_172 (dk_at dksX5_count_5 10 rfl rfl)
theorem dX5_count_135 : decode cX5_count 135 = .ok (.aload_n 0, 1) := dk_42 (dk_at dksX5_count_5 11 rfl rfl)
theorem dX5_count_136 : decode cX5_count 136 = .ok (.getfield 93, 3) := dk_180 0 93 (dk_at dksX5_count_5 12 rfl rfl)
theorem dX5_count_139 : decode cX5_count 139 = .ok (.ireturn, 1) := dk_172 (dk_at dksX5_count_5 15 rfl rfl)
abbrev cX5_cell : ByteArray := prog_13_method_81_code
def yX5_cell : MethodName := ⟨RX5, "cell", "(I)I"⟩
def dkwX5_cell_0 : List UInt8 := [16, 100, 42, 27, 3, 182, 0, 130, 104, 42, 27, 4, 182, 0, 130, 96, 172]
abbrev dktX5_cell_0 : List UInt8 := dkwX5_cell_0 ++ []
theorem dksX5_cell_0 : cX5_cell.data.toList.drop 0 = dktX5_cell_0 := by decide +kernel
theorem dX5_cell_0 : decode cX5_cell 0 = .ok (.bipush 100, 2) := dk_16 100 (dk_at dksX5_cell_0 0 rfl rfl)
theorem dX5_cell_2 : decode cX5_cell 2 = .ok (.aload_n 0, 1) := dk_42 (dk_at dksX5_cell_0 2 rfl rfl)
theorem dX5_cell_3 : decode cX5_cell 3 = .ok (.iload_n 1, 1) := dk_27 (dk_at dksX5_cell_0 3 rfl rfl)
theorem dX5_cell_4 : decode cX5_cell 4 = .ok (.iconst 0, 1) := dk_3 (dk_at dksX5_cell_0 4 rfl rfl)
theorem dX5_cell_5 : decode cX5_cell 5 = .ok (.invokevirtual 130, 3) := dk_182 0 130 (dk_at dksX5_cell_0 5 rfl rfl)
theorem dX5_cell_8 : decode cX5_cell 8 = .ok (.imul, 1) := dk_104 (dk_at dksX5_cell_0 8 rfl rfl)
theorem dX5_cell_9 : decode cX5_cell 9 = .ok (.aload_n 0, 1) := dk_42 (dk_at dksX5_cell_0 9 rfl rfl)
theorem dX5_cell_10 : decode cX5_cell 10 = .ok (.iload_n 1, 1) := dk_27 (dk_at dksX5_cell_0 10 rfl rfl)
theorem dX5_cell_11 : decode cX5_cell 11 = .ok (.iconst 1, 1) := dk_4 (dk_at dksX5_cell_0 11 rfl rfl)
theorem dX5_cell_12 : decode cX5_cell 12 = .ok (.invokevirtual 130, 3) := dk_182 0 130 (dk_at dksX5_cell_0 12 rfl rfl)
theorem dX5_cell_15 : decode cX5_cell 15 = .ok (.iadd, 1) := dk_96 (dk_at dksX5_cell_0 15 rfl rfl)
theorem dX5_cell_16 : decode cX5_cell 16 = .ok (.ireturn, 1) := dk_172 (dk_at dksX5_cell_0 16 rfl rfl)
abbrev cX5_comers : ByteArray := prog_13_method_82_code
def yX5_comers : MethodName := ⟨RX5, "comers", "(I)I"⟩
def dkwX5_comers_1 : List UInt8 := [42, 180, 0, 169, 27, 160, 0, 6, 132, 2, 1, 132, 3, 1, 167, 255, 222, 28, 172]
abbrev dktX5_comers_1 : List UInt8 := dkwX5_comers_1 ++ []
def dkwX5_comers_0 : List UInt8 := [3, 61, 3, 62, 29, 42, 180, 0, 9, 7, 46, 162, 0, 30, 42, 29, 182, 0, 224, 29, 27, 159, 0, 14]
abbrev dktX5_comers_0 : List UInt8 := dkwX5_comers_0 ++ dktX5_comers_1
theorem dksX5_comers_0 : cX5_comers.data.toList.drop 0 = dktX5_comers_0 := by decide +kernel
theorem dksX5_comers_1 : cX5_comers.data.toList.drop 24 = dktX5_comers_1 := dk_seg dksX5_comers_0 24 rfl rfl
theorem dX5_comers_0 : decode cX5_comers 0 = .ok (.iconst 0, 1) := dk_3 (dk_at dksX5_comers_0 0 rfl rfl)
theorem dX5_comers_1 : decode cX5_comers 1 = .ok (.istore_n 2, 1) := dk_61 (dk_at dksX5_comers_0 1 rfl rfl)
theorem dX5_comers_2 : decode cX5_comers 2 = .ok (.iconst 0, 1) := dk_3 (dk_at dksX5_comers_0 2 rfl rfl)
theorem dX5_comers_3 : decode cX5_comers 3 = .ok (.istore_n 3, 1) := dk_62 (dk_at dksX5_comers_0 3 rfl rfl)
theorem dX5_comers_4 : decode cX5_comers 4 = .ok (.iload_n 3, 1) := dk_29 (dk_at dksX5_comers_0 4 rfl rfl)
theorem dX5_comers_5 : decode cX5_comers 5 = .ok (.aload_n 0, 1) := dk_42 (dk_at dksX5_comers_0 5 rfl rfl)
theorem dX5_comers_6 : decode cX5_comers 6 = .ok (.getfield 9, 3) := dk_180 0 9 (dk_at dksX5_comers_0 6 rfl rfl)
theorem dX5_comers_9 : decode cX5_comers 9 = .ok (.iconst 4, 1) := dk_7 (dk_at dksX5_comers_0 9 rfl rfl)
theorem dX5_comers_10 : decode cX5_comers 10 = .ok (.iaload, 1) := dk_46 (dk_at dksX5_comers_0 10 rfl rfl)
theorem dX5_comers_11 : decode cX5_comers 11 = .ok (.if_icmp .ge 30, 3) := dk_162 0 30 (dk_at dksX5_comers_0 11 rfl rfl)
theorem dX5_comers_14 : decode cX5_comers 14 = .ok (.aload_n 0, 1) := dk_42 (dk_at dksX5_comers_0 14 rfl rfl)
theorem dX5_comers_15 : decode cX5_comers 15 = .ok (.iload_n 3, 1) := dk_29 (dk_at dksX5_comers_0 15 rfl rfl)
theorem dX5_comers_16 : decode cX5_comers 16 = .ok (.invokevirtual 224, 3) := dk_182 0 224 (dk_at dksX5_comers_0 16 rfl rfl)
theorem dX5_comers_19 : decode cX5_comers 19 = .ok (.iload_n 3, 1) := dk_29 (dk_at dksX5_comers_0 19 rfl rfl)
theorem dX5_comers_20 : decode cX5_comers 20 = .ok (.iload_n 1, 1) := dk_27 (dk_at dksX5_comers_0 20 rfl rfl)
theorem dX5_comers_21 : decode cX5_comers 21 = .ok (.if_icmp .eq 14, 3) := dk_159 0 14 (dk_at dksX5_comers_0 21 rfl rfl)
theorem dX5_comers_24 : decode cX5_comers 24 = .ok (.aload_n 0, 1) := dk_42 (dk_at dksX5_comers_1 0 rfl rfl)
theorem dX5_comers_25 : decode cX5_comers 25 = .ok (.getfield 169, 3) := dk_180 0 169 (dk_at dksX5_comers_1 1 rfl rfl)
theorem dX5_comers_28 : decode cX5_comers 28 = .ok (.iload_n 1, 1) := dk_27 (dk_at dksX5_comers_1 4 rfl rfl)
theorem dX5_comers_29 : decode cX5_comers 29 = .ok (.if_icmp .ne 6, 3) := dk_160 0 6 (dk_at dksX5_comers_1 5 rfl rfl)
theorem dX5_comers_32 : decode cX5_comers 32 = .ok (.iinc 2 1, 3) := dk_132 2 1 (dk_at dksX5_comers_1 8 rfl rfl)
theorem dX5_comers_35 : decode cX5_comers 35 = .ok (.iinc 3 1, 3) := dk_132 3 1 (dk_at dksX5_comers_1 11 rfl rfl)
theorem dX5_comers_38 : decode cX5_comers 38 = .ok (.goto (-34), 3) := dk_167 255 222 (dk_at dksX5_comers_1 14 rfl rfl)
theorem dX5_comers_41 : decode cX5_comers 41 = .ok (.iload_n 2, 1) := dk_28 (dk_at dksX5_comers_1 17 rfl rfl)
theorem dX5_comers_42 : decode cX5_comers 42 = .ok (.ireturn, 1) := dk_172 (dk_at dksX5_comers_1 18 rfl rfl)
abbrev cX5_post : ByteArray := prog_13_method_83_code
def yX5_post : MethodName := ⟨RX5, "post", "(II)I"⟩
def dkwX5_post_4 : List UInt8 := [167, 0, 19, 28, 8, 160, 0, 10, 42, 182, 0, 172, 167, 0, 7, 42, 180, 0, 175, 172]
abbrev dktX5_post_4 : List UInt8 := dkwX5_post_4 ++ []
def dkwX5_post_3 : List UInt8 := [182, 0, 224, 42, 180, 0, 169, 2, 160, 0, 7, 2, 167, 0, 31, 28, 7, 160, 0, 10, 42, 180, 0, 169]
abbrev dktX5_post_3 : List UInt8 := dkwX5_post_3 ++ dktX5_post_4
def dkwX5_post_2 : List UInt8 := [42, 27, 182, 1, 179, 172, 28, 7, 162, 0, 12, 42, 27, 28, 4, 96, 182, 0, 130, 172, 42, 27]
abbrev dktX5_post_2 : List UInt8 := dkwX5_post_2 ++ dktX5_post_3
def dkwX5_post_1 : List UInt8 := [182, 1, 2, 153, 0, 5, 3, 172, 28, 16, 7, 160, 0, 9, 42, 27, 182, 1, 176, 172, 28, 154, 0, 9]
abbrev dktX5_post_1 : List UInt8 := dkwX5_post_1 ++ dktX5_post_2
def dkwX5_post_0 : List UInt8 := [42, 42, 27, 182, 1, 161, 28, 3, 16, 7, 184, 0, 119, 154, 0, 7, 4, 167, 0, 4, 3, 3]
abbrev dktX5_post_0 : List UInt8 := dkwX5_post_0 ++ dktX5_post_1
theorem dksX5_post_0 : cX5_post.data.toList.drop 0 = dktX5_post_0 := by decide +kernel
theorem dksX5_post_1 : cX5_post.data.toList.drop 22 = dktX5_post_1 := dk_seg dksX5_post_0 22 rfl rfl
theorem dksX5_post_2 : cX5_post.data.toList.drop 46 = dktX5_post_2 := dk_seg dksX5_post_1 24 rfl rfl
theorem dksX5_post_3 : cX5_post.data.toList.drop 68 = dktX5_post_3 := dk_seg dksX5_post_2 22 rfl rfl
theorem dksX5_post_4 : cX5_post.data.toList.drop 92 = dktX5_post_4 := dk_seg dksX5_post_3 24 rfl rfl
theorem dX5_post_0 : decode cX5_post 0 = .ok (.aload_n 0, 1) := dk_42 (dk_at dksX5_post_0 0 rfl rfl)
theorem dX5_post_1 : decode cX5_post 1 = .ok (.aload_n 0, 1) := dk_42 (dk_at dksX5_post_0 1 rfl rfl)
theorem dX5_post_2 : decode cX5_post 2 = .ok (.iload_n 1, 1) := dk_27 (dk_at dksX5_post_0 2 rfl rfl)
theorem dX5_post_3 : decode cX5_post 3 = .ok (.invokevirtual 417, 3) := dk_182 1 161 (dk_at dksX5_post_0 3 rfl rfl)
theorem dX5_post_6 : decode cX5_post 6 = .ok (.iload_n 2, 1) := dk_28 (dk_at dksX5_post_0 6 rfl rfl)
theorem dX5_post_7 : decode cX5_post 7 = .ok (.iconst 0, 1) := dk_3 (dk_at dksX5_post_0 7 rfl rfl)
theorem dX5_post_8 : decode cX5_post 8 = .ok (.bipush 7, 2) := dk_16 7 (dk_at dksX5_post_0 8 rfl rfl)
theorem dX5_post_10 : decode cX5_post 10 = .ok (.invokestatic 119, 3) := dk_184 0 119 (dk_at dksX5_post_0 10 rfl rfl)
theorem dX5_post_13 : decode cX5_post 13 = .ok (.ifCond .ne 7, 3) := dk_154 0 7 (dk_at dksX5_post_0 13 rfl rfl)
theorem dX5_post_16 : decode cX5_post 16 = .ok (.iconst 1, 1) := dk_4 (dk_at dksX5_post_0 16 rfl rfl)
theorem dX5_post_17 : decode cX5_post 17 = .ok (.goto 4, 3) := dk_167 0 4 (dk_at dksX5_post_0 17 rfl rfl)
theorem dX5_post_20 : decode cX5_post 20 = .ok (.iconst 0, 1) := dk_3 (dk_at dksX5_post_0 20 rfl rfl)
theorem dX5_post_21 : decode cX5_post 21 = .ok (.iconst 0, 1) := dk_3 (dk_at dksX5_post_0 21 rfl rfl)
theorem dX5_post_22 : decode cX5_post 22 = .ok (.invokevirtual 258, 3) := dk_182 1 2 (dk_at dksX5_post_1 0 rfl rfl)
theorem dX5_post_25 : decode cX5_post 25 = .ok (.ifCond .eq 5, 3) := dk_153 0 5 (dk_at dksX5_post_1 3 rfl rfl)
theorem dX5_post_28 : decode cX5_post 28 = .ok (.iconst 0, 1) := dk_3 (dk_at dksX5_post_1 6 rfl rfl)
theorem dX5_post_29 : decode cX5_post 29 = .ok (.ireturn, 1) := dk_172 (dk_at dksX5_post_1 7 rfl rfl)
theorem dX5_post_30 : decode cX5_post 30 = .ok (.iload_n 2, 1) := dk_28 (dk_at dksX5_post_1 8 rfl rfl)
theorem dX5_post_31 : decode cX5_post 31 = .ok (.bipush 7, 2) := dk_16 7 (dk_at dksX5_post_1 9 rfl rfl)
theorem dX5_post_33 : decode cX5_post 33 = .ok (.if_icmp .ne 9, 3) := dk_160 0 9 (dk_at dksX5_post_1 11 rfl rfl)
theorem dX5_post_36 : decode cX5_post 36 = .ok (.aload_n 0, 1) := dk_42 (dk_at dksX5_post_1 14 rfl rfl)
theorem dX5_post_37 : decode cX5_post 37 = .ok (.iload_n 1, 1) := dk_27 (dk_at dksX5_post_1 15 rfl rfl)
theorem dX5_post_38 : decode cX5_post 38 = .ok (.invokevirtual 432, 3) := dk_182 1 176 (dk_at dksX5_post_1 16 rfl rfl)
theorem dX5_post_41 : decode cX5_post 41 = .ok (.ireturn, 1) := dk_172 (dk_at dksX5_post_1 19 rfl rfl)
theorem dX5_post_42 : decode cX5_post 42 = .ok (.iload_n 2, 1) := dk_28 (dk_at dksX5_post_1 20 rfl rfl)
theorem dX5_post_43 : decode cX5_post 43 = .ok (.ifCond .ne 9, 3) := dk_154 0 9 (dk_at dksX5_post_1 21 rfl rfl)
theorem dX5_post_46 : decode cX5_post 46 = .ok (.aload_n 0, 1) := dk_42 (dk_at dksX5_post_2 0 rfl rfl)
theorem dX5_post_47 : decode cX5_post 47 = .ok (.iload_n 1, 1) := dk_27 (dk_at dksX5_post_2 1 rfl rfl)
theorem dX5_post_48 : decode cX5_post 48 = .ok (.invokevirtual 435, 3) := dk_182 1 179 (dk_at dksX5_post_2 2 rfl rfl)
theorem dX5_post_51 : decode cX5_post 51 = .ok (.ireturn, 1) := dk_172 (dk_at dksX5_post_2 5 rfl rfl)
theorem dX5_post_52 : decode cX5_post 52 = .ok (.iload_n 2, 1) := dk_28 (dk_at dksX5_post_2 6 rfl rfl)
theorem dX5_post_53 : decode cX5_post 53 = .ok (.iconst 4, 1) := dk_7 (dk_at dksX5_post_2 7 rfl rfl)
theorem dX5_post_54 : decode cX5_post 54 = .ok (.if_icmp .ge 12, 3) := dk_162 0 12 (dk_at dksX5_post_2 8 rfl rfl)
theorem dX5_post_57 : decode cX5_post 57 = .ok (.aload_n 0, 1) := dk_42 (dk_at dksX5_post_2 11 rfl rfl)
theorem dX5_post_58 : decode cX5_post 58 = .ok (.iload_n 1, 1) := dk_27 (dk_at dksX5_post_2 12 rfl rfl)
theorem dX5_post_59 : decode cX5_post 59 = .ok (.iload_n 2, 1) := dk_28 (dk_at dksX5_post_2 13 rfl rfl)
theorem dX5_post_60 : decode cX5_post 60 = .ok (.iconst 1, 1) := dk_4 (dk_at dksX5_post_2 14 rfl rfl)
theorem dX5_post_61 : decode cX5_post 61 = .ok (.iadd, 1) := dk_96 (dk_at dksX5_post_2 15 rfl rfl)
theorem dX5_post_62 : decode cX5_post 62 = .ok (.invokevirtual 130, 3) := dk_182 0 130 (dk_at dksX5_post_2 16 rfl rfl)
theorem dX5_post_65 : decode cX5_post 65 = .ok (.ireturn, 1) := dk_172 (dk_at dksX5_post_2 19 rfl rfl)
theorem dX5_post_66 : decode cX5_post 66 = .ok (.aload_n 0, 1) := dk_42 (dk_at dksX5_post_2 20 rfl rfl)
theorem dX5_post_67 : decode cX5_post 67 = .ok (.iload_n 1, 1) := dk_27 (dk_at dksX5_post_2 21 rfl rfl)
theorem dX5_post_68 : decode cX5_post 68 = .ok (.invokevirtual 224, 3) := dk_182 0 224 (dk_at dksX5_post_3 0 rfl rfl)
theorem dX5_post_71 : decode cX5_post 71 = .ok (.aload_n 0, 1) := dk_42 (dk_at dksX5_post_3 3 rfl rfl)
theorem dX5_post_72 : decode cX5_post 72 = .ok (.getfield 169, 3) := dk_180 0 169 (dk_at dksX5_post_3 4 rfl rfl)
theorem dX5_post_75 : decode cX5_post 75 = .ok (.iconst (-1), 1) := dk_2 (dk_at dksX5_post_3 7 rfl rfl)
theorem dX5_post_76 : decode cX5_post 76 = .ok (.if_icmp .ne 7, 3) := dk_160 0 7 (dk_at dksX5_post_3 8 rfl rfl)
theorem dX5_post_79 : decode cX5_post 79 = .ok (.iconst (-1), 1) := dk_2 (dk_at dksX5_post_3 11 rfl rfl)
theorem dX5_post_80 : decode cX5_post 80 = .ok (.goto 31, 3) := dk_167 0 31 (dk_at dksX5_post_3 12 rfl rfl)
theorem dX5_post_83 : decode cX5_post 83 = .ok (.iload_n 2, 1) := dk_28 (dk_at dksX5_post_3 15 rfl rfl)
theorem dX5_post_84 : decode cX5_post 84 = .ok (.iconst 4, 1) := dk_7 (dk_at dksX5_post_3 16 rfl rfl)
theorem dX5_post_85 : decode cX5_post 85 = .ok (.if_icmp .ne 10, 3) := dk_160 0 10 (dk_at dksX5_post_3 17 rfl rfl)
theorem dX5_post_88 : decode cX5_post 88 = .ok (.aload_n 0, 1) := dk_42 (dk_at dksX5_post_3 20 rfl rfl)
theorem dX5_post_89 : decode cX5_post 89 = .ok (.getfield 169, 3) := dk_180 0 169 (dk_at dksX5_post_3 21 rfl rfl)
theorem dX5_post_92 : decode cX5_post 92 = .ok (.goto 19, 3) := dk_167 0 19 (dk_at dksX5_post_4 0 rfl rfl)
theorem dX5_post_95 : decode cX5_post 95 = .ok (.iload_n 2, 1) := dk_28 (dk_at dksX5_post_4 3 rfl rfl)
theorem dX5_post_96 : decode cX5_post 96 = .ok (.iconst 5, 1) := dk_8 (dk_at dksX5_post_4 4 rfl rfl)
theorem dX5_post_97 : decode cX5_post 97 = .ok (.if_icmp .ne 10, 3) := dk_160 0 10 (dk_at dksX5_post_4 5 rfl rfl)
theorem dX5_post_100 : decode cX5_post 100 = .ok (.aload_n 0, 1) := dk_42 (dk_at dksX5_post_4 8 rfl rfl)
theorem dX5_post_101 : decode cX5_post 101 = .ok (.invokevirtual 172, 3) := dk_182 0 172 (dk_at dksX5_post_4 9 rfl rfl)
theorem dX5_post_104 : decode cX5_post 104 = .ok (.goto 7, 3) := dk_167 0 7 (dk_at dksX5_post_4 12 rfl rfl)
theorem dX5_post_107 : decode cX5_post 107 = .ok (.aload_n 0, 1) := dk_42 (dk_at dksX5_post_4 15 rfl rfl)
theorem dX5_post_108 : decode cX5_post 108 = .ok (.getfield 175, 3) := dk_180 0 175 (dk_at dksX5_post_4 16 rfl rfl)
theorem dX5_post_111 : decode cX5_post 111 = .ok (.ireturn, 1) := dk_172 (dk_at dksX5_post_4 19 rfl rfl)
abbrev cX5_at : ByteArray := prog_13_method_84_code
def yX5_at : MethodName := ⟨RX5, "at", "(II)I"⟩
def dkwX5_at_1 : List UInt8 := [172, 42, 27, 28, 182, 0, 127, 153, 0, 8, 16, 254, 167, 0, 9, 42, 27, 28, 182, 0, 157, 172]
abbrev dktX5_at_1 : List UInt8 := dkwX5_at_1 ++ []
def dkwX5_at_0 : List UInt8 := [42, 42, 27, 28, 182, 0, 123, 154, 0, 7, 4, 167, 0, 4, 3, 3, 3, 182, 1, 2, 153, 0, 5, 3]
abbrev dktX5_at_0 : List UInt8 := dkwX5_at_0 ++ dktX5_at_1
theorem dksX5_at_0 : cX5_at.data.toList.drop 0 = dktX5_at_0 := by decide +kernel
theorem dksX5_at_1 : cX5_at.data.toList.drop 24 = dktX5_at_1 := dk_seg dksX5_at_0 24 rfl rfl
theorem dX5_at_0 : decode cX5_at 0 = .ok (.aload_n 0, 1) := dk_42 (dk_at dksX5_at_0 0 rfl rfl)
theorem dX5_at_1 : decode cX5_at 1 = .ok (.aload_n 0, 1) := dk_42 (dk_at dksX5_at_0 1 rfl rfl)
theorem dX5_at_2 : decode cX5_at 2 = .ok (.iload_n 1, 1) := dk_27 (dk_at dksX5_at_0 2 rfl rfl)
theorem dX5_at_3 : decode cX5_at 3 = .ok (.iload_n 2, 1) := dk_28 (dk_at dksX5_at_0 3 rfl rfl)
theorem dX5_at_4 : decode cX5_at 4 = .ok (.invokevirtual 123, 3) := dk_182 0 123 (dk_at dksX5_at_0 4 rfl rfl)
theorem dX5_at_7 : decode cX5_at 7 = .ok (.ifCond .ne 7, 3) := dk_154 0 7 (dk_at dksX5_at_0 7 rfl rfl)
theorem dX5_at_10 : decode cX5_at 10 = .ok (.iconst 1, 1) := dk_4 (dk_at dksX5_at_0 10 rfl rfl)
theorem dX5_at_11 : decode cX5_at 11 = .ok (.goto 4, 3) := dk_167 0 4 (dk_at dksX5_at_0 11 rfl rfl)
theorem dX5_at_14 : decode cX5_at 14 = .ok (.iconst 0, 1) := dk_3 (dk_at dksX5_at_0 14 rfl rfl)
theorem dX5_at_15 : decode cX5_at 15 = .ok (.iconst 0, 1) := dk_3 (dk_at dksX5_at_0 15 rfl rfl)
theorem dX5_at_16 : decode cX5_at 16 = .ok (.iconst 0, 1) := dk_3 (dk_at dksX5_at_0 16 rfl rfl)
theorem dX5_at_17 : decode cX5_at 17 = .ok (.invokevirtual 258, 3) := dk_182 1 2 (dk_at dksX5_at_0 17 rfl rfl)
theorem dX5_at_20 : decode cX5_at 20 = .ok (.ifCond .eq 5, 3) := dk_153 0 5 (dk_at dksX5_at_0 20 rfl rfl)
theorem dX5_at_23 : decode cX5_at 23 = .ok (.iconst 0, 1) := dk_3 (dk_at dksX5_at_0 23 rfl rfl)
theorem dX5_at_24 : decode cX5_at 24 = .ok (.ireturn, 1) := dk_172 (dk_at dksX5_at_1 0 rfl rfl)
theorem dX5_at_25 : decode cX5_at 25 = .ok (.aload_n 0, 1) := dk_42 (dk_at dksX5_at_1 1 rfl rfl)
theorem dX5_at_26 : decode cX5_at 26 = .ok (.iload_n 1, 1) := dk_27 (dk_at dksX5_at_1 2 rfl rfl)
theorem dX5_at_27 : decode cX5_at 27 = .ok (.iload_n 2, 1) := dk_28 (dk_at dksX5_at_1 3 rfl rfl)
theorem dX5_at_28 : decode cX5_at 28 = .ok (.invokevirtual 127, 3) := dk_182 0 127 (dk_at dksX5_at_1 4 rfl rfl)
theorem dX5_at_31 : decode cX5_at 31 = .ok (.ifCond .eq 8, 3) := dk_153 0 8 (dk_at dksX5_at_1 7 rfl rfl)
theorem dX5_at_34 : decode cX5_at 34 = .ok (.bipush (-2), 2) := dk_16 254 (dk_at dksX5_at_1 10 rfl rfl)
theorem dX5_at_36 : decode cX5_at 36 = .ok (.goto 9, 3) := dk_167 0 9 (dk_at dksX5_at_1 12 rfl rfl)
theorem dX5_at_39 : decode cX5_at 39 = .ok (.aload_n 0, 1) := dk_42 (dk_at dksX5_at_1 15 rfl rfl)
theorem dX5_at_40 : decode cX5_at 40 = .ok (.iload_n 1, 1) := dk_27 (dk_at dksX5_at_1 16 rfl rfl)
theorem dX5_at_41 : decode cX5_at 41 = .ok (.iload_n 2, 1) := dk_28 (dk_at dksX5_at_1 17 rfl rfl)
theorem dX5_at_42 : decode cX5_at 42 = .ok (.invokevirtual 157, 3) := dk_182 0 157 (dk_at dksX5_at_1 18 rfl rfl)
theorem dX5_at_45 : decode cX5_at 45 = .ok (.ireturn, 1) := dk_172 (dk_at dksX5_at_1 21 rfl rfl)
abbrev cX5_right : ByteArray := prog_13_method_85_code
def yX5_right : MethodName := ⟨RX5, "right", "(I)I"⟩
def dkwX5_right_3 : List UInt8 := [167, 255, 192, 28, 172]
abbrev dktX5_right_3 : List UInt8 := dkwX5_right_3 ++ []
def dkwX5_right_2 : List UInt8 := [182, 0, 130, 27, 160, 0, 15, 42, 21, 4, 182, 0, 134, 154, 0, 6, 132, 2, 1, 132, 3, 1]
abbrev dktX5_right_2 : List UInt8 := dkwX5_right_2 ++ dktX5_right_3
def dkwX5_right_1 : List UInt8 := [180, 0, 54, 29, 46, 16, 100, 112, 182, 0, 157, 54, 4, 21, 4, 2, 159, 0, 26, 42, 21, 4, 5]
abbrev dktX5_right_1 : List UInt8 := dkwX5_right_1 ++ dktX5_right_2
def dkwX5_right_0 : List UInt8 := [3, 61, 3, 62, 29, 42, 180, 0, 205, 162, 0, 62, 42, 42, 180, 0, 54, 29, 46, 16, 100, 108, 42]
abbrev dktX5_right_0 : List UInt8 := dkwX5_right_0 ++ dktX5_right_1
theorem dksX5_right_0 : cX5_right.data.toList.drop 0 = dktX5_right_0 := by decide +kernel
theorem dksX5_right_1 : cX5_right.data.toList.drop 23 = dktX5_right_1 := dk_seg dksX5_right_0 23 rfl rfl
theorem dksX5_right_2 : cX5_right.data.toList.drop 46 = dktX5_right_2 := dk_seg dksX5_right_1 23 rfl rfl
theorem dksX5_right_3 : cX5_right.data.toList.drop 68 = dktX5_right_3 := dk_seg dksX5_right_2 22 rfl rfl
theorem dX5_right_0 : decode cX5_right 0 = .ok (.iconst 0, 1) := dk_3 (dk_at dksX5_right_0 0 rfl rfl)
theorem dX5_right_1 : decode cX5_right 1 = .ok (.istore_n 2, 1) := dk_61 (dk_at dksX5_right_0 1 rfl rfl)
theorem dX5_right_2 : decode cX5_right 2 = .ok (.iconst 0, 1) := dk_3 (dk_at dksX5_right_0 2 rfl rfl)
theorem dX5_right_3 : decode cX5_right 3 = .ok (.istore_n 3, 1) := dk_62 (dk_at dksX5_right_0 3 rfl rfl)
theorem dX5_right_4 : decode cX5_right 4 = .ok (.iload_n 3, 1) := dk_29 (dk_at dksX5_right_0 4 rfl rfl)
theorem dX5_right_5 : decode cX5_right 5 = .ok (.aload_n 0, 1) := dk_42 (dk_at dksX5_right_0 5 rfl rfl)
theorem dX5_right_6 : decode cX5_right 6 = .ok (.getfield 205, 3) := dk_180 0 205 (dk_at dksX5_right_0 6 rfl rfl)
theorem dX5_right_9 : decode cX5_right 9 = .ok (.if_icmp .ge 62, 3) := dk_162 0 62 (dk_at dksX5_right_0 9 rfl rfl)
theorem dX5_right_12 : decode cX5_right 12 = .ok (.aload_n 0, 1) := dk_42 (dk_at dksX5_right_0 12 rfl rfl)
theorem dX5_right_13 : decode cX5_right 13 = .ok (.aload_n 0, 1) := dk_42 (dk_at dksX5_right_0 13 rfl rfl)
theorem dX5_right_14 : decode cX5_right 14 = .ok (.getfield 54, 3) := dk_180 0 54 (dk_at dksX5_right_0 14 rfl rfl)
theorem dX5_right_17 : decode cX5_right 17 = .ok (.iload_n 3, 1) := dk_29 (dk_at dksX5_right_0 17 rfl rfl)
theorem dX5_right_18 : decode cX5_right 18 = .ok (.iaload, 1) := dk_46 (dk_at dksX5_right_0 18 rfl rfl)
theorem dX5_right_19 : decode cX5_right 19 = .ok (.bipush 100, 2) := dk_16 100 (dk_at dksX5_right_0 19 rfl rfl)
theorem dX5_right_21 : decode cX5_right 21 = .ok (.idiv, 1) := dk_108 (dk_at dksX5_right_0 21 rfl rfl)
theorem dX5_right_22 : decode cX5_right 22 = .ok (.aload_n 0, 1) := dk_42 (dk_at dksX5_right_0 22 rfl rfl)
theorem dX5_right_23 : decode cX5_right 23 = .ok (.getfield 54, 3) := dk_180 0 54 (dk_at dksX5_right_1 0 rfl rfl)
theorem dX5_right_26 : decode cX5_right 26 = .ok (.iload_n 3, 1) := dk_29 (dk_at dksX5_right_1 3 rfl rfl)
theorem dX5_right_27 : decode cX5_right 27 = .ok (.iaload, 1) := dk_46 (dk_at dksX5_right_1 4 rfl rfl)
theorem dX5_right_28 : decode cX5_right 28 = .ok (.bipush 100, 2) := dk_16 100 (dk_at dksX5_right_1 5 rfl rfl)
theorem dX5_right_30 : decode cX5_right 30 = .ok (.irem, 1) := dk_112 (dk_at dksX5_right_1 7 rfl rfl)
theorem dX5_right_31 : decode cX5_right 31 = .ok (.invokevirtual 157, 3) := dk_182 0 157 (dk_at dksX5_right_1 8 rfl rfl)
theorem dX5_right_34 : decode cX5_right 34 = .ok (.istore 4, 2) := dk_54 4 (dk_at dksX5_right_1 11 rfl rfl)
theorem dX5_right_36 : decode cX5_right 36 = .ok (.iload 4, 2) := dk_21 4 (dk_at dksX5_right_1 13 rfl rfl)
theorem dX5_right_38 : decode cX5_right 38 = .ok (.iconst (-1), 1) := dk_2 (dk_at dksX5_right_1 15 rfl rfl)
theorem dX5_right_39 : decode cX5_right 39 = .ok (.if_icmp .eq 26, 3) := dk_159 0 26 (dk_at dksX5_right_1 16 rfl rfl)
theorem dX5_right_42 : decode cX5_right 42 = .ok (.aload_n 0, 1) := dk_42 (dk_at dksX5_right_1 19 rfl rfl)
theorem dX5_right_43 : decode cX5_right 43 = .ok (.iload 4, 2) := dk_21 4 (dk_at dksX5_right_1 20 rfl rfl)
theorem dX5_right_45 : decode cX5_right 45 = .ok (.iconst 2, 1) := dk_5 (dk_at dksX5_right_1 22 rfl rfl)
theorem dX5_right_46 : decode cX5_right 46 = .ok (.invokevirtual 130, 3) := dk_182 0 130 (dk_at dksX5_right_2 0 rfl rfl)
theorem dX5_right_49 : decode cX5_right 49 = .ok (.iload_n 1, 1) := dk_27 (dk_at dksX5_right_2 3 rfl rfl)
theorem dX5_right_50 : decode cX5_right 50 = .ok (.if_icmp .ne 15, 3) := dk_160 0 15 (dk_at dksX5_right_2 4 rfl rfl)
theorem dX5_right_53 : decode cX5_right 53 = .ok (.aload_n 0, 1) := dk_42 (dk_at dksX5_right_2 7 rfl rfl)
theorem dX5_right_54 : decode cX5_right 54 = .ok (.iload 4, 2) := dk_21 4 (dk_at dksX5_right_2 8 rfl rfl)
theorem dX5_right_56 : decode cX5_right 56 = .ok (.invokevirtual 134, 3) := dk_182 0 134 (dk_at dksX5_right_2 10 rfl rfl)
theorem dX5_right_59 : decode cX5_right 59 = .ok (.ifCond .ne 6, 3) := dk_154 0 6 (dk_at dksX5_right_2 13 rfl rfl)
theorem dX5_right_62 : decode cX5_right 62 = .ok (.iinc 2 1, 3) := dk_132 2 1 (dk_at dksX5_right_2 16 rfl rfl)
theorem dX5_right_65 : decode cX5_right 65 = .ok (.iinc 3 1, 3) := dk_132 3 1 (dk_at dksX5_right_2 19 rfl rfl)
theorem dX5_right_68 : decode cX5_right 68 = .ok (.goto (-64), 3) := dk_167 255 192 (dk_at dksX5_right_3 0 rfl rfl)
theorem dX5_right_71 : decode cX5_right 71 = .ok (.iload_n 2, 1) := dk_28 (dk_at dksX5_right_3 3 rfl rfl)
theorem dX5_right_72 : decode cX5_right 72 = .ok (.ireturn, 1) := dk_172 (dk_at dksX5_right_3 4 rfl rfl)
abbrev cX5_colour : ByteArray := prog_13_method_86_code
def yX5_colour : MethodName := ⟨RX5, "colour", "(II)I"⟩
def dkwX5_colour_5 : List UInt8 := [182, 1, 182, 172]
abbrev dktX5_colour_5 : List UInt8 := dkwX5_colour_5 ++ []
def dkwX5_colour_4 : List UInt8 := [182, 1, 170, 153, 0, 7, 4, 167, 0, 4, 3, 172, 42, 180, 0, 208, 172, 42, 180, 0, 205, 172, 42, 27]
abbrev dktX5_colour_4 : List UInt8 := dkwX5_colour_4 ++ dktX5_colour_5
def dkwX5_colour_3 : List UInt8 := [42, 27, 3, 182, 0, 236, 172, 42, 27, 4, 182, 0, 236, 172, 42, 27, 182, 0, 249, 172, 42, 27]
abbrev dktX5_colour_3 : List UInt8 := dkwX5_colour_3 ++ dktX5_colour_4
def dkwX5_colour_2 : List UInt8 := [170, 0, 0, 0, 81, 0, 0, 0, 0, 0, 0, 0, 5, 0, 0, 0, 37, 0, 0, 0, 44, 0, 0, 0, 51, 0, 0, 0, 57, 0, 0, 0, 71, 0, 0, 0, 76]
abbrev dktX5_colour_2 : List UInt8 := dkwX5_colour_2 ++ dktX5_colour_3
def dkwX5_colour_1 : List UInt8 := [153, 0, 5, 3, 172, 42, 42, 27, 182, 0, 249, 182, 0, 243, 28]
abbrev dktX5_colour_1 : List UInt8 := dkwX5_colour_1 ++ dktX5_colour_2
def dkwX5_colour_0 : List UInt8 := [42, 27, 184, 1, 158, 28, 3, 16, 6, 184, 0, 119, 154, 0, 7, 4, 167, 0, 4, 3, 3, 182, 1, 2]
abbrev dktX5_colour_0 : List UInt8 := dkwX5_colour_0 ++ dktX5_colour_1
theorem dksX5_colour_0 : cX5_colour.data.toList.drop 0 = dktX5_colour_0 := by decide +kernel
theorem dksX5_colour_1 : cX5_colour.data.toList.drop 24 = dktX5_colour_1 := dk_seg dksX5_colour_0 24 rfl rfl
theorem dksX5_colour_2 : cX5_colour.data.toList.drop 39 = dktX5_colour_2 := dk_seg dksX5_colour_1 15 rfl rfl
theorem dksX5_colour_3 : cX5_colour.data.toList.drop 76 = dktX5_colour_3 := dk_seg dksX5_colour_2 37 rfl rfl
theorem dksX5_colour_4 : cX5_colour.data.toList.drop 98 = dktX5_colour_4 := dk_seg dksX5_colour_3 22 rfl rfl
theorem dksX5_colour_5 : cX5_colour.data.toList.drop 122 = dktX5_colour_5 := dk_seg dksX5_colour_4 24 rfl rfl
theorem dX5_colour_0 : decode cX5_colour 0 = .ok (.aload_n 0, 1) := dk_42 (dk_at dksX5_colour_0 0 rfl rfl)
theorem dX5_colour_1 : decode cX5_colour 1 = .ok (.iload_n 1, 1) := dk_27 (dk_at dksX5_colour_0 1 rfl rfl)
theorem dX5_colour_2 : decode cX5_colour 2 = .ok (.invokestatic 414, 3) := dk_184 1 158 (dk_at dksX5_colour_0 2 rfl rfl)
theorem dX5_colour_5 : decode cX5_colour 5 = .ok (.iload_n 2, 1) := dk_28 (dk_at dksX5_colour_0 5 rfl rfl)
theorem dX5_colour_6 : decode cX5_colour 6 = .ok (.iconst 0, 1) := dk_3 (dk_at dksX5_colour_0 6 rfl rfl)
theorem dX5_colour_7 : decode cX5_colour 7 = .ok (.bipush 6, 2) := dk_16 6 (dk_at dksX5_colour_0 7 rfl rfl)
theorem dX5_colour_9 : decode cX5_colour 9 = .ok (.invokestatic 119, 3) := dk_184 0 119 (dk_at dksX5_colour_0 9 rfl rfl)
theorem dX5_colour_12 : decode cX5_colour 12 = .ok (.ifCond .ne 7, 3) := dk_154 0 7 (dk_at dksX5_colour_0 12 rfl rfl)
theorem dX5_colour_15 : decode cX5_colour 15 = .ok (.iconst 1, 1) := dk_4 (dk_at dksX5_colour_0 15 rfl rfl)
theorem dX5_colour_16 : decode cX5_colour 16 = .ok (.goto 4, 3) := dk_167 0 4 (dk_at dksX5_colour_0 16 rfl rfl)
theorem dX5_colour_19 : decode cX5_colour 19 = .ok (.iconst 0, 1) := dk_3 (dk_at dksX5_colour_0 19 rfl rfl)
theorem dX5_colour_20 : decode cX5_colour 20 = .ok (.iconst 0, 1) := dk_3 (dk_at dksX5_colour_0 20 rfl rfl)
theorem dX5_colour_21 : decode cX5_colour 21 = .ok (.invokevirtual 258, 3) := dk_182 1 2 (dk_at dksX5_colour_0 21 rfl rfl)
theorem dX5_colour_24 : decode cX5_colour 24 = .ok (.ifCond .eq 5, 3) := dk_153 0 5 (dk_at dksX5_colour_1 0 rfl rfl)
theorem dX5_colour_27 : decode cX5_colour 27 = .ok (.iconst 0, 1) := dk_3 (dk_at dksX5_colour_1 3 rfl rfl)
theorem dX5_colour_28 : decode cX5_colour 28 = .ok (.ireturn, 1) := dk_172 (dk_at dksX5_colour_1 4 rfl rfl)
theorem dX5_colour_29 : decode cX5_colour 29 = .ok (.aload_n 0, 1) := dk_42 (dk_at dksX5_colour_1 5 rfl rfl)
theorem dX5_colour_30 : decode cX5_colour 30 = .ok (.aload_n 0, 1) := dk_42 (dk_at dksX5_colour_1 6 rfl rfl)
theorem dX5_colour_31 : decode cX5_colour 31 = .ok (.iload_n 1, 1) := dk_27 (dk_at dksX5_colour_1 7 rfl rfl)
theorem dX5_colour_32 : decode cX5_colour 32 = .ok (.invokevirtual 249, 3) := dk_182 0 249 (dk_at dksX5_colour_1 8 rfl rfl)
theorem dX5_colour_35 : decode cX5_colour 35 = .ok (.invokevirtual 243, 3) := dk_182 0 243 (dk_at dksX5_colour_1 11 rfl rfl)
theorem dX5_colour_38 : decode cX5_colour 38 = .ok (.iload_n 2, 1) := dk_28 (dk_at dksX5_colour_1 14 rfl rfl)
theorem dX5_colour_39 : decode cX5_colour 39 = .ok (.tableswitch 81 0 5 #[37, 44, 51, 57, 71, 76], 37) := by decide +kernel
theorem dX5_colour_76 : decode cX5_colour 76 = .ok (.aload_n 0, 1) := dk_42 (dk_at dksX5_colour_3 0 rfl rfl)
theorem dX5_colour_77 : decode cX5_colour 77 = .ok (.iload_n 1, 1) := dk_27 (dk_at dksX5_colour_3 1 rfl rfl)
theorem dX5_colour_78 : decode cX5_colour 78 = .ok (.iconst 0, 1) := dk_3 (dk_at dksX5_colour_3 2 rfl rfl)
theorem dX5_colour_79 : decode cX5_colour 79 = .ok (.invokevirtual 236, 3) := dk_182 0 236 (dk_at dksX5_colour_3 3 rfl rfl)
theorem dX5_colour_82 : decode cX5_colour 82 = .ok (.ireturn, 1) := dk_172 (dk_at dksX5_colour_3 6 rfl rfl)
theorem dX5_colour_83 : decode cX5_colour 83 = .ok (.aload_n 0, 1) := dk_42 (dk_at dksX5_colour_3 7 rfl rfl)
theorem dX5_colour_84 : decode cX5_colour 84 = .ok (.iload_n 1, 1) := dk_27 (dk_at dksX5_colour_3 8 rfl rfl)
theorem dX5_colour_85 : decode cX5_colour 85 = .ok (.iconst 1, 1) := dk_4 (dk_at dksX5_colour_3 9 rfl rfl)
theorem dX5_colour_86 : decode cX5_colour 86 = .ok (.invokevirtual 236, 3) := dk_182 0 236 (dk_at dksX5_colour_3 10 rfl rfl)
theorem dX5_colour_89 : decode cX5_colour 89 = .ok (.ireturn, 1) := dk_172 (dk_at dksX5_colour_3 13 rfl rfl)
theorem dX5_colour_90 : decode cX5_colour 90 = .ok (.aload_n 0, 1) := dk_42 (dk_at dksX5_colour_3 14 rfl rfl)
theorem dX5_colour_91 : decode cX5_colour 91 = .ok (.iload_n 1, 1) := dk_27 (dk_at dksX5_colour_3 15 rfl rfl)
theorem dX5_colour_92 : decode cX5_colour 92 = .ok (.invokevirtual 249, 3) := dk_182 0 249 (dk_at dksX5_colour_3 16 rfl rfl)
theorem dX5_colour_95 : decode cX5_colour 95 = .ok (.ireturn, 1) := dk_172 (dk_at dksX5_colour_3 19 rfl rfl)
theorem dX5_colour_96 : decode cX5_colour 96 = .ok (.aload_n 0, 1) := dk_42 (dk_at dksX5_colour_3 20 rfl rfl)
theorem dX5_colour_97 : decode cX5_colour 97 = .ok (.iload_n 1, 1) := dk_27 (dk_at dksX5_colour_3 21 rfl rfl)
theorem dX5_colour_98 : decode cX5_colour 98 = .ok (.invokevirtual 426, 3) := dk_182 1 170 (dk_at dksX5_colour_4 0 rfl rfl)
theorem dX5_colour_101 : decode cX5_colour 101 = .ok (.ifCond .eq 7, 3) := dk_153 0 7 (dk_at dksX5_colour_4 3 rfl rfl)
theorem dX5_colour_104 : decode cX5_colour 104 = .ok (.iconst 1, 1) := dk_4 (dk_at dksX5_colour_4 6 rfl rfl)
theorem dX5_colour_105 : decode cX5_colour 105 = .ok (.goto 4, 3) := dk_167 0 4 (dk_at dksX5_colour_4 7 rfl rfl)
theorem dX5_colour_108 : decode cX5_colour 108 = .ok (.iconst 0, 1) := dk_3 (dk_at dksX5_colour_4 10 rfl rfl)
theorem dX5_colour_109 : decode cX5_colour 109 = .ok (.ireturn, 1) := dk_172 (dk_at dksX5_colour_4 11 rfl rfl)
theorem dX5_colour_110 : decode cX5_colour 110 = .ok (.aload_n 0, 1) := dk_42 (dk_at dksX5_colour_4 12 rfl rfl)
theorem dX5_colour_111 : decode cX5_colour 111 = .ok (.getfield 208, 3) := dk_180 0 208 (dk_at dksX5_colour_4 13 rfl rfl)
theorem dX5_colour_114 : decode cX5_colour 114 = .ok (.ireturn, 1) := dk_172 (dk_at dksX5_colour_4 16 rfl rfl)
theorem dX5_colour_115 : decode cX5_colour 115 = .ok (.aload_n 0, 1) := dk_42 (dk_at dksX5_colour_4 17 rfl rfl)
theorem dX5_colour_116 : decode cX5_colour 116 = .ok (.getfield 205, 3) := dk_180 0 205 (dk_at dksX5_colour_4 18 rfl rfl)
theorem dX5_colour_119 : decode cX5_colour 119 = .ok (.ireturn, 1) := dk_172 (dk_at dksX5_colour_4 21 rfl rfl)
theorem dX5_colour_120 : decode cX5_colour 120 = .ok (.aload_n 0, 1) := dk_42 (dk_at dksX5_colour_4 22 rfl rfl)
theorem dX5_colour_121 : decode cX5_colour 121 = .ok (.iload_n 1, 1) := dk_27 (dk_at dksX5_colour_4 23 rfl rfl)
theorem dX5_colour_122 : decode cX5_colour 122 = .ok (.invokevirtual 438, 3) := dk_182 1 182 (dk_at dksX5_colour_5 0 rfl rfl)
theorem dX5_colour_125 : decode cX5_colour 125 = .ok (.ireturn, 1) := dk_172 (dk_at dksX5_colour_5 3 rfl rfl)
abbrev cX5_met : ByteArray := prog_13_method_87_code
def yX5_met : MethodName := ⟨RX5, "met", "(I)J"⟩
def dkwX5_met_2 : List UInt8 := [21, 4, 121, 97, 65, 132, 4, 1, 167, 255, 229, 32, 173]
abbrev dktX5_met_2 : List UInt8 := dkwX5_met_2 ++ []
def dkwX5_met_1 : List UInt8 := [9, 65, 3, 54, 4, 21, 4, 16, 24, 162, 0, 26, 42, 180, 0, 60, 21, 4, 51, 153, 0, 10, 32, 10]
abbrev dktX5_met_1 : List UInt8 := dkwX5_met_1 ++ dktX5_met_2
def dkwX5_met_0 : List UInt8 := [42, 27, 184, 1, 158, 3, 3, 182, 1, 2, 153, 0, 5, 9, 173, 42, 42, 27, 182, 0, 249, 182, 0, 243]
abbrev dktX5_met_0 : List UInt8 := dkwX5_met_0 ++ dktX5_met_1
theorem dksX5_met_0 : cX5_met.data.toList.drop 0 = dktX5_met_0 := by decide +kernel
theorem dksX5_met_1 : cX5_met.data.toList.drop 24 = dktX5_met_1 := dk_seg dksX5_met_0 24 rfl rfl
theorem dksX5_met_2 : cX5_met.data.toList.drop 48 = dktX5_met_2 := dk_seg dksX5_met_1 24 rfl rfl
theorem dX5_met_0 : decode cX5_met 0 = .ok (.aload_n 0, 1) := dk_42 (dk_at dksX5_met_0 0 rfl rfl)
theorem dX5_met_1 : decode cX5_met 1 = .ok (.iload_n 1, 1) := dk_27 (dk_at dksX5_met_0 1 rfl rfl)
theorem dX5_met_2 : decode cX5_met 2 = .ok (.invokestatic 414, 3) := dk_184 1 158 (dk_at dksX5_met_0 2 rfl rfl)
theorem dX5_met_5 : decode cX5_met 5 = .ok (.iconst 0, 1) := dk_3 (dk_at dksX5_met_0 5 rfl rfl)
theorem dX5_met_6 : decode cX5_met 6 = .ok (.iconst 0, 1) := dk_3 (dk_at dksX5_met_0 6 rfl rfl)
theorem dX5_met_7 : decode cX5_met 7 = .ok (.invokevirtual 258, 3) := dk_182 1 2 (dk_at dksX5_met_0 7 rfl rfl)
theorem dX5_met_10 : decode cX5_met 10 = .ok (.ifCond .eq 5, 3) := dk_153 0 5 (dk_at dksX5_met_0 10 rfl rfl)
theorem dX5_met_13 : decode cX5_met 13 = .ok (.lconst 0, 1) := dk_9 (dk_at dksX5_met_0 13 rfl rfl)
theorem dX5_met_14 : decode cX5_met 14 = .ok (.lreturn, 1) := dk_173 (dk_at dksX5_met_0 14 rfl rfl)
theorem dX5_met_15 : decode cX5_met 15 = .ok (.aload_n 0, 1) := dk_42 (dk_at dksX5_met_0 15 rfl rfl)
theorem dX5_met_16 : decode cX5_met 16 = .ok (.aload_n 0, 1) := dk_42 (dk_at dksX5_met_0 16 rfl rfl)
theorem dX5_met_17 : decode cX5_met 17 = .ok (.iload_n 1, 1) := dk_27 (dk_at dksX5_met_0 17 rfl rfl)
theorem dX5_met_18 : decode cX5_met 18 = .ok (.invokevirtual 249, 3) := dk_182 0 249 (dk_at dksX5_met_0 18 rfl rfl)
theorem dX5_met_21 : decode cX5_met 21 = .ok (.invokevirtual 243, 3) := dk_182 0 243 (dk_at dksX5_met_0 21 rfl rfl)
theorem dX5_met_24 : decode cX5_met 24 = .ok (.lconst 0, 1) := dk_9 (dk_at dksX5_met_1 0 rfl rfl)
theorem dX5_met_25 : decode cX5_met 25 = .ok (.lstore_n 2, 1) := dk_65 (dk_at dksX5_met_1 1 rfl rfl)
theorem dX5_met_26 : decode cX5_met 26 = .ok (.iconst 0, 1) := dk_3 (dk_at dksX5_met_1 2 rfl rfl)
theorem dX5_met_27 : decode cX5_met 27 = .ok (.istore 4, 2) := dk_54 4 (dk_at dksX5_met_1 3 rfl rfl)
theorem dX5_met_29 : decode cX5_met 29 = .ok (.iload 4, 2) := dk_21 4 (dk_at dksX5_met_1 5 rfl rfl)
theorem dX5_met_31 : decode cX5_met 31 = .ok (.bipush 24, 2) := dk_16 24 (dk_at dksX5_met_1 7 rfl rfl)
theorem dX5_met_33 : decode cX5_met 33 = .ok (.if_icmp .ge 26, 3) := dk_162 0 26 (dk_at dksX5_met_1 9 rfl rfl)
theorem dX5_met_36 : decode cX5_met 36 = .ok (.aload_n 0, 1) := dk_42 (dk_at dksX5_met_1 12 rfl rfl)
theorem dX5_met_37 : decode cX5_met 37 = .ok (.getfield 60, 3) := dk_180 0 60 (dk_at dksX5_met_1 13 rfl rfl)
theorem dX5_met_40 : decode cX5_met 40 = .ok (.iload 4, 2) := dk_21 4 (dk_at dksX5_met_1 16 rfl rfl)
theorem dX5_met_42 : decode cX5_met 42 = .ok (.baload, 1) := dk_51 (dk_at dksX5_met_1 18 rfl rfl)
theorem dX5_met_43 : decode cX5_met 43 = .ok (.ifCond .eq 10, 3) := dk_153 0 10 (dk_at dksX5_met_1 19 rfl rfl)
theorem dX5_met_46 : decode cX5_met 46 = .ok (.lload_n 2, 1) := dk_32 (dk_at dksX5_met_1 22 rfl rfl)
theorem dX5_met_47 : decode cX5_met 47 = .ok (.lconst 1, 1) := dk_10 (dk_at dksX5_met_1 23 rfl rfl)
theorem dX5_met_48 : decode cX5_met 48 = .ok (.iload 4, 2) := dk_21 4 (dk_at dksX5_met_2 0 rfl rfl)
theorem dX5_met_50 : decode cX5_met 50 = .ok (.lshl, 1) := dk_121 (dk_at dksX5_met_2 2 rfl rfl)
theorem dX5_met_51 : decode cX5_met 51 = .ok (.ladd, 1) := dk_97 (dk_at dksX5_met_2 3 rfl rfl)
theorem dX5_met_52 : decode cX5_met 52 = .ok (.lstore_n 2, 1) := dk_65 (dk_at dksX5_met_2 4 rfl rfl)
theorem dX5_met_53 : decode cX5_met 53 = .ok (.iinc 4 1, 3) := dk_132 4 1 (dk_at dksX5_met_2 5 rfl rfl)
theorem dX5_met_56 : decode cX5_met 56 = .ok (.goto (-27), 3) := dk_167 255 229 (dk_at dksX5_met_2 8 rfl rfl)
theorem dX5_met_59 : decode cX5_met 59 = .ok (.lload_n 2, 1) := dk_32 (dk_at dksX5_met_2 11 rfl rfl)
theorem dX5_met_60 : decode cX5_met 60 = .ok (.lreturn, 1) := dk_173 (dk_at dksX5_met_2 12 rfl rfl)
abbrev cX5_loopSteps : ByteArray := prog_13_method_30_code
def yX5_loopSteps : MethodName := ⟨RX5, "loopSteps", "()I"⟩
def dkwX5_loopSteps_2 : List UInt8 := [182, 0, 224, 27, 42, 182, 0, 172, 96, 60, 167, 255, 228, 27, 172]
abbrev dktX5_loopSteps_2 : List UInt8 := dkwX5_loopSteps_2 ++ []
def dkwX5_loopSteps_1 : List UInt8 := [182, 0, 172, 96, 60, 42, 180, 0, 169, 42, 180, 0, 217, 159, 0, 23, 42, 180, 0, 169, 61, 42, 28]
abbrev dktX5_loopSteps_1 : List UInt8 := dkwX5_loopSteps_1 ++ dktX5_loopSteps_2
def dkwX5_loopSteps_0 : List UInt8 := [42, 180, 0, 214, 5, 159, 0, 5, 3, 172, 3, 60, 42, 180, 0, 217, 61, 42, 28, 182, 0, 224, 27, 42]
abbrev dktX5_loopSteps_0 : List UInt8 := dkwX5_loopSteps_0 ++ dktX5_loopSteps_1
theorem dksX5_loopSteps_0 : cX5_loopSteps.data.toList.drop 0 = dktX5_loopSteps_0 := by decide +kernel
theorem dksX5_loopSteps_1 : cX5_loopSteps.data.toList.drop 24 = dktX5_loopSteps_1 := dk_seg dksX5_loopSteps_0 24 rfl rfl
theorem dksX5_loopSteps_2 : cX5_loopSteps.data.toList.drop 47 = dktX5_loopSteps_2 := dk_seg dksX5_loopSteps_1 23 rfl rfl
theorem dX5_loopSteps_0 : decode cX5_loopSteps 0 = .ok (.aload_n 0, 1) := dk_42 (dk_at dksX5_loopSteps_0 0 rfl rfl)
theorem dX5_loopSteps_1 : decode cX5_loopSteps 1 = .ok (.getfield 214, 3) := dk_180 0 214 (dk_at dksX5_loopSteps_0 1 rfl rfl)
theorem dX5_loopSteps_4 : decode cX5_loopSteps 4 = .ok (.iconst 2, 1) := dk_5 (dk_at dksX5_loopSteps_0 4 rfl rfl)
theorem dX5_loopSteps_5 : decode cX5_loopSteps 5 = .ok (.if_icmp .eq 5, 3) := dk_159 0 5 (dk_at dksX5_loopSteps_0 5 rfl rfl)
theorem dX5_loopSteps_8 : decode cX5_loopSteps 8 = .ok (.iconst 0, 1) := dk_3 (dk_at dksX5_loopSteps_0 8 rfl rfl)
theorem dX5_loopSteps_9 : decode cX5_loopSteps 9 = .ok (.ireturn, 1) := dk_172 (dk_at dksX5_loopSteps_0 9 rfl rfl)
theorem dX5_loopSteps_10 : decode cX5_loopSteps 10 = .ok (.iconst 0, 1) := dk_3 (dk_at dksX5_loopSteps_0 10 rfl rfl)
theorem dX5_loopSteps_11 : decode cX5_loopSteps 11 = .ok (.istore_n 1, 1) := dk_60 (dk_at dksX5_loopSteps_0 11 rfl rfl)
theorem dX5_loopSteps_12 : decode cX5_loopSteps 12 = .ok (.aload_n 0, 1) := dk_42 (dk_at dksX5_loopSteps_0 12 rfl rfl)
theorem dX5_loopSteps_13 : decode cX5_loopSteps 13 = .ok (.getfield 217, 3) := dk_180 0 217 (dk_at dksX5_loopSteps_0 13 rfl rfl)
theorem dX5_loopSteps_16 : decode cX5_loopSteps 16 = .ok (.istore_n 2, 1) := dk_61 (dk_at dksX5_loopSteps_0 16 rfl rfl)
theorem dX5_loopSteps_17 : decode cX5_loopSteps 17 = .ok (.aload_n 0, 1) := dk_42 (dk_at dksX5_loopSteps_0 17 rfl rfl)
theorem dX5_loopSteps_18 : decode cX5_loopSteps 18 = .ok (.iload_n 2, 1) := dk_28 (dk_at dksX5_loopSteps_0 18 rfl rfl)
theorem dX5_loopSteps_19 : decode cX5_loopSteps 19 = .ok (.invokevirtual 224, 3) := dk_182 0 224 (dk_at dksX5_loopSteps_0 19 rfl rfl)
theorem dX5_loopSteps_22 : decode cX5_loopSteps 22 = .ok (.iload_n 1, 1) := dk_27 (dk_at dksX5_loopSteps_0 22 rfl rfl)
theorem dX5_loopSteps_23 : decode cX5_loopSteps 23 = .ok (.aload_n 0, 1) := dk_42 (dk_at dksX5_loopSteps_0 23 rfl rfl)
theorem dX5_loopSteps_24 : decode cX5_loopSteps 24 = .ok (.invokevirtual 172, 3) := dk_182 0 172 (dk_at dksX5_loopSteps_1 0 rfl rfl)
theorem dX5_loopSteps_27 : decode cX5_loopSteps 27 = .ok (.iadd, 1) := dk_96 (dk_at dksX5_loopSteps_1 3 rfl rfl)
theorem dX5_loopSteps_28 : decode cX5_loopSteps 28 = .ok (.istore_n 1, 1) := dk_60 (dk_at dksX5_loopSteps_1 4 rfl rfl)
theorem dX5_loopSteps_29 : decode cX5_loopSteps 29 = .ok (.aload_n 0, 1) := dk_42 (dk_at dksX5_loopSteps_1 5 rfl rfl)
theorem dX5_loopSteps_30 : decode cX5_loopSteps 30 = .ok (.getfield 169, 3) := dk_180 0 169 (dk_at dksX5_loopSteps_1 6 rfl rfl)
theorem dX5_loopSteps_33 : decode cX5_loopSteps 33 = .ok (.aload_n 0, 1) := dk_42 (dk_at dksX5_loopSteps_1 9 rfl rfl)
theorem dX5_loopSteps_34 : decode cX5_loopSteps 34 = .ok (.getfield 217, 3) := dk_180 0 217 (dk_at dksX5_loopSteps_1 10 rfl rfl)
theorem dX5_loopSteps_37 : decode cX5_loopSteps 37 = .ok (.if_icmp .eq 23, 3) := dk_159 0 23 (dk_at dksX5_loopSteps_1 13 rfl rfl)
theorem dX5_loopSteps_40 : decode cX5_loopSteps 40 = .ok (.aload_n 0, 1) := dk_42 (dk_at dksX5_loopSteps_1 16 rfl rfl)
theorem dX5_loopSteps_41 : decode cX5_loopSteps 41 = .ok (.getfield 169, 3) := dk_180 0 169 (dk_at dksX5_loopSteps_1 17 rfl rfl)
theorem dX5_loopSteps_44 : decode cX5_loopSteps 44 = .ok (.istore_n 2, 1) := dk_61 (dk_at dksX5_loopSteps_1 20 rfl rfl)
theorem dX5_loopSteps_45 : decode cX5_loopSteps 45 = .ok (.aload_n 0, 1) := dk_42 (dk_at dksX5_loopSteps_1 21 rfl rfl)
theorem dX5_loopSteps_46 : decode cX5_loopSteps 46 = .ok (.iload_n 2, 1) := dk_28 (dk_at dksX5_loopSteps_1 22 rfl rfl)
theorem dX5_loopSteps_47 : decode cX5_loopSteps 47 = .ok (.invokevirtual 224, 3) := dk_182 0 224 (dk_at dksX5_loopSteps_2 0 rfl rfl)
theorem dX5_loopSteps_50 : decode cX5_loopSteps 50 = .ok (.iload_n 1, 1) := dk_27 (dk_at dksX5_loopSteps_2 3 rfl rfl)
theorem dX5_loopSteps_51 : decode cX5_loopSteps 51 = .ok (.aload_n 0, 1) := dk_42 (dk_at dksX5_loopSteps_2 4 rfl rfl)
theorem dX5_loopSteps_52 : decode cX5_loopSteps 52 = .ok (.invokevirtual 172, 3) := dk_182 0 172 (dk_at dksX5_loopSteps_2 5 rfl rfl)
theorem dX5_loopSteps_55 : decode cX5_loopSteps 55 = .ok (.iadd, 1) := dk_96 (dk_at dksX5_loopSteps_2 8 rfl rfl)
theorem dX5_loopSteps_56 : decode cX5_loopSteps 56 = .ok (.istore_n 1, 1) := dk_60 (dk_at dksX5_loopSteps_2 9 rfl rfl)
theorem dX5_loopSteps_57 : decode cX5_loopSteps 57 = .ok (.goto (-28), 3) := dk_167 255 228 (dk_at dksX5_loopSteps_2 10 rfl rfl)
theorem dX5_loopSteps_60 : decode cX5_loopSteps 60 = .ok (.iload_n 1, 1) := dk_27 (dk_at dksX5_loopSteps_2 13 rfl rfl)
theorem dX5_loopSteps_61 : decode cX5_loopSteps 61 = .ok (.ireturn, 1) := dk_172 (dk_at dksX5_loopSteps_2 14 rfl rfl)
abbrev cX5_ofRoute : ByteArray := prog_13_method_31_code
def yX5_ofRoute : MethodName := ⟨RX5, "ofRoute", "(I)I"⟩
def dkwX5_ofRoute_4 : List UInt8 := [42, 182, 0, 240, 172, 42, 180, 0, 211, 172]
abbrev dktX5_ofRoute_4 : List UInt8 := dkwX5_ofRoute_4 ++ []
def dkwX5_ofRoute_3 : List UInt8 := [180, 0, 205, 172, 42, 42, 42, 180, 0, 217, 5, 182, 0, 130, 4, 182, 0, 236, 42, 180, 0, 208, 100, 172]
abbrev dktX5_ofRoute_3 : List UInt8 := dkwX5_ofRoute_3 ++ dktX5_ofRoute_4
def dkwX5_ofRoute_2 : List UInt8 := [42, 180, 0, 208, 172, 42, 180, 0, 199, 4, 100, 172, 42, 180, 0, 214, 172, 42, 180, 0, 217, 172, 42]
abbrev dktX5_ofRoute_2 : List UInt8 := dkwX5_ofRoute_2 ++ dktX5_ofRoute_3
def dkwX5_ofRoute_1 : List UInt8 := [170, 0, 0, 0, 0, 0, 95, 0, 0, 0, 0, 0, 0, 0, 6, 0, 0, 0, 43, 0, 0, 0, 48, 0, 0, 0, 55, 0, 0, 0, 60, 0, 0, 0, 65, 0, 0, 0, 70, 0, 0, 0, 90]
abbrev dktX5_ofRoute_1 : List UInt8 := dkwX5_ofRoute_1 ++ dktX5_ofRoute_2
def dkwX5_ofRoute_0 : List UInt8 := [27]
abbrev dktX5_ofRoute_0 : List UInt8 := dkwX5_ofRoute_0 ++ dktX5_ofRoute_1
theorem dksX5_ofRoute_0 : cX5_ofRoute.data.toList.drop 0 = dktX5_ofRoute_0 := by decide +kernel
theorem dksX5_ofRoute_1 : cX5_ofRoute.data.toList.drop 1 = dktX5_ofRoute_1 := dk_seg dksX5_ofRoute_0 1 rfl rfl
theorem dksX5_ofRoute_2 : cX5_ofRoute.data.toList.drop 44 = dktX5_ofRoute_2 := dk_seg dksX5_ofRoute_1 43 rfl rfl
theorem dksX5_ofRoute_3 : cX5_ofRoute.data.toList.drop 67 = dktX5_ofRoute_3 := dk_seg dksX5_ofRoute_2 23 rfl rfl
theorem dksX5_ofRoute_4 : cX5_ofRoute.data.toList.drop 91 = dktX5_ofRoute_4 := dk_seg dksX5_ofRoute_3 24 rfl rfl
theorem dX5_ofRoute_0 : decode cX5_ofRoute 0 = .ok (.iload_n 1, 1) := dk_27 (dk_at dksX5_ofRoute_0 0 rfl rfl)
theorem dX5_ofRoute_1 : decode cX5_ofRoute 1 = .ok (.tableswitch 95 0 6 #[43, 48, 55, 60, 65, 70, 90], 43) := by decide +kernel
theorem dX5_ofRoute_44 : decode cX5_ofRoute 44 = .ok (.aload_n 0, 1) := dk_42 (dk_at dksX5_ofRoute_2 0 rfl rfl)
theorem dX5_ofRoute_45 : decode cX5_ofRoute 45 = .ok (.getfield 208, 3) := dk_180 0 208 (dk_at dksX5_ofRoute_2 1 rfl rfl)
theorem dX5_ofRoute_48 : decode cX5_ofRoute 48 = .ok (.ireturn, 1) := dk_172 (dk_at dksX5_ofRoute_2 4 rfl rfl)
theorem dX5_ofRoute_49 : decode cX5_ofRoute 49 = .ok (.aload_n 0, 1) := dk_42 (dk_at dksX5_ofRoute_2 5 rfl rfl)
theorem dX5_ofRoute_50 : decode cX5_ofRoute 50 = .ok (.getfield 199, 3) := dk_180 0 199 (dk_at dksX5_ofRoute_2 6 rfl rfl)
theorem dX5_ofRoute_53 : decode cX5_ofRoute 53 = .ok (.iconst 1, 1) := dk_4 (dk_at dksX5_ofRoute_2 9 rfl rfl)
theorem dX5_ofRoute_54 : decode cX5_ofRoute 54 = .ok (.isub, 1) := dk_100 (dk_at dksX5_ofRoute_2 10 rfl rfl)
theorem dX5_ofRoute_55 : decode cX5_ofRoute 55 = .ok (.ireturn, 1) := dk_172 (dk_at dksX5_ofRoute_2 11 rfl rfl)
theorem dX5_ofRoute_56 : decode cX5_ofRoute 56 = .ok (.aload_n 0, 1) := dk_42 (dk_at dksX5_ofRoute_2 12 rfl rfl)
theorem dX5_ofRoute_57 : decode cX5_ofRoute 57 = .ok (.getfield 214, 3) := dk_180 0 214 (dk_at dksX5_ofRoute_2 13 rfl rfl)
theorem dX5_ofRoute_60 : decode cX5_ofRoute 60 = .ok (.ireturn, 1) := dk_172 (dk_at dksX5_ofRoute_2 16 rfl rfl)
theorem dX5_ofRoute_61 : decode cX5_ofRoute 61 = .ok (.aload_n 0, 1) := dk_42 (dk_at dksX5_ofRoute_2 17 rfl rfl)
theorem dX5_ofRoute_62 : decode cX5_ofRoute 62 = .ok (.getfield 217, 3) := dk_180 0 217 (dk_at dksX5_ofRoute_2 18 rfl rfl)
theorem dX5_ofRoute_65 : decode cX5_ofRoute 65 = .ok (.ireturn, 1) := dk_172 (dk_at dksX5_ofRoute_2 21 rfl rfl)
theorem dX5_ofRoute_66 : decode cX5_ofRoute 66 = .ok (.aload_n 0, 1) := dk_42 (dk_at dksX5_ofRoute_2 22 rfl rfl)
theorem dX5_ofRoute_67 : decode cX5_ofRoute 67 = .ok (.getfield 205, 3) := dk_180 0 205 (dk_at dksX5_ofRoute_3 0 rfl rfl)
theorem dX5_ofRoute_70 : decode cX5_ofRoute 70 = .ok (.ireturn, 1) := dk_172 (dk_at dksX5_ofRoute_3 3 rfl rfl)
theorem dX5_ofRoute_71 : decode cX5_ofRoute 71 = .ok (.aload_n 0, 1) := dk_42 (dk_at dksX5_ofRoute_3 4 rfl rfl)
theorem dX5_ofRoute_72 : decode cX5_ofRoute 72 = .ok (.aload_n 0, 1) := dk_42 (dk_at dksX5_ofRoute_3 5 rfl rfl)
theorem dX5_ofRoute_73 : decode cX5_ofRoute 73 = .ok (.aload_n 0, 1) := dk_42 (dk_at dksX5_ofRoute_3 6 rfl rfl)
theorem dX5_ofRoute_74 : decode cX5_ofRoute 74 = .ok (.getfield 217, 3) := dk_180 0 217 (dk_at dksX5_ofRoute_3 7 rfl rfl)
theorem dX5_ofRoute_77 : decode cX5_ofRoute 77 = .ok (.iconst 2, 1) := dk_5 (dk_at dksX5_ofRoute_3 10 rfl rfl)
theorem dX5_ofRoute_78 : decode cX5_ofRoute 78 = .ok (.invokevirtual 130, 3) := dk_182 0 130 (dk_at dksX5_ofRoute_3 11 rfl rfl)
theorem dX5_ofRoute_81 : decode cX5_ofRoute 81 = .ok (.iconst 1, 1) := dk_4 (dk_at dksX5_ofRoute_3 14 rfl rfl)
theorem dX5_ofRoute_82 : decode cX5_ofRoute 82 = .ok (.invokevirtual 236, 3) := dk_182 0 236 (dk_at dksX5_ofRoute_3 15 rfl rfl)
theorem dX5_ofRoute_85 : decode cX5_ofRoute 85 = .ok (.aload_n 0, 1) := dk_42 (dk_at dksX5_ofRoute_3 18 rfl rfl)
theorem dX5_ofRoute_86 : decode cX5_ofRoute 86 = .ok (.getfield 208, 3) := dk_180 0 208 (dk_at dksX5_ofRoute_3 19 rfl rfl)
theorem dX5_ofRoute_89 : decode cX5_ofRoute 89 = .ok (.isub, 1) := dk_100 (dk_at dksX5_ofRoute_3 22 rfl rfl)
theorem dX5_ofRoute_90 : decode cX5_ofRoute 90 = .ok (.ireturn, 1) := dk_172 (dk_at dksX5_ofRoute_3 23 rfl rfl)
theorem dX5_ofRoute_91 : decode cX5_ofRoute 91 = .ok (.aload_n 0, 1) := dk_42 (dk_at dksX5_ofRoute_4 0 rfl rfl)
theorem dX5_ofRoute_92 : decode cX5_ofRoute 92 = .ok (.invokevirtual 240, 3) := dk_182 0 240 (dk_at dksX5_ofRoute_4 1 rfl rfl)
theorem dX5_ofRoute_95 : decode cX5_ofRoute 95 = .ok (.ireturn, 1) := dk_172 (dk_at dksX5_ofRoute_4 4 rfl rfl)
theorem dX5_ofRoute_96 : decode cX5_ofRoute 96 = .ok (.aload_n 0, 1) := dk_42 (dk_at dksX5_ofRoute_4 5 rfl rfl)
theorem dX5_ofRoute_97 : decode cX5_ofRoute 97 = .ok (.getfield 211, 3) := dk_180 0 211 (dk_at dksX5_ofRoute_4 6 rfl rfl)
theorem dX5_ofRoute_100 : decode cX5_ofRoute 100 = .ok (.ireturn, 1) := dk_172 (dk_at dksX5_ofRoute_4 9 rfl rfl)
abbrev cX5_routeOf : ByteArray := prog_13_method_32_code
def yX5_routeOf : MethodName := ⟨RX5, "routeOf", "(II)I"⟩
def dkwX5_routeOf_0 : List UInt8 := [42, 27, 182, 0, 243, 42, 180, 0, 199, 154, 0, 7, 2, 167, 0, 8, 42, 28, 182, 0, 246, 172]
abbrev dktX5_routeOf_0 : List UInt8 := dkwX5_routeOf_0 ++ []
theorem dksX5_routeOf_0 : cX5_routeOf.data.toList.drop 0 = dktX5_routeOf_0 := by decide +kernel
theorem dX5_routeOf_0 : decode cX5_routeOf 0 = .ok (.aload_n 0, 1) := dk_42 (dk_at dksX5_routeOf_0 0 rfl rfl)
theorem dX5_routeOf_1 : decode cX5_routeOf 1 = .ok (.iload_n 1, 1) := dk_27 (dk_at dksX5_routeOf_0 1 rfl rfl)
theorem dX5_routeOf_2 : decode cX5_routeOf 2 = .ok (.invokevirtual 243, 3) := dk_182 0 243 (dk_at dksX5_routeOf_0 2 rfl rfl)
theorem dX5_routeOf_5 : decode cX5_routeOf 5 = .ok (.aload_n 0, 1) := dk_42 (dk_at dksX5_routeOf_0 5 rfl rfl)
theorem dX5_routeOf_6 : decode cX5_routeOf 6 = .ok (.getfield 199, 3) := dk_180 0 199 (dk_at dksX5_routeOf_0 6 rfl rfl)
theorem dX5_routeOf_9 : decode cX5_routeOf 9 = .ok (.ifCond .ne 7, 3) := dk_154 0 7 (dk_at dksX5_routeOf_0 9 rfl rfl)
theorem dX5_routeOf_12 : decode cX5_routeOf 12 = .ok (.iconst (-1), 1) := dk_2 (dk_at dksX5_routeOf_0 12 rfl rfl)
theorem dX5_routeOf_13 : decode cX5_routeOf 13 = .ok (.goto 8, 3) := dk_167 0 8 (dk_at dksX5_routeOf_0 13 rfl rfl)
theorem dX5_routeOf_16 : decode cX5_routeOf 16 = .ok (.aload_n 0, 1) := dk_42 (dk_at dksX5_routeOf_0 16 rfl rfl)
theorem dX5_routeOf_17 : decode cX5_routeOf 17 = .ok (.iload_n 2, 1) := dk_28 (dk_at dksX5_routeOf_0 17 rfl rfl)
theorem dX5_routeOf_18 : decode cX5_routeOf 18 = .ok (.invokevirtual 246, 3) := dk_182 0 246 (dk_at dksX5_routeOf_0 18 rfl rfl)
theorem dX5_routeOf_21 : decode cX5_routeOf 21 = .ok (.ireturn, 1) := dk_172 (dk_at dksX5_routeOf_0 21 rfl rfl)
abbrev cX5_route : ByteArray := prog_13_method_88_code
def yX5_route : MethodName := ⟨RX5, "route", "(II)I"⟩
def dkwX5_route_1 : List UInt8 := [182, 1, 2, 153, 0, 5, 3, 172, 42, 27, 28, 182, 1, 185, 172]
abbrev dktX5_route_1 : List UInt8 := dkwX5_route_1 ++ []
def dkwX5_route_0 : List UInt8 := [42, 42, 27, 182, 1, 161, 28, 3, 16, 7, 184, 0, 119, 154, 0, 7, 4, 167, 0, 4, 3, 3]
abbrev dktX5_route_0 : List UInt8 := dkwX5_route_0 ++ dktX5_route_1
theorem dksX5_route_0 : cX5_route.data.toList.drop 0 = dktX5_route_0 := by decide +kernel
theorem dksX5_route_1 : cX5_route.data.toList.drop 22 = dktX5_route_1 := dk_seg dksX5_route_0 22 rfl rfl
theorem dX5_route_0 : decode cX5_route 0 = .ok (.aload_n 0, 1) := dk_42 (dk_at dksX5_route_0 0 rfl rfl)
theorem dX5_route_1 : decode cX5_route 1 = .ok (.aload_n 0, 1) := dk_42 (dk_at dksX5_route_0 1 rfl rfl)
theorem dX5_route_2 : decode cX5_route 2 = .ok (.iload_n 1, 1) := dk_27 (dk_at dksX5_route_0 2 rfl rfl)
theorem dX5_route_3 : decode cX5_route 3 = .ok (.invokevirtual 417, 3) := dk_182 1 161 (dk_at dksX5_route_0 3 rfl rfl)
theorem dX5_route_6 : decode cX5_route 6 = .ok (.iload_n 2, 1) := dk_28 (dk_at dksX5_route_0 6 rfl rfl)
theorem dX5_route_7 : decode cX5_route 7 = .ok (.iconst 0, 1) := dk_3 (dk_at dksX5_route_0 7 rfl rfl)
theorem dX5_route_8 : decode cX5_route 8 = .ok (.bipush 7, 2) := dk_16 7 (dk_at dksX5_route_0 8 rfl rfl)
theorem dX5_route_10 : decode cX5_route 10 = .ok (.invokestatic 119, 3) := dk_184 0 119 (dk_at dksX5_route_0 10 rfl rfl)
theorem dX5_route_13 : decode cX5_route 13 = .ok (.ifCond .ne 7, 3) := dk_154 0 7 (dk_at dksX5_route_0 13 rfl rfl)
theorem dX5_route_16 : decode cX5_route 16 = .ok (.iconst 1, 1) := dk_4 (dk_at dksX5_route_0 16 rfl rfl)
theorem dX5_route_17 : decode cX5_route 17 = .ok (.goto 4, 3) := dk_167 0 4 (dk_at dksX5_route_0 17 rfl rfl)
theorem dX5_route_20 : decode cX5_route 20 = .ok (.iconst 0, 1) := dk_3 (dk_at dksX5_route_0 20 rfl rfl)
theorem dX5_route_21 : decode cX5_route 21 = .ok (.iconst 0, 1) := dk_3 (dk_at dksX5_route_0 21 rfl rfl)
theorem dX5_route_22 : decode cX5_route 22 = .ok (.invokevirtual 258, 3) := dk_182 1 2 (dk_at dksX5_route_1 0 rfl rfl)
theorem dX5_route_25 : decode cX5_route 25 = .ok (.ifCond .eq 5, 3) := dk_153 0 5 (dk_at dksX5_route_1 3 rfl rfl)
theorem dX5_route_28 : decode cX5_route 28 = .ok (.iconst 0, 1) := dk_3 (dk_at dksX5_route_1 6 rfl rfl)
theorem dX5_route_29 : decode cX5_route 29 = .ok (.ireturn, 1) := dk_172 (dk_at dksX5_route_1 7 rfl rfl)
theorem dX5_route_30 : decode cX5_route 30 = .ok (.aload_n 0, 1) := dk_42 (dk_at dksX5_route_1 8 rfl rfl)
theorem dX5_route_31 : decode cX5_route 31 = .ok (.iload_n 1, 1) := dk_27 (dk_at dksX5_route_1 9 rfl rfl)
theorem dX5_route_32 : decode cX5_route 32 = .ok (.iload_n 2, 1) := dk_28 (dk_at dksX5_route_1 10 rfl rfl)
theorem dX5_route_33 : decode cX5_route 33 = .ok (.invokevirtual 441, 3) := dk_182 1 185 (dk_at dksX5_route_1 11 rfl rfl)
theorem dX5_route_36 : decode cX5_route 36 = .ok (.ireturn, 1) := dk_172 (dk_at dksX5_route_1 14 rfl rfl)
abbrev cX5_told : ByteArray := prog_13_method_89_code
def yX5_told : MethodName := ⟨RX5, "told", "([III)I"⟩
def dkwX5_told_0 : List UInt8 := [29, 3, 28, 4, 100, 184, 0, 119, 153, 0, 9, 43, 29, 46, 167, 0, 4, 2, 172]
abbrev dktX5_told_0 : List UInt8 := dkwX5_told_0 ++ []
theorem dksX5_told_0 : cX5_told.data.toList.drop 0 = dktX5_told_0 := by decide +kernel
theorem dX5_told_0 : decode cX5_told 0 = .ok (.iload_n 3, 1) := dk_29 (dk_at dksX5_told_0 0 rfl rfl)
theorem dX5_told_1 : decode cX5_told 1 = .ok (.iconst 0, 1) := dk_3 (dk_at dksX5_told_0 1 rfl rfl)
theorem dX5_told_2 : decode cX5_told 2 = .ok (.iload_n 2, 1) := dk_28 (dk_at dksX5_told_0 2 rfl rfl)
theorem dX5_told_3 : decode cX5_told 3 = .ok (.iconst 1, 1) := dk_4 (dk_at dksX5_told_0 3 rfl rfl)
theorem dX5_told_4 : decode cX5_told 4 = .ok (.isub, 1) := dk_100 (dk_at dksX5_told_0 4 rfl rfl)
theorem dX5_told_5 : decode cX5_told 5 = .ok (.invokestatic 119, 3) := dk_184 0 119 (dk_at dksX5_told_0 5 rfl rfl)
theorem dX5_told_8 : decode cX5_told 8 = .ok (.ifCond .eq 9, 3) := dk_153 0 9 (dk_at dksX5_told_0 8 rfl rfl)
theorem dX5_told_11 : decode cX5_told 11 = .ok (.aload_n 1, 1) := dk_43 (dk_at dksX5_told_0 11 rfl rfl)
theorem dX5_told_12 : decode cX5_told 12 = .ok (.iload_n 3, 1) := dk_29 (dk_at dksX5_told_0 12 rfl rfl)
theorem dX5_told_13 : decode cX5_told 13 = .ok (.iaload, 1) := dk_46 (dk_at dksX5_told_0 13 rfl rfl)
theorem dX5_told_14 : decode cX5_told 14 = .ok (.goto 4, 3) := dk_167 0 4 (dk_at dksX5_told_0 14 rfl rfl)
theorem dX5_told_17 : decode cX5_told 17 = .ok (.iconst (-1), 1) := dk_2 (dk_at dksX5_told_0 17 rfl rfl)
theorem dX5_told_18 : decode cX5_told 18 = .ok (.ireturn, 1) := dk_172 (dk_at dksX5_told_0 18 rfl rfl)
abbrev cX5_routePost : ByteArray := prog_13_method_90_code
def yX5_routePost : MethodName := ⟨RX5, "routePost", "(II)I"⟩
def dkwX5_routePost_1 : List UInt8 := [180, 0, 42, 42, 180, 0, 208, 28, 182, 1, 188, 172]
abbrev dktX5_routePost_1 : List UInt8 := dkwX5_routePost_1 ++ []
def dkwX5_routePost_0 : List UInt8 := [42, 42, 27, 182, 1, 161, 3, 3, 182, 1, 2, 153, 0, 5, 3, 172, 42, 27, 182, 0, 243, 42, 42]
abbrev dktX5_routePost_0 : List UInt8 := dkwX5_routePost_0 ++ dktX5_routePost_1
theorem dksX5_routePost_0 : cX5_routePost.data.toList.drop 0 = dktX5_routePost_0 := by decide +kernel
theorem dksX5_routePost_1 : cX5_routePost.data.toList.drop 23 = dktX5_routePost_1 := dk_seg dksX5_routePost_0 23 rfl rfl
theorem dX5_routePost_0 : decode cX5_routePost 0 = .ok (.aload_n 0, 1) := dk_42 (dk_at dksX5_routePost_0 0 rfl rfl)
theorem dX5_routePost_1 : decode cX5_routePost 1 = .ok (.aload_n 0, 1) := dk_42 (dk_at dksX5_routePost_0 1 rfl rfl)
theorem dX5_routePost_2 : decode cX5_routePost 2 = .ok (.iload_n 1, 1) := dk_27 (dk_at dksX5_routePost_0 2 rfl rfl)
theorem dX5_routePost_3 : decode cX5_routePost 3 = .ok (.invokevirtual 417, 3) := dk_182 1 161 (dk_at dksX5_routePost_0 3 rfl rfl)
theorem dX5_routePost_6 : decode cX5_routePost 6 = .ok (.iconst 0, 1) := dk_3 (dk_at dksX5_routePost_0 6 rfl rfl)
theorem dX5_routePost_7 : decode cX5_routePost 7 = .ok (.iconst 0, 1) := dk_3 (dk_at dksX5_routePost_0 7 rfl rfl)
theorem dX5_routePost_8 : decode cX5_routePost 8 = .ok (.invokevirtual 258, 3) := dk_182 1 2 (dk_at dksX5_routePost_0 8 rfl rfl)
theorem dX5_routePost_11 : decode cX5_routePost 11 = .ok (.ifCond .eq 5, 3) := dk_153 0 5 (dk_at dksX5_routePost_0 11 rfl rfl)
theorem dX5_routePost_14 : decode cX5_routePost 14 = .ok (.iconst 0, 1) := dk_3 (dk_at dksX5_routePost_0 14 rfl rfl)
theorem dX5_routePost_15 : decode cX5_routePost 15 = .ok (.ireturn, 1) := dk_172 (dk_at dksX5_routePost_0 15 rfl rfl)
theorem dX5_routePost_16 : decode cX5_routePost 16 = .ok (.aload_n 0, 1) := dk_42 (dk_at dksX5_routePost_0 16 rfl rfl)
theorem dX5_routePost_17 : decode cX5_routePost 17 = .ok (.iload_n 1, 1) := dk_27 (dk_at dksX5_routePost_0 17 rfl rfl)
theorem dX5_routePost_18 : decode cX5_routePost 18 = .ok (.invokevirtual 243, 3) := dk_182 0 243 (dk_at dksX5_routePost_0 18 rfl rfl)
theorem dX5_routePost_21 : decode cX5_routePost 21 = .ok (.aload_n 0, 1) := dk_42 (dk_at dksX5_routePost_0 21 rfl rfl)
theorem dX5_routePost_22 : decode cX5_routePost 22 = .ok (.aload_n 0, 1) := dk_42 (dk_at dksX5_routePost_0 22 rfl rfl)
theorem dX5_routePost_23 : decode cX5_routePost 23 = .ok (.getfield 42, 3) := dk_180 0 42 (dk_at dksX5_routePost_1 0 rfl rfl)
theorem dX5_routePost_26 : decode cX5_routePost 26 = .ok (.aload_n 0, 1) := dk_42 (dk_at dksX5_routePost_1 3 rfl rfl)
theorem dX5_routePost_27 : decode cX5_routePost 27 = .ok (.getfield 208, 3) := dk_180 0 208 (dk_at dksX5_routePost_1 4 rfl rfl)
theorem dX5_routePost_30 : decode cX5_routePost 30 = .ok (.iload_n 2, 1) := dk_28 (dk_at dksX5_routePost_1 7 rfl rfl)
theorem dX5_routePost_31 : decode cX5_routePost 31 = .ok (.invokevirtual 444, 3) := dk_182 1 188 (dk_at dksX5_routePost_1 8 rfl rfl)
theorem dX5_routePost_34 : decode cX5_routePost 34 = .ok (.ireturn, 1) := dk_172 (dk_at dksX5_routePost_1 11 rfl rfl)
abbrev cX5_routeCell : ByteArray := prog_13_method_91_code
def yX5_routeCell : MethodName := ⟨RX5, "routeCell", "(II)I"⟩
def dkwX5_routeCell_1 : List UInt8 := [180, 0, 45, 42, 180, 0, 199, 28, 182, 1, 188, 172]
abbrev dktX5_routeCell_1 : List UInt8 := dkwX5_routeCell_1 ++ []
def dkwX5_routeCell_0 : List UInt8 := [42, 42, 27, 182, 1, 161, 3, 3, 182, 1, 2, 153, 0, 5, 3, 172, 42, 27, 182, 0, 243, 42, 42]
abbrev dktX5_routeCell_0 : List UInt8 := dkwX5_routeCell_0 ++ dktX5_routeCell_1
theorem dksX5_routeCell_0 : cX5_routeCell.data.toList.drop 0 = dktX5_routeCell_0 := by decide +kernel
theorem dksX5_routeCell_1 : cX5_routeCell.data.toList.drop 23 = dktX5_routeCell_1 := dk_seg dksX5_routeCell_0 23 rfl rfl
theorem dX5_routeCell_0 : decode cX5_routeCell 0 = .ok (.aload_n 0, 1) := dk_42 (dk_at dksX5_routeCell_0 0 rfl rfl)
theorem dX5_routeCell_1 : decode cX5_routeCell 1 = .ok (.aload_n 0, 1) := dk_42 (dk_at dksX5_routeCell_0 1 rfl rfl)
theorem dX5_routeCell_2 : decode cX5_routeCell 2 = .ok (.iload_n 1, 1) := dk_27 (dk_at dksX5_routeCell_0 2 rfl rfl)
theorem dX5_routeCell_3 : decode cX5_routeCell 3 = .ok (.invokevirtual 417, 3) := dk_182 1 161 (dk_at dksX5_routeCell_0 3 rfl rfl)
theorem dX5_routeCell_6 : decode cX5_routeCell 6 = .ok (.iconst 0, 1) := dk_3 (dk_at dksX5_routeCell_0 6 rfl rfl)
theorem dX5_routeCell_7 : decode cX5_routeCell 7 = .ok (.iconst 0, 1) := dk_3 (dk_at dksX5_routeCell_0 7 rfl rfl)
theorem dX5_routeCell_8 : decode cX5_routeCell 8 = .ok (.invokevirtual 258, 3) := dk_182 1 2 (dk_at dksX5_routeCell_0 8 rfl rfl)
theorem dX5_routeCell_11 : decode cX5_routeCell 11 = .ok (.ifCond .eq 5, 3) := dk_153 0 5 (dk_at dksX5_routeCell_0 11 rfl rfl)
theorem dX5_routeCell_14 : decode cX5_routeCell 14 = .ok (.iconst 0, 1) := dk_3 (dk_at dksX5_routeCell_0 14 rfl rfl)
theorem dX5_routeCell_15 : decode cX5_routeCell 15 = .ok (.ireturn, 1) := dk_172 (dk_at dksX5_routeCell_0 15 rfl rfl)
theorem dX5_routeCell_16 : decode cX5_routeCell 16 = .ok (.aload_n 0, 1) := dk_42 (dk_at dksX5_routeCell_0 16 rfl rfl)
theorem dX5_routeCell_17 : decode cX5_routeCell 17 = .ok (.iload_n 1, 1) := dk_27 (dk_at dksX5_routeCell_0 17 rfl rfl)
theorem dX5_routeCell_18 : decode cX5_routeCell 18 = .ok (.invokevirtual 243, 3) := dk_182 0 243 (dk_at dksX5_routeCell_0 18 rfl rfl)
theorem dX5_routeCell_21 : decode cX5_routeCell 21 = .ok (.aload_n 0, 1) := dk_42 (dk_at dksX5_routeCell_0 21 rfl rfl)
theorem dX5_routeCell_22 : decode cX5_routeCell 22 = .ok (.aload_n 0, 1) := dk_42 (dk_at dksX5_routeCell_0 22 rfl rfl)
theorem dX5_routeCell_23 : decode cX5_routeCell 23 = .ok (.getfield 45, 3) := dk_180 0 45 (dk_at dksX5_routeCell_1 0 rfl rfl)
theorem dX5_routeCell_26 : decode cX5_routeCell 26 = .ok (.aload_n 0, 1) := dk_42 (dk_at dksX5_routeCell_1 3 rfl rfl)
theorem dX5_routeCell_27 : decode cX5_routeCell 27 = .ok (.getfield 199, 3) := dk_180 0 199 (dk_at dksX5_routeCell_1 4 rfl rfl)
theorem dX5_routeCell_30 : decode cX5_routeCell 30 = .ok (.iload_n 2, 1) := dk_28 (dk_at dksX5_routeCell_1 7 rfl rfl)
theorem dX5_routeCell_31 : decode cX5_routeCell 31 = .ok (.invokevirtual 444, 3) := dk_182 1 188 (dk_at dksX5_routeCell_1 8 rfl rfl)
theorem dX5_routeCell_34 : decode cX5_routeCell 34 = .ok (.ireturn, 1) := dk_172 (dk_at dksX5_routeCell_1 11 rfl rfl)
abbrev cX5_inferred : ByteArray := prog_13_method_92_code
def yX5_inferred : MethodName := ⟨RX5, "inferred", "(II)I"⟩
def dkwX5_inferred_1 : List UInt8 := [180, 0, 54, 42, 180, 0, 205, 28, 182, 1, 188, 172]
abbrev dktX5_inferred_1 : List UInt8 := dkwX5_inferred_1 ++ []
def dkwX5_inferred_0 : List UInt8 := [42, 42, 27, 182, 1, 161, 3, 3, 182, 1, 2, 153, 0, 5, 3, 172, 42, 27, 182, 0, 243, 42, 42]
abbrev dktX5_inferred_0 : List UInt8 := dkwX5_inferred_0 ++ dktX5_inferred_1
theorem dksX5_inferred_0 : cX5_inferred.data.toList.drop 0 = dktX5_inferred_0 := by decide +kernel
theorem dksX5_inferred_1 : cX5_inferred.data.toList.drop 23 = dktX5_inferred_1 := dk_seg dksX5_inferred_0 23 rfl rfl
theorem dX5_inferred_0 : decode cX5_inferred 0 = .ok (.aload_n 0, 1) := dk_42 (dk_at dksX5_inferred_0 0 rfl rfl)
theorem dX5_inferred_1 : decode cX5_inferred 1 = .ok (.aload_n 0, 1) := dk_42 (dk_at dksX5_inferred_0 1 rfl rfl)
theorem dX5_inferred_2 : decode cX5_inferred 2 = .ok (.iload_n 1, 1) := dk_27 (dk_at dksX5_inferred_0 2 rfl rfl)
theorem dX5_inferred_3 : decode cX5_inferred 3 = .ok (.invokevirtual 417, 3) := dk_182 1 161 (dk_at dksX5_inferred_0 3 rfl rfl)
theorem dX5_inferred_6 : decode cX5_inferred 6 = .ok (.iconst 0, 1) := dk_3 (dk_at dksX5_inferred_0 6 rfl rfl)
theorem dX5_inferred_7 : decode cX5_inferred 7 = .ok (.iconst 0, 1) := dk_3 (dk_at dksX5_inferred_0 7 rfl rfl)
theorem dX5_inferred_8 : decode cX5_inferred 8 = .ok (.invokevirtual 258, 3) := dk_182 1 2 (dk_at dksX5_inferred_0 8 rfl rfl)
theorem dX5_inferred_11 : decode cX5_inferred 11 = .ok (.ifCond .eq 5, 3) := dk_153 0 5 (dk_at dksX5_inferred_0 11 rfl rfl)
theorem dX5_inferred_14 : decode cX5_inferred 14 = .ok (.iconst 0, 1) := dk_3 (dk_at dksX5_inferred_0 14 rfl rfl)
theorem dX5_inferred_15 : decode cX5_inferred 15 = .ok (.ireturn, 1) := dk_172 (dk_at dksX5_inferred_0 15 rfl rfl)
theorem dX5_inferred_16 : decode cX5_inferred 16 = .ok (.aload_n 0, 1) := dk_42 (dk_at dksX5_inferred_0 16 rfl rfl)
theorem dX5_inferred_17 : decode cX5_inferred 17 = .ok (.iload_n 1, 1) := dk_27 (dk_at dksX5_inferred_0 17 rfl rfl)
theorem dX5_inferred_18 : decode cX5_inferred 18 = .ok (.invokevirtual 243, 3) := dk_182 0 243 (dk_at dksX5_inferred_0 18 rfl rfl)
theorem dX5_inferred_21 : decode cX5_inferred 21 = .ok (.aload_n 0, 1) := dk_42 (dk_at dksX5_inferred_0 21 rfl rfl)
theorem dX5_inferred_22 : decode cX5_inferred 22 = .ok (.aload_n 0, 1) := dk_42 (dk_at dksX5_inferred_0 22 rfl rfl)
theorem dX5_inferred_23 : decode cX5_inferred 23 = .ok (.getfield 54, 3) := dk_180 0 54 (dk_at dksX5_inferred_1 0 rfl rfl)
theorem dX5_inferred_26 : decode cX5_inferred 26 = .ok (.aload_n 0, 1) := dk_42 (dk_at dksX5_inferred_1 3 rfl rfl)
theorem dX5_inferred_27 : decode cX5_inferred 27 = .ok (.getfield 205, 3) := dk_180 0 205 (dk_at dksX5_inferred_1 4 rfl rfl)
theorem dX5_inferred_30 : decode cX5_inferred 30 = .ok (.iload_n 2, 1) := dk_28 (dk_at dksX5_inferred_1 7 rfl rfl)
theorem dX5_inferred_31 : decode cX5_inferred 31 = .ok (.invokevirtual 444, 3) := dk_182 1 188 (dk_at dksX5_inferred_1 8 rfl rfl)
theorem dX5_inferred_34 : decode cX5_inferred 34 = .ok (.ireturn, 1) := dk_172 (dk_at dksX5_inferred_1 11 rfl rfl)
abbrev cX5_marks : ByteArray := prog_13_method_93_code
def yX5_marks : MethodName := ⟨RX5, "marks", "([ZI)V"⟩
def dkwX5_marks_2 : List UInt8 := [84, 132, 3, 1, 167, 255, 236, 177]
abbrev dktX5_marks_2 : List UInt8 := dkwX5_marks_2 ++ []
def dkwX5_marks_1 : List UInt8 := [132, 3, 1, 167, 255, 242, 3, 62, 29, 42, 180, 0, 199, 162, 0, 18, 43, 42, 180, 0, 45, 29, 46, 4]
abbrev dktX5_marks_1 : List UInt8 := dkwX5_marks_1 ++ dktX5_marks_2
def dkwX5_marks_0 : List UInt8 := [42, 42, 28, 182, 0, 249, 182, 0, 243, 3, 62, 29, 17, 7, 208, 162, 0, 13, 43, 29, 3, 84]
abbrev dktX5_marks_0 : List UInt8 := dkwX5_marks_0 ++ dktX5_marks_1
theorem dksX5_marks_0 : cX5_marks.data.toList.drop 0 = dktX5_marks_0 := by decide +kernel
theorem dksX5_marks_1 : cX5_marks.data.toList.drop 22 = dktX5_marks_1 := dk_seg dksX5_marks_0 22 rfl rfl
theorem dksX5_marks_2 : cX5_marks.data.toList.drop 46 = dktX5_marks_2 := dk_seg dksX5_marks_1 24 rfl rfl
theorem dX5_marks_0 : decode cX5_marks 0 = .ok (.aload_n 0, 1) := dk_42 (dk_at dksX5_marks_0 0 rfl rfl)
theorem dX5_marks_1 : decode cX5_marks 1 = .ok (.aload_n 0, 1) := dk_42 (dk_at dksX5_marks_0 1 rfl rfl)
theorem dX5_marks_2 : decode cX5_marks 2 = .ok (.iload_n 2, 1) := dk_28 (dk_at dksX5_marks_0 2 rfl rfl)
theorem dX5_marks_3 : decode cX5_marks 3 = .ok (.invokevirtual 249, 3) := dk_182 0 249 (dk_at dksX5_marks_0 3 rfl rfl)
theorem dX5_marks_6 : decode cX5_marks 6 = .ok (.invokevirtual 243, 3) := dk_182 0 243 (dk_at dksX5_marks_0 6 rfl rfl)
theorem dX5_marks_9 : decode cX5_marks 9 = .ok (.iconst 0, 1) := dk_3 (dk_at dksX5_marks_0 9 rfl rfl)
theorem dX5_marks_10 : decode cX5_marks 10 = .ok (.istore_n 3, 1) := dk_62 (dk_at dksX5_marks_0 10 rfl rfl)
theorem dX5_marks_11 : decode cX5_marks 11 = .ok (.iload_n 3, 1) := dk_29 (dk_at dksX5_marks_0 11 rfl rfl)
theorem dX5_marks_12 : decode cX5_marks 12 = .ok (.sipush 2000, 3) := dk_17 7 208 (dk_at dksX5_marks_0 12 rfl rfl)
theorem dX5_marks_15 : decode cX5_marks 15 = .ok (.if_icmp .ge 13, 3) := dk_162 0 13 (dk_at dksX5_marks_0 15 rfl rfl)
theorem dX5_marks_18 : decode cX5_marks 18 = .ok (.aload_n 1, 1) := dk_43 (dk_at dksX5_marks_0 18 rfl rfl)
theorem dX5_marks_19 : decode cX5_marks 19 = .ok (.iload_n 3, 1) := dk_29 (dk_at dksX5_marks_0 19 rfl rfl)
theorem dX5_marks_20 : decode cX5_marks 20 = .ok (.iconst 0, 1) := dk_3 (dk_at dksX5_marks_0 20 rfl rfl)
theorem dX5_marks_21 : decode cX5_marks 21 = .ok (.bastore, 1) := dk_84 (dk_at dksX5_marks_0 21 rfl rfl)
theorem dX5_marks_22 : decode cX5_marks 22 = .ok (.iinc 3 1, 3) := dk_132 3 1 (dk_at dksX5_marks_1 0 rfl rfl)
theorem dX5_marks_25 : decode cX5_marks 25 = .ok (.goto (-14), 3) := dk_167 255 242 (dk_at dksX5_marks_1 3 rfl rfl)
theorem dX5_marks_28 : decode cX5_marks 28 = .ok (.iconst 0, 1) := dk_3 (dk_at dksX5_marks_1 6 rfl rfl)
theorem dX5_marks_29 : decode cX5_marks 29 = .ok (.istore_n 3, 1) := dk_62 (dk_at dksX5_marks_1 7 rfl rfl)
theorem dX5_marks_30 : decode cX5_marks 30 = .ok (.iload_n 3, 1) := dk_29 (dk_at dksX5_marks_1 8 rfl rfl)
theorem dX5_marks_31 : decode cX5_marks 31 = .ok (.aload_n 0, 1) := dk_42 (dk_at dksX5_marks_1 9 rfl rfl)
theorem dX5_marks_32 : decode cX5_marks 32 = .ok (.getfield 199, 3) := dk_180 0 199 (dk_at dksX5_marks_1 10 rfl rfl)
theorem dX5_marks_35 : decode cX5_marks 35 = .ok (.if_icmp .ge 18, 3) := dk_162 0 18 (dk_at dksX5_marks_1 13 rfl rfl)
theorem dX5_marks_38 : decode cX5_marks 38 = .ok (.aload_n 1, 1) := dk_43 (dk_at dksX5_marks_1 16 rfl rfl)
theorem dX5_marks_39 : decode cX5_marks 39 = .ok (.aload_n 0, 1) := dk_42 (dk_at dksX5_marks_1 17 rfl rfl)
theorem dX5_marks_40 : decode cX5_marks 40 = .ok (.getfield 45, 3) := dk_180 0 45 (dk_at dksX5_marks_1 18 rfl rfl)
theorem dX5_marks_43 : decode cX5_marks 43 = .ok (.iload_n 3, 1) := dk_29 (dk_at dksX5_marks_1 21 rfl rfl)
theorem dX5_marks_44 : decode cX5_marks 44 = .ok (.iaload, 1) := dk_46 (dk_at dksX5_marks_1 22 rfl rfl)
theorem dX5_marks_45 : decode cX5_marks 45 = .ok (.iconst 1, 1) := dk_4 (dk_at dksX5_marks_1 23 rfl rfl)
theorem dX5_marks_46 : decode cX5_marks 46 = .ok (.bastore, 1) := dk_84 (dk_at dksX5_marks_2 0 rfl rfl)
theorem dX5_marks_47 : decode cX5_marks 47 = .ok (.iinc 3 1, 3) := dk_132 3 1 (dk_at dksX5_marks_2 1 rfl rfl)
theorem dX5_marks_50 : decode cX5_marks 50 = .ok (.goto (-20), 3) := dk_167 255 236 (dk_at dksX5_marks_2 4 rfl rfl)
theorem dX5_marks_53 : decode cX5_marks 53 = .ok (.return_, 1) := dk_177 (dk_at dksX5_marks_2 7 rfl rfl)
abbrev cX5_shared : ByteArray := prog_13_method_94_code
def yX5_shared : MethodName := ⟨RX5, "shared", "(II)I"⟩
def dkwX5_shared_3 : List UInt8 := [153, 0, 16, 42, 180, 0, 78, 21, 4, 51, 153, 0, 6, 132, 3, 1, 132, 4, 1, 167, 255, 222, 29, 172]
abbrev dktX5_shared_3 : List UInt8 := dkwX5_shared_3 ++ []
def dkwX5_shared_2 : List UInt8 := [182, 1, 192, 3, 62, 3, 54, 4, 21, 4, 17, 7, 208, 162, 0, 32, 42, 180, 0, 75, 21, 4, 51]
abbrev dktX5_shared_2 : List UInt8 := dkwX5_shared_2 ++ dktX5_shared_3
def dkwX5_shared_1 : List UInt8 := [182, 1, 2, 153, 0, 5, 3, 172, 42, 42, 180, 0, 75, 27, 182, 1, 192, 42, 42, 180, 0, 78, 28]
abbrev dktX5_shared_1 : List UInt8 := dkwX5_shared_1 ++ dktX5_shared_2
def dkwX5_shared_0 : List UInt8 := [42, 27, 184, 1, 158, 154, 0, 10, 28, 184, 1, 158, 153, 0, 7, 4, 167, 0, 4, 3, 3, 3]
abbrev dktX5_shared_0 : List UInt8 := dkwX5_shared_0 ++ dktX5_shared_1
theorem dksX5_shared_0 : cX5_shared.data.toList.drop 0 = dktX5_shared_0 := by decide +kernel
theorem dksX5_shared_1 : cX5_shared.data.toList.drop 22 = dktX5_shared_1 := dk_seg dksX5_shared_0 22 rfl rfl
theorem dksX5_shared_2 : cX5_shared.data.toList.drop 45 = dktX5_shared_2 := dk_seg dksX5_shared_1 23 rfl rfl
theorem dksX5_shared_3 : cX5_shared.data.toList.drop 68 = dktX5_shared_3 := dk_seg dksX5_shared_2 23 rfl rfl
theorem dX5_shared_0 : decode cX5_shared 0 = .ok (.aload_n 0, 1) := dk_42 (dk_at dksX5_shared_0 0 rfl rfl)
theorem dX5_shared_1 : decode cX5_shared 1 = .ok (.iload_n 1, 1) := dk_27 (dk_at dksX5_shared_0 1 rfl rfl)
theorem dX5_shared_2 : decode cX5_shared 2 = .ok (.invokestatic 414, 3) := dk_184 1 158 (dk_at dksX5_shared_0 2 rfl rfl)
theorem dX5_shared_5 : decode cX5_shared 5 = .ok (.ifCond .ne 10, 3) := dk_154 0 10 (dk_at dksX5_shared_0 5 rfl rfl)
theorem dX5_shared_8 : decode cX5_shared 8 = .ok (.iload_n 2, 1) := dk_28 (dk_at dksX5_shared_0 8 rfl rfl)
theorem dX5_shared_9 : decode cX5_shared 9 = .ok (.invokestatic 414, 3) := dk_184 1 158 (dk_at dksX5_shared_0 9 rfl rfl)
theorem dX5_shared_12 : decode cX5_shared 12 = .ok (.ifCond .eq 7, 3) := dk_153 0 7 (dk_at dksX5_shared_0 12 rfl rfl)
theorem dX5_shared_15 : decode cX5_shared 15 = .ok (.iconst 1, 1) := dk_4 (dk_at dksX5_shared_0 15 rfl rfl)
theorem dX5_shared_16 : decode cX5_shared 16 = .ok (.goto 4, 3) := dk_167 0 4 (dk_at dksX5_shared_0 16 rfl rfl)
theorem dX5_shared_19 : decode cX5_shared 19 = .ok (.iconst 0, 1) := dk_3 (dk_at dksX5_shared_0 19 rfl rfl)
theorem dX5_shared_20 : decode cX5_shared 20 = .ok (.iconst 0, 1) := dk_3 (dk_at dksX5_shared_0 20 rfl rfl)
theorem dX5_shared_21 : decode cX5_shared 21 = .ok (.iconst 0, 1) := dk_3 (dk_at dksX5_shared_0 21 rfl rfl)
theorem dX5_shared_22 : decode cX5_shared 22 = .ok (.invokevirtual 258, 3) := dk_182 1 2 (dk_at dksX5_shared_1 0 rfl rfl)
theorem dX5_shared_25 : decode cX5_shared 25 = .ok (.ifCond .eq 5, 3) := dk_153 0 5 (dk_at dksX5_shared_1 3 rfl rfl)
theorem dX5_shared_28 : decode cX5_shared 28 = .ok (.iconst 0, 1) := dk_3 (dk_at dksX5_shared_1 6 rfl rfl)
theorem dX5_shared_29 : decode cX5_shared 29 = .ok (.ireturn, 1) := dk_172 (dk_at dksX5_shared_1 7 rfl rfl)
theorem dX5_shared_30 : decode cX5_shared 30 = .ok (.aload_n 0, 1) := dk_42 (dk_at dksX5_shared_1 8 rfl rfl)
theorem dX5_shared_31 : decode cX5_shared 31 = .ok (.aload_n 0, 1) := dk_42 (dk_at dksX5_shared_1 9 rfl rfl)
theorem dX5_shared_32 : decode cX5_shared 32 = .ok (.getfield 75, 3) := dk_180 0 75 (dk_at dksX5_shared_1 10 rfl rfl)
theorem dX5_shared_35 : decode cX5_shared 35 = .ok (.iload_n 1, 1) := dk_27 (dk_at dksX5_shared_1 13 rfl rfl)
theorem dX5_shared_36 : decode cX5_shared 36 = .ok (.invokevirtual 448, 3) := dk_182 1 192 (dk_at dksX5_shared_1 14 rfl rfl)
theorem dX5_shared_39 : decode cX5_shared 39 = .ok (.aload_n 0, 1) := dk_42 (dk_at dksX5_shared_1 17 rfl rfl)
theorem dX5_shared_40 : decode cX5_shared 40 = .ok (.aload_n 0, 1) := dk_42 (dk_at dksX5_shared_1 18 rfl rfl)
theorem dX5_shared_41 : decode cX5_shared 41 = .ok (.getfield 78, 3) := dk_180 0 78 (dk_at dksX5_shared_1 19 rfl rfl)
theorem dX5_shared_44 : decode cX5_shared 44 = .ok (.iload_n 2, 1) := dk_28 (dk_at dksX5_shared_1 22 rfl rfl)
theorem dX5_shared_45 : decode cX5_shared 45 = .ok (.invokevirtual 448, 3) := dk_182 1 192 (dk_at dksX5_shared_2 0 rfl rfl)
theorem dX5_shared_48 : decode cX5_shared 48 = .ok (.iconst 0, 1) := dk_3 (dk_at dksX5_shared_2 3 rfl rfl)
theorem dX5_shared_49 : decode cX5_shared 49 = .ok (.istore_n 3, 1) := dk_62 (dk_at dksX5_shared_2 4 rfl rfl)
theorem dX5_shared_50 : decode cX5_shared 50 = .ok (.iconst 0, 1) := dk_3 (dk_at dksX5_shared_2 5 rfl rfl)
theorem dX5_shared_51 : decode cX5_shared 51 = .ok (.istore 4, 2) := dk_54 4 (dk_at dksX5_shared_2 6 rfl rfl)
theorem dX5_shared_53 : decode cX5_shared 53 = .ok (.iload 4, 2) := dk_21 4 (dk_at dksX5_shared_2 8 rfl rfl)
theorem dX5_shared_55 : decode cX5_shared 55 = .ok (.sipush 2000, 3) := dk_17 7 208 (dk_at dksX5_shared_2 10 rfl rfl)
theorem dX5_shared_58 : decode cX5_shared 58 = .ok (.if_icmp .ge 32, 3) := dk_162 0 32 (dk_at dksX5_shared_2 13 rfl rfl)
theorem dX5_shared_61 : decode cX5_shared 61 = .ok (.aload_n 0, 1) := dk_42 (dk_at dksX5_shared_2 16 rfl rfl)
theorem dX5_shared_62 : decode cX5_shared 62 = .ok (.getfield 75, 3) := dk_180 0 75 (dk_at dksX5_shared_2 17 rfl rfl)
theorem dX5_shared_65 : decode cX5_shared 65 = .ok (.iload 4, 2) := dk_21 4 (dk_at dksX5_shared_2 20 rfl rfl)
theorem dX5_shared_67 : decode cX5_shared 67 = .ok (.baload, 1) := dk_51 (dk_at dksX5_shared_2 22 rfl rfl)
theorem dX5_shared_68 : decode cX5_shared 68 = .ok (.ifCond .eq 16, 3) := dk_153 0 16 (dk_at dksX5_shared_3 0 rfl rfl)
theorem dX5_shared_71 : decode cX5_shared 71 = .ok (.aload_n 0, 1) := dk_42 (dk_at dksX5_shared_3 3 rfl rfl)
theorem dX5_shared_72 : decode cX5_shared 72 = .ok (.getfield 78, 3) := dk_180 0 78 (dk_at dksX5_shared_3 4 rfl rfl)
theorem dX5_shared_75 : decode cX5_shared 75 = .ok (.iload 4, 2) := dk_21 4 (dk_at dksX5_shared_3 7 rfl rfl)
theorem dX5_shared_77 : decode cX5_shared 77 = .ok (.baload, 1) := dk_51 (dk_at dksX5_shared_3 9 rfl rfl)
theorem dX5_shared_78 : decode cX5_shared 78 = .ok (.ifCond .eq 6, 3) := dk_153 0 6 (dk_at dksX5_shared_3 10 rfl rfl)
theorem dX5_shared_81 : decode cX5_shared 81 = .ok (.iinc 3 1, 3) := dk_132 3 1 (dk_at dksX5_shared_3 13 rfl rfl)
theorem dX5_shared_84 : decode cX5_shared 84 = .ok (.iinc 4 1, 3) := dk_132 4 1 (dk_at dksX5_shared_3 16 rfl rfl)
theorem dX5_shared_87 : decode cX5_shared 87 = .ok (.goto (-34), 3) := dk_167 255 222 (dk_at dksX5_shared_3 19 rfl rfl)
theorem dX5_shared_90 : decode cX5_shared 90 = .ok (.iload_n 3, 1) := dk_29 (dk_at dksX5_shared_3 22 rfl rfl)
theorem dX5_shared_91 : decode cX5_shared 91 = .ok (.ireturn, 1) := dk_172 (dk_at dksX5_shared_3 23 rfl rfl)
abbrev cX5_stopped : ByteArray := prog_13_method_95_code
def yX5_stopped : MethodName := ⟨RX5, "stopped", "(IZ)I"⟩
def dkwX5_stopped_4 : List UInt8 := [182, 0, 127, 153, 0, 7, 5, 167, 0, 4, 6, 172]
abbrev dktX5_stopped_4 : List UInt8 := dkwX5_stopped_4 ++ []
def dkwX5_stopped_3 : List UInt8 := [104, 96, 54, 5, 42, 21, 4, 21, 5, 182, 0, 123, 154, 0, 7, 4, 167, 0, 19, 42, 21, 4, 21, 5]
abbrev dktX5_stopped_3 : List UInt8 := dkwX5_stopped_3 ++ dktX5_stopped_4
def dkwX5_stopped_2 : List UInt8 := [29, 184, 0, 147, 104, 96, 54, 4, 42, 27, 4, 182, 0, 130, 42, 180, 0, 138, 4, 96, 29, 184, 0, 151]
abbrev dktX5_stopped_2 : List UInt8 := dkwX5_stopped_2 ++ dktX5_stopped_3
def dkwX5_stopped_1 : List UInt8 := [182, 0, 184, 28, 154, 0, 8, 42, 180, 0, 138, 172, 42, 27, 3, 182, 0, 130, 42, 180, 0, 138, 4, 96]
abbrev dktX5_stopped_1 : List UInt8 := dkwX5_stopped_1 ++ dktX5_stopped_2
def dkwX5_stopped_0 : List UInt8 := [42, 27, 6, 182, 0, 130, 62, 42, 42, 27, 3, 182, 0, 130, 42, 27, 4, 182, 0, 130, 29, 27]
abbrev dktX5_stopped_0 : List UInt8 := dkwX5_stopped_0 ++ dktX5_stopped_1
theorem dksX5_stopped_0 : cX5_stopped.data.toList.drop 0 = dktX5_stopped_0 := by decide +kernel
theorem dksX5_stopped_1 : cX5_stopped.data.toList.drop 22 = dktX5_stopped_1 := dk_seg dksX5_stopped_0 22 rfl rfl
theorem dksX5_stopped_2 : cX5_stopped.data.toList.drop 46 = dktX5_stopped_2 := dk_seg dksX5_stopped_1 24 rfl rfl
theorem dksX5_stopped_3 : cX5_stopped.data.toList.drop 70 = dktX5_stopped_3 := dk_seg dksX5_stopped_2 24 rfl rfl
theorem dksX5_stopped_4 : cX5_stopped.data.toList.drop 94 = dktX5_stopped_4 := dk_seg dksX5_stopped_3 24 rfl rfl
theorem dX5_stopped_0 : decode cX5_stopped 0 = .ok (.aload_n 0, 1) := dk_42 (dk_at dksX5_stopped_0 0 rfl rfl)
theorem dX5_stopped_1 : decode cX5_stopped 1 = .ok (.iload_n 1, 1) := dk_27 (dk_at dksX5_stopped_0 1 rfl rfl)
theorem dX5_stopped_2 : decode cX5_stopped 2 = .ok (.iconst 3, 1) := dk_6 (dk_at dksX5_stopped_0 2 rfl rfl)
theorem dX5_stopped_3 : decode cX5_stopped 3 = .ok (.invokevirtual 130, 3) := dk_182 0 130 (dk_at dksX5_stopped_0 3 rfl rfl)
theorem dX5_stopped_6 : decode cX5_stopped 6 = .ok (.istore_n 3, 1) := dk_62 (dk_at dksX5_stopped_0 6 rfl rfl)
theorem dX5_stopped_7 : decode cX5_stopped 7 = .ok (.aload_n 0, 1) := dk_42 (dk_at dksX5_stopped_0 7 rfl rfl)
theorem dX5_stopped_8 : decode cX5_stopped 8 = .ok (.aload_n 0, 1) := dk_42 (dk_at dksX5_stopped_0 8 rfl rfl)
theorem dX5_stopped_9 : decode cX5_stopped 9 = .ok (.iload_n 1, 1) := dk_27 (dk_at dksX5_stopped_0 9 rfl rfl)
theorem dX5_stopped_10 : decode cX5_stopped 10 = .ok (.iconst 0, 1) := dk_3 (dk_at dksX5_stopped_0 10 rfl rfl)
theorem dX5_stopped_11 : decode cX5_stopped 11 = .ok (.invokevirtual 130, 3) := dk_182 0 130 (dk_at dksX5_stopped_0 11 rfl rfl)
theorem dX5_stopped_14 : decode cX5_stopped 14 = .ok (.aload_n 0, 1) := dk_42 (dk_at dksX5_stopped_0 14 rfl rfl)
theorem dX5_stopped_15 : decode cX5_stopped 15 = .ok (.iload_n 1, 1) := dk_27 (dk_at dksX5_stopped_0 15 rfl rfl)
theorem dX5_stopped_16 : decode cX5_stopped 16 = .ok (.iconst 1, 1) := dk_4 (dk_at dksX5_stopped_0 16 rfl rfl)
theorem dX5_stopped_17 : decode cX5_stopped 17 = .ok (.invokevirtual 130, 3) := dk_182 0 130 (dk_at dksX5_stopped_0 17 rfl rfl)
theorem dX5_stopped_20 : decode cX5_stopped 20 = .ok (.iload_n 3, 1) := dk_29 (dk_at dksX5_stopped_0 20 rfl rfl)
theorem dX5_stopped_21 : decode cX5_stopped 21 = .ok (.iload_n 1, 1) := dk_27 (dk_at dksX5_stopped_0 21 rfl rfl)
theorem dX5_stopped_22 : decode cX5_stopped 22 = .ok (.invokevirtual 184, 3) := dk_182 0 184 (dk_at dksX5_stopped_1 0 rfl rfl)
theorem dX5_stopped_25 : decode cX5_stopped 25 = .ok (.iload_n 2, 1) := dk_28 (dk_at dksX5_stopped_1 3 rfl rfl)
theorem dX5_stopped_26 : decode cX5_stopped 26 = .ok (.ifCond .ne 8, 3) := dk_154 0 8 (dk_at dksX5_stopped_1 4 rfl rfl)
theorem dX5_stopped_29 : decode cX5_stopped 29 = .ok (.aload_n 0, 1) := dk_42 (dk_at dksX5_stopped_1 7 rfl rfl)
theorem dX5_stopped_30 : decode cX5_stopped 30 = .ok (.getfield 138, 3) := dk_180 0 138 (dk_at dksX5_stopped_1 8 rfl rfl)
theorem dX5_stopped_33 : decode cX5_stopped 33 = .ok (.ireturn, 1) := dk_172 (dk_at dksX5_stopped_1 11 rfl rfl)
theorem dX5_stopped_34 : decode cX5_stopped 34 = .ok (.aload_n 0, 1) := dk_42 (dk_at dksX5_stopped_1 12 rfl rfl)
theorem dX5_stopped_35 : decode cX5_stopped 35 = .ok (.iload_n 1, 1) := dk_27 (dk_at dksX5_stopped_1 13 rfl rfl)
theorem dX5_stopped_36 : decode cX5_stopped 36 = .ok (.iconst 0, 1) := dk_3 (dk_at dksX5_stopped_1 14 rfl rfl)
theorem dX5_stopped_37 : decode cX5_stopped 37 = .ok (.invokevirtual 130, 3) := dk_182 0 130 (dk_at dksX5_stopped_1 15 rfl rfl)
theorem dX5_stopped_40 : decode cX5_stopped 40 = .ok (.aload_n 0, 1) := dk_42 (dk_at dksX5_stopped_1 18 rfl rfl)
theorem dX5_stopped_41 : decode cX5_stopped 41 = .ok (.getfield 138, 3) := dk_180 0 138 (dk_at dksX5_stopped_1 19 rfl rfl)
theorem dX5_stopped_44 : decode cX5_stopped 44 = .ok (.iconst 1, 1) := dk_4 (dk_at dksX5_stopped_1 22 rfl rfl)
theorem dX5_stopped_45 : decode cX5_stopped 45 = .ok (.iadd, 1) := dk_96 (dk_at dksX5_stopped_1 23 rfl rfl)
theorem dX5_stopped_46 : decode cX5_stopped 46 = .ok (.iload_n 3, 1) := dk_29 (dk_at dksX5_stopped_2 0 rfl rfl)
theorem dX5_stopped_47 : decode cX5_stopped 47 = .ok (.invokestatic 147, 3) := dk_184 0 147 (dk_at dksX5_stopped_2 1 rfl rfl)
theorem dX5_stopped_50 : decode cX5_stopped 50 = .ok (.imul, 1) := dk_104 (dk_at dksX5_stopped_2 4 rfl rfl)
theorem dX5_stopped_51 : decode cX5_stopped 51 = .ok (.iadd, 1) := dk_96 (dk_at dksX5_stopped_2 5 rfl rfl)
theorem dX5_stopped_52 : decode cX5_stopped 52 = .ok (.istore 4, 2) := dk_54 4 (dk_at dksX5_stopped_2 6 rfl rfl)
theorem dX5_stopped_54 : decode cX5_stopped 54 = .ok (.aload_n 0, 1) := dk_42 (dk_at dksX5_stopped_2 8 rfl rfl)
theorem dX5_stopped_55 : decode cX5_stopped 55 = .ok (.iload_n 1, 1) := dk_27 (dk_at dksX5_stopped_2 9 rfl rfl)
theorem dX5_stopped_56 : decode cX5_stopped 56 = .ok (.iconst 1, 1) := dk_4 (dk_at dksX5_stopped_2 10 rfl rfl)
theorem dX5_stopped_57 : decode cX5_stopped 57 = .ok (.invokevirtual 130, 3) := dk_182 0 130 (dk_at dksX5_stopped_2 11 rfl rfl)
theorem dX5_stopped_60 : decode cX5_stopped 60 = .ok (.aload_n 0, 1) := dk_42 (dk_at dksX5_stopped_2 14 rfl rfl)
theorem dX5_stopped_61 : decode cX5_stopped 61 = .ok (.getfield 138, 3) := dk_180 0 138 (dk_at dksX5_stopped_2 15 rfl rfl)
theorem dX5_stopped_64 : decode cX5_stopped 64 = .ok (.iconst 1, 1) := dk_4 (dk_at dksX5_stopped_2 18 rfl rfl)
theorem dX5_stopped_65 : decode cX5_stopped 65 = .ok (.iadd, 1) := dk_96 (dk_at dksX5_stopped_2 19 rfl rfl)
theorem dX5_stopped_66 : decode cX5_stopped 66 = .ok (.iload_n 3, 1) := dk_29 (dk_at dksX5_stopped_2 20 rfl rfl)
theorem dX5_stopped_67 : decode cX5_stopped 67 = .ok (.invokestatic 151, 3) := dk_184 0 151 (dk_at dksX5_stopped_2 21 rfl rfl)
theorem dX5_stopped_70 : decode cX5_stopped 70 = .ok (.imul, 1) := dk_104 (dk_at dksX5_stopped_3 0 rfl rfl)
theorem dX5_stopped_71 : decode cX5_stopped 71 = .ok (.iadd, 1) := dk_96 (dk_at dksX5_stopped_3 1 rfl rfl)
theorem dX5_stopped_72 : decode cX5_stopped 72 = .ok (.istore 5, 2) := dk_54 5 (dk_at dksX5_stopped_3 2 rfl rfl)
theorem dX5_stopped_74 : decode cX5_stopped 74 = .ok (.aload_n 0, 1) := dk_42 (dk_at dksX5_stopped_3 4 rfl rfl)
theorem dX5_stopped_75 : decode cX5_stopped 75 = .ok (.iload 4, 2) := dk_21 4 (dk_at dksX5_stopped_3 5 rfl rfl)
theorem dX5_stopped_77 : decode cX5_stopped 77 = .ok (.iload 5, 2) := dk_21 5 (dk_at dksX5_stopped_3 7 rfl rfl)
theorem dX5_stopped_79 : decode cX5_stopped 79 = .ok (.invokevirtual 123, 3) := dk_182 0 123 (dk_at dksX5_stopped_3 9 rfl rfl)
theorem dX5_stopped_82 : decode cX5_stopped 82 = .ok (.ifCond .ne 7, 3) := dk_154 0 7 (dk_at dksX5_stopped_3 12 rfl rfl)
theorem dX5_stopped_85 : decode cX5_stopped 85 = .ok (.iconst 1, 1) := dk_4 (dk_at dksX5_stopped_3 15 rfl rfl)
theorem dX5_stopped_86 : decode cX5_stopped 86 = .ok (.goto 19, 3) := dk_167 0 19 (dk_at dksX5_stopped_3 16 rfl rfl)
theorem dX5_stopped_89 : decode cX5_stopped 89 = .ok (.aload_n 0, 1) := dk_42 (dk_at dksX5_stopped_3 19 rfl rfl)
theorem dX5_stopped_90 : decode cX5_stopped 90 = .ok (.iload 4, 2) := dk_21 4 (dk_at dksX5_stopped_3 20 rfl rfl)
theorem dX5_stopped_92 : decode cX5_stopped 92 = .ok (.iload 5, 2) := dk_21 5 (dk_at dksX5_stopped_3 22 rfl rfl)
theorem dX5_stopped_94 : decode cX5_stopped 94 = .ok (.invokevirtual 127, 3) := dk_182 0 127 (dk_at dksX5_stopped_4 0 rfl rfl)
theorem dX5_stopped_97 : decode cX5_stopped 97 = .ok (.ifCond .eq 7, 3) := dk_153 0 7 (dk_at dksX5_stopped_4 3 rfl rfl)
theorem dX5_stopped_100 : decode cX5_stopped 100 = .ok (.iconst 2, 1) := dk_5 (dk_at dksX5_stopped_4 6 rfl rfl)
theorem dX5_stopped_101 : decode cX5_stopped 101 = .ok (.goto 4, 3) := dk_167 0 4 (dk_at dksX5_stopped_4 7 rfl rfl)
theorem dX5_stopped_104 : decode cX5_stopped 104 = .ok (.iconst 3, 1) := dk_6 (dk_at dksX5_stopped_4 10 rfl rfl)
theorem dX5_stopped_105 : decode cX5_stopped 105 = .ok (.ireturn, 1) := dk_172 (dk_at dksX5_stopped_4 11 rfl rfl)
abbrev cX5_why : ByteArray := prog_13_method_96_code
def yX5_why : MethodName := ⟨RX5, "why", "(II)I"⟩
def dkwX5_why_7 : List UInt8 := [96, 104, 96, 172]
abbrev dktX5_why_7 : List UInt8 := dkwX5_why_7 ++ []
def dkwX5_why_6 : List UInt8 := [180, 0, 160, 16, 100, 42, 27, 6, 182, 0, 130, 184, 0, 147, 104, 42, 27, 6, 182, 0, 130, 184, 0, 151]
abbrev dktX5_why_6 : List UInt8 := dkwX5_why_6 ++ dktX5_why_7
def dkwX5_why_5 : List UInt8 := [180, 0, 169, 172, 42, 180, 0, 175, 154, 0, 10, 42, 180, 0, 166, 167, 0, 36, 42, 27, 182, 1, 179, 42]
abbrev dktX5_why_5 : List UInt8 := dkwX5_why_5 ++ dktX5_why_6
def dkwX5_why_4 : List UInt8 := [167, 0, 4, 3, 182, 1, 196, 172, 28, 154, 0, 8, 42, 180, 0, 175, 172, 28, 4, 160, 0, 8, 42]
abbrev dktX5_why_4 : List UInt8 := dkwX5_why_4 ++ dktX5_why_5
def dkwX5_why_3 : List UInt8 := [42, 180, 0, 169, 2, 160, 0, 27, 28, 154, 0, 7, 7, 167, 0, 18, 42, 27, 28, 4, 160, 0, 7, 4]
abbrev dktX5_why_3 : List UInt8 := dkwX5_why_3 ++ dktX5_why_4
def dkwX5_why_2 : List UInt8 := [27, 6, 182, 0, 130, 7, 160, 0, 13, 28, 154, 0, 7, 6, 167, 0, 4, 2, 172, 42, 27, 182, 0, 224]
abbrev dktX5_why_2 : List UInt8 := dkwX5_why_2 ++ dktX5_why_3
def dkwX5_why_1 : List UInt8 := [153, 0, 5, 3, 172, 42, 27, 182, 0, 134, 154, 0, 13, 28, 154, 0, 7, 8, 167, 0, 4, 2, 172, 42]
abbrev dktX5_why_1 : List UInt8 := dkwX5_why_1 ++ dktX5_why_2
def dkwX5_why_0 : List UInt8 := [42, 42, 27, 182, 1, 161, 28, 3, 5, 184, 0, 119, 154, 0, 7, 4, 167, 0, 4, 3, 3, 182, 1, 2]
abbrev dktX5_why_0 : List UInt8 := dkwX5_why_0 ++ dktX5_why_1
theorem dksX5_why_0 : cX5_why.data.toList.drop 0 = dktX5_why_0 := by decide +kernel
theorem dksX5_why_1 : cX5_why.data.toList.drop 24 = dktX5_why_1 := dk_seg dksX5_why_0 24 rfl rfl
theorem dksX5_why_2 : cX5_why.data.toList.drop 48 = dktX5_why_2 := dk_seg dksX5_why_1 24 rfl rfl
theorem dksX5_why_3 : cX5_why.data.toList.drop 72 = dktX5_why_3 := dk_seg dksX5_why_2 24 rfl rfl
theorem dksX5_why_4 : cX5_why.data.toList.drop 96 = dktX5_why_4 := dk_seg dksX5_why_3 24 rfl rfl
theorem dksX5_why_5 : cX5_why.data.toList.drop 119 = dktX5_why_5 := dk_seg dksX5_why_4 23 rfl rfl
theorem dksX5_why_6 : cX5_why.data.toList.drop 143 = dktX5_why_6 := dk_seg dksX5_why_5 24 rfl rfl
theorem dksX5_why_7 : cX5_why.data.toList.drop 167 = dktX5_why_7 := dk_seg dksX5_why_6 24 rfl rfl
theorem dX5_why_0 : decode cX5_why 0 = .ok (.aload_n 0, 1) := dk_42 (dk_at dksX5_why_0 0 rfl rfl)
theorem dX5_why_1 : decode cX5_why 1 = .ok (.aload_n 0, 1) := dk_42 (dk_at dksX5_why_0 1 rfl rfl)
theorem dX5_why_2 : decode cX5_why 2 = .ok (.iload_n 1, 1) := dk_27 (dk_at dksX5_why_0 2 rfl rfl)
theorem dX5_why_3 : decode cX5_why 3 = .ok (.invokevirtual 417, 3) := dk_182 1 161 (dk_at dksX5_why_0 3 rfl rfl)
theorem dX5_why_6 : decode cX5_why 6 = .ok (.iload_n 2, 1) := dk_28 (dk_at dksX5_why_0 6 rfl rfl)
theorem dX5_why_7 : decode cX5_why 7 = .ok (.iconst 0, 1) := dk_3 (dk_at dksX5_why_0 7 rfl rfl)
theorem dX5_why_8 : decode cX5_why 8 = .ok (.iconst 2, 1) := dk_5 (dk_at dksX5_why_0 8 rfl rfl)
theorem dX5_why_9 : decode cX5_why 9 = .ok (.invokestatic 119, 3) := dk_184 0 119 (dk_at dksX5_why_0 9 rfl rfl)
theorem dX5_why_12 : decode cX5_why 12 = .ok (.ifCond .ne 7, 3) := dk_154 0 7 (dk_at dksX5_why_0 12 rfl rfl)
theorem dX5_why_15 : decode cX5_why 15 = .ok (.iconst 1, 1) := dk_4 (dk_at dksX5_why_0 15 rfl rfl)
theorem dX5_why_16 : decode cX5_why 16 = .ok (.goto 4, 3) := dk_167 0 4 (dk_at dksX5_why_0 16 rfl rfl)
theorem dX5_why_19 : decode cX5_why 19 = .ok (.iconst 0, 1) := dk_3 (dk_at dksX5_why_0 19 rfl rfl)
theorem dX5_why_20 : decode cX5_why 20 = .ok (.iconst 0, 1) := dk_3 (dk_at dksX5_why_0 20 rfl rfl)
theorem dX5_why_21 : decode cX5_why 21 = .ok (.invokevirtual 258, 3) := dk_182 1 2 (dk_at dksX5_why_0 21 rfl rfl)
theorem dX5_why_24 : decode cX5_why 24 = .ok (.ifCond .eq 5, 3) := dk_153 0 5 (dk_at dksX5_why_1 0 rfl rfl)
theorem dX5_why_27 : decode cX5_why 27 = .ok (.iconst 0, 1) := dk_3 (dk_at dksX5_why_1 3 rfl rfl)
theorem dX5_why_28 : decode cX5_why 28 = .ok (.ireturn, 1) := dk_172 (dk_at dksX5_why_1 4 rfl rfl)
theorem dX5_why_29 : decode cX5_why 29 = .ok (.aload_n 0, 1) := dk_42 (dk_at dksX5_why_1 5 rfl rfl)
theorem dX5_why_30 : decode cX5_why 30 = .ok (.iload_n 1, 1) := dk_27 (dk_at dksX5_why_1 6 rfl rfl)
theorem dX5_why_31 : decode cX5_why 31 = .ok (.invokevirtual 134, 3) := dk_182 0 134 (dk_at dksX5_why_1 7 rfl rfl)
theorem dX5_why_34 : decode cX5_why 34 = .ok (.ifCond .ne 13, 3) := dk_154 0 13 (dk_at dksX5_why_1 10 rfl rfl)
theorem dX5_why_37 : decode cX5_why 37 = .ok (.iload_n 2, 1) := dk_28 (dk_at dksX5_why_1 13 rfl rfl)
theorem dX5_why_38 : decode cX5_why 38 = .ok (.ifCond .ne 7, 3) := dk_154 0 7 (dk_at dksX5_why_1 14 rfl rfl)
theorem dX5_why_41 : decode cX5_why 41 = .ok (.iconst 5, 1) := dk_8 (dk_at dksX5_why_1 17 rfl rfl)
theorem dX5_why_42 : decode cX5_why 42 = .ok (.goto 4, 3) := dk_167 0 4 (dk_at dksX5_why_1 18 rfl rfl)
theorem dX5_why_45 : decode cX5_why 45 = .ok (.iconst (-1), 1) := dk_2 (dk_at dksX5_why_1 21 rfl rfl)
theorem dX5_why_46 : decode cX5_why 46 = .ok (.ireturn, 1) := dk_172 (dk_at dksX5_why_1 22 rfl rfl)
theorem dX5_why_47 : decode cX5_why 47 = .ok (.aload_n 0, 1) := dk_42 (dk_at dksX5_why_1 23 rfl rfl)
theorem dX5_why_48 : decode cX5_why 48 = .ok (.iload_n 1, 1) := dk_27 (dk_at dksX5_why_2 0 rfl rfl)
theorem dX5_why_49 : decode cX5_why 49 = .ok (.iconst 3, 1) := dk_6 (dk_at dksX5_why_2 1 rfl rfl)
theorem dX5_why_50 : decode cX5_why 50 = .ok (.invokevirtual 130, 3) := dk_182 0 130 (dk_at dksX5_why_2 2 rfl rfl)
theorem dX5_why_53 : decode cX5_why 53 = .ok (.iconst 4, 1) := dk_7 (dk_at dksX5_why_2 5 rfl rfl)
theorem dX5_why_54 : decode cX5_why 54 = .ok (.if_icmp .ne 13, 3) := dk_160 0 13 (dk_at dksX5_why_2 6 rfl rfl)
theorem dX5_why_57 : decode cX5_why 57 = .ok (.iload_n 2, 1) := dk_28 (dk_at dksX5_why_2 9 rfl rfl)
theorem dX5_why_58 : decode cX5_why 58 = .ok (.ifCond .ne 7, 3) := dk_154 0 7 (dk_at dksX5_why_2 10 rfl rfl)
theorem dX5_why_61 : decode cX5_why 61 = .ok (.iconst 3, 1) := dk_6 (dk_at dksX5_why_2 13 rfl rfl)
theorem dX5_why_62 : decode cX5_why 62 = .ok (.goto 4, 3) := dk_167 0 4 (dk_at dksX5_why_2 14 rfl rfl)
theorem dX5_why_65 : decode cX5_why 65 = .ok (.iconst (-1), 1) := dk_2 (dk_at dksX5_why_2 17 rfl rfl)
theorem dX5_why_66 : decode cX5_why 66 = .ok (.ireturn, 1) := dk_172 (dk_at dksX5_why_2 18 rfl rfl)
theorem dX5_why_67 : decode cX5_why 67 = .ok (.aload_n 0, 1) := dk_42 (dk_at dksX5_why_2 19 rfl rfl)
theorem dX5_why_68 : decode cX5_why 68 = .ok (.iload_n 1, 1) := dk_27 (dk_at dksX5_why_2 20 rfl rfl)
theorem dX5_why_69 : decode cX5_why 69 = .ok (.invokevirtual 224, 3) := dk_182 0 224 (dk_at dksX5_why_2 21 rfl rfl)
theorem dX5_why_72 : decode cX5_why 72 = .ok (.aload_n 0, 1) := dk_42 (dk_at dksX5_why_3 0 rfl rfl)
theorem dX5_why_73 : decode cX5_why 73 = .ok (.getfield 169, 3) := dk_180 0 169 (dk_at dksX5_why_3 1 rfl rfl)
theorem dX5_why_76 : decode cX5_why 76 = .ok (.iconst (-1), 1) := dk_2 (dk_at dksX5_why_3 4 rfl rfl)
theorem dX5_why_77 : decode cX5_why 77 = .ok (.if_icmp .ne 27, 3) := dk_160 0 27 (dk_at dksX5_why_3 5 rfl rfl)
theorem dX5_why_80 : decode cX5_why 80 = .ok (.iload_n 2, 1) := dk_28 (dk_at dksX5_why_3 8 rfl rfl)
theorem dX5_why_81 : decode cX5_why 81 = .ok (.ifCond .ne 7, 3) := dk_154 0 7 (dk_at dksX5_why_3 9 rfl rfl)
theorem dX5_why_84 : decode cX5_why 84 = .ok (.iconst 4, 1) := dk_7 (dk_at dksX5_why_3 12 rfl rfl)
theorem dX5_why_85 : decode cX5_why 85 = .ok (.goto 18, 3) := dk_167 0 18 (dk_at dksX5_why_3 13 rfl rfl)
theorem dX5_why_88 : decode cX5_why 88 = .ok (.aload_n 0, 1) := dk_42 (dk_at dksX5_why_3 16 rfl rfl)
theorem dX5_why_89 : decode cX5_why 89 = .ok (.iload_n 1, 1) := dk_27 (dk_at dksX5_why_3 17 rfl rfl)
theorem dX5_why_90 : decode cX5_why 90 = .ok (.iload_n 2, 1) := dk_28 (dk_at dksX5_why_3 18 rfl rfl)
theorem dX5_why_91 : decode cX5_why 91 = .ok (.iconst 1, 1) := dk_4 (dk_at dksX5_why_3 19 rfl rfl)
theorem dX5_why_92 : decode cX5_why 92 = .ok (.if_icmp .ne 7, 3) := dk_160 0 7 (dk_at dksX5_why_3 20 rfl rfl)
theorem dX5_why_95 : decode cX5_why 95 = .ok (.iconst 1, 1) := dk_4 (dk_at dksX5_why_3 23 rfl rfl)
theorem dX5_why_96 : decode cX5_why 96 = .ok (.goto 4, 3) := dk_167 0 4 (dk_at dksX5_why_4 0 rfl rfl)
theorem dX5_why_99 : decode cX5_why 99 = .ok (.iconst 0, 1) := dk_3 (dk_at dksX5_why_4 3 rfl rfl)
theorem dX5_why_100 : decode cX5_why 100 = .ok (.invokevirtual 452, 3) := dk_182 1 196 (dk_at dksX5_why_4 4 rfl rfl)
theorem dX5_why_103 : decode cX5_why 103 = .ok (.ireturn, 1) := dk_172 (dk_at dksX5_why_4 7 rfl rfl)
theorem dX5_why_104 : decode cX5_why 104 = .ok (.iload_n 2, 1) := dk_28 (dk_at dksX5_why_4 8 rfl rfl)
theorem dX5_why_105 : decode cX5_why 105 = .ok (.ifCond .ne 8, 3) := dk_154 0 8 (dk_at dksX5_why_4 9 rfl rfl)
theorem dX5_why_108 : decode cX5_why 108 = .ok (.aload_n 0, 1) := dk_42 (dk_at dksX5_why_4 12 rfl rfl)
theorem dX5_why_109 : decode cX5_why 109 = .ok (.getfield 175, 3) := dk_180 0 175 (dk_at dksX5_why_4 13 rfl rfl)
theorem dX5_why_112 : decode cX5_why 112 = .ok (.ireturn, 1) := dk_172 (dk_at dksX5_why_4 16 rfl rfl)
theorem dX5_why_113 : decode cX5_why 113 = .ok (.iload_n 2, 1) := dk_28 (dk_at dksX5_why_4 17 rfl rfl)
theorem dX5_why_114 : decode cX5_why 114 = .ok (.iconst 1, 1) := dk_4 (dk_at dksX5_why_4 18 rfl rfl)
theorem dX5_why_115 : decode cX5_why 115 = .ok (.if_icmp .ne 8, 3) := dk_160 0 8 (dk_at dksX5_why_4 19 rfl rfl)
theorem dX5_why_118 : decode cX5_why 118 = .ok (.aload_n 0, 1) := dk_42 (dk_at dksX5_why_4 22 rfl rfl)
theorem dX5_why_119 : decode cX5_why 119 = .ok (.getfield 169, 3) := dk_180 0 169 (dk_at dksX5_why_5 0 rfl rfl)
theorem dX5_why_122 : decode cX5_why 122 = .ok (.ireturn, 1) := dk_172 (dk_at dksX5_why_5 3 rfl rfl)
theorem dX5_why_123 : decode cX5_why 123 = .ok (.aload_n 0, 1) := dk_42 (dk_at dksX5_why_5 4 rfl rfl)
theorem dX5_why_124 : decode cX5_why 124 = .ok (.getfield 175, 3) := dk_180 0 175 (dk_at dksX5_why_5 5 rfl rfl)
theorem dX5_why_127 : decode cX5_why 127 = .ok (.ifCond .ne 10, 3) := dk_154 0 10 (dk_at dksX5_why_5 8 rfl rfl)
theorem dX5_why_130 : decode cX5_why 130 = .ok (.aload_n 0, 1) := dk_42 (dk_at dksX5_why_5 11 rfl rfl)
theorem dX5_why_131 : decode cX5_why 131 = .ok (.getfield 166, 3) := dk_180 0 166 (dk_at dksX5_why_5 12 rfl rfl)
theorem dX5_why_134 : decode cX5_why 134 = .ok (.goto 36, 3) := dk_167 0 36 (dk_at dksX5_why_5 15 rfl rfl)
theorem dX5_why_137 : decode cX5_why 137 = .ok (.aload_n 0, 1) := dk_42 (dk_at dksX5_why_5 18 rfl rfl)
theorem dX5_why_138 : decode cX5_why 138 = .ok (.iload_n 1, 1) := dk_27 (dk_at dksX5_why_5 19 rfl rfl)
theorem dX5_why_139 : decode cX5_why 139 = .ok (.invokevirtual 435, 3) := dk_182 1 179 (dk_at dksX5_why_5 20 rfl rfl)
theorem dX5_why_142 : decode cX5_why 142 = .ok (.aload_n 0, 1) := dk_42 (dk_at dksX5_why_5 23 rfl rfl)
theorem dX5_why_143 : decode cX5_why 143 = .ok (.getfield 160, 3) := dk_180 0 160 (dk_at dksX5_why_6 0 rfl rfl)
theorem dX5_why_146 : decode cX5_why 146 = .ok (.bipush 100, 2) := dk_16 100 (dk_at dksX5_why_6 3 rfl rfl)
theorem dX5_why_148 : decode cX5_why 148 = .ok (.aload_n 0, 1) := dk_42 (dk_at dksX5_why_6 5 rfl rfl)
theorem dX5_why_149 : decode cX5_why 149 = .ok (.iload_n 1, 1) := dk_27 (dk_at dksX5_why_6 6 rfl rfl)
theorem dX5_why_150 : decode cX5_why 150 = .ok (.iconst 3, 1) := dk_6 (dk_at dksX5_why_6 7 rfl rfl)
theorem dX5_why_151 : decode cX5_why 151 = .ok (.invokevirtual 130, 3) := dk_182 0 130 (dk_at dksX5_why_6 8 rfl rfl)
theorem dX5_why_154 : decode cX5_why 154 = .ok (.invokestatic 147, 3) := dk_184 0 147 (dk_at dksX5_why_6 11 rfl rfl)
theorem dX5_why_157 : decode cX5_why 157 = .ok (.imul, 1) := dk_104 (dk_at dksX5_why_6 14 rfl rfl)
theorem dX5_why_158 : decode cX5_why 158 = .ok (.aload_n 0, 1) := dk_42 (dk_at dksX5_why_6 15 rfl rfl)
theorem dX5_why_159 : decode cX5_why 159 = .ok (.iload_n 1, 1) := dk_27 (dk_at dksX5_why_6 16 rfl rfl)
theorem dX5_why_160 : decode cX5_why 160 = .ok (.iconst 3, 1) := dk_6 (dk_at dksX5_why_6 17 rfl rfl)
theorem dX5_why_161 : decode cX5_why 161 = .ok (.invokevirtual 130, 3) := dk_182 0 130 (dk_at dksX5_why_6 18 rfl rfl)
theorem dX5_why_164 : decode cX5_why 164 = .ok (.invokestatic 151, 3) := dk_184 0 151 (dk_at dksX5_why_6 21 rfl rfl)
theorem dX5_why_167 : decode cX5_why 167 = .ok (.iadd, 1) := dk_96 (dk_at dksX5_why_7 0 rfl rfl)
theorem dX5_why_168 : decode cX5_why 168 = .ok (.imul, 1) := dk_104 (dk_at dksX5_why_7 1 rfl rfl)
theorem dX5_why_169 : decode cX5_why 169 = .ok (.iadd, 1) := dk_96 (dk_at dksX5_why_7 2 rfl rfl)
theorem dX5_why_170 : decode cX5_why 170 = .ok (.ireturn, 1) := dk_172 (dk_at dksX5_why_7 3 rfl rfl)
abbrev cX5_fromBegin : ByteArray := prog_13_method_99_code
def yX5_fromBegin : MethodName := ⟨RX5, "fromBegin", "(II)I"⟩
def dkwX5_fromBegin_0 : List UInt8 := [42, 27, 182, 0, 249, 62, 29, 2, 160, 0, 7, 2, 167, 0, 9, 42, 29, 28, 182, 1, 185, 172]
abbrev dktX5_fromBegin_0 : List UInt8 := dkwX5_fromBegin_0 ++ []
theorem dksX5_fromBegin_0 : cX5_fromBegin.data.toList.drop 0 = dktX5_fromBegin_0 := by decide +kernel
theorem dX5_fromBegin_0 : decode cX5_fromBegin 0 = .ok (.aload_n 0, 1) := dk_42 (dk_at dksX5_fromBegin_0 0 rfl rfl)
theorem dX5_fromBegin_1 : decode cX5_fromBegin 1 = .ok (.iload_n 1, 1) := dk_27 (dk_at dksX5_fromBegin_0 1 rfl rfl)
theorem dX5_fromBegin_2 : decode cX5_fromBegin 2 = .ok (.invokevirtual 249, 3) := dk_182 0 249 (dk_at dksX5_fromBegin_0 2 rfl rfl)
theorem dX5_fromBegin_5 : decode cX5_fromBegin 5 = .ok (.istore_n 3, 1) := dk_62 (dk_at dksX5_fromBegin_0 5 rfl rfl)
theorem dX5_fromBegin_6 : decode cX5_fromBegin 6 = .ok (.iload_n 3, 1) := dk_29 (dk_at dksX5_fromBegin_0 6 rfl rfl)
theorem dX5_fromBegin_7 : decode cX5_fromBegin 7 = .ok (.iconst (-1), 1) := dk_2 (dk_at dksX5_fromBegin_0 7 rfl rfl)
theorem dX5_fromBegin_8 : decode cX5_fromBegin 8 = .ok (.if_icmp .ne 7, 3) := dk_160 0 7 (dk_at dksX5_fromBegin_0 8 rfl rfl)
theorem dX5_fromBegin_11 : decode cX5_fromBegin 11 = .ok (.iconst (-1), 1) := dk_2 (dk_at dksX5_fromBegin_0 11 rfl rfl)
theorem dX5_fromBegin_12 : decode cX5_fromBegin 12 = .ok (.goto 9, 3) := dk_167 0 9 (dk_at dksX5_fromBegin_0 12 rfl rfl)
theorem dX5_fromBegin_15 : decode cX5_fromBegin 15 = .ok (.aload_n 0, 1) := dk_42 (dk_at dksX5_fromBegin_0 15 rfl rfl)
theorem dX5_fromBegin_16 : decode cX5_fromBegin 16 = .ok (.iload_n 3, 1) := dk_29 (dk_at dksX5_fromBegin_0 16 rfl rfl)
theorem dX5_fromBegin_17 : decode cX5_fromBegin 17 = .ok (.iload_n 2, 1) := dk_28 (dk_at dksX5_fromBegin_0 17 rfl rfl)
theorem dX5_fromBegin_18 : decode cX5_fromBegin 18 = .ok (.invokevirtual 441, 3) := dk_182 1 185 (dk_at dksX5_fromBegin_0 18 rfl rfl)
theorem dX5_fromBegin_21 : decode cX5_fromBegin 21 = .ok (.ireturn, 1) := dk_172 (dk_at dksX5_fromBegin_0 21 rfl rfl)
abbrev cX5_laidBack : ByteArray := prog_13_method_98_code
def yX5_laidBack : MethodName := ⟨RX5, "laidBack", "(I)I"⟩
def dkwX5_laidBack_0 : List UInt8 := [42, 180, 0, 13, 3, 42, 180, 0, 9, 3, 184, 0, 115, 27, 172]
abbrev dktX5_laidBack_0 : List UInt8 := dkwX5_laidBack_0 ++ []
theorem dksX5_laidBack_0 : cX5_laidBack.data.toList.drop 0 = dktX5_laidBack_0 := by decide +kernel
theorem dX5_laidBack_0 : decode cX5_laidBack 0 = .ok (.aload_n 0, 1) := dk_42 (dk_at dksX5_laidBack_0 0 rfl rfl)
theorem dX5_laidBack_1 : decode cX5_laidBack 1 = .ok (.getfield 13, 3) := dk_180 0 13 (dk_at dksX5_laidBack_0 1 rfl rfl)
theorem dX5_laidBack_4 : decode cX5_laidBack 4 = .ok (.iconst 0, 1) := dk_3 (dk_at dksX5_laidBack_0 4 rfl rfl)
theorem dX5_laidBack_5 : decode cX5_laidBack 5 = .ok (.aload_n 0, 1) := dk_42 (dk_at dksX5_laidBack_0 5 rfl rfl)
theorem dX5_laidBack_6 : decode cX5_laidBack 6 = .ok (.getfield 9, 3) := dk_180 0 9 (dk_at dksX5_laidBack_0 6 rfl rfl)
theorem dX5_laidBack_9 : decode cX5_laidBack 9 = .ok (.iconst 0, 1) := dk_3 (dk_at dksX5_laidBack_0 9 rfl rfl)
theorem dX5_laidBack_10 : decode cX5_laidBack 10 = .ok (.invokestatic 115, 3) := dk_184 0 115 (dk_at dksX5_laidBack_0 10 rfl rfl)
theorem dX5_laidBack_13 : decode cX5_laidBack 13 = .ok (.iload_n 1, 1) := dk_27 (dk_at dksX5_laidBack_0 13 rfl rfl)
theorem dX5_laidBack_14 : decode cX5_laidBack 14 = .ok (.ireturn, 1) := dk_172 (dk_at dksX5_laidBack_0 14 rfl rfl)
abbrev cX5_switches : ByteArray := prog_13_method_100_code
def yX5_switches : MethodName := ⟨RX5, "switches", "(I)V"⟩
def dkwX5_switches_0 : List UInt8 := [42, 27, 7, 4, 42, 27, 7, 182, 0, 130, 100, 182, 1, 54, 177]
abbrev dktX5_switches_0 : List UInt8 := dkwX5_switches_0 ++ []
theorem dksX5_switches_0 : cX5_switches.data.toList.drop 0 = dktX5_switches_0 := by decide +kernel
theorem dX5_switches_0 : decode cX5_switches 0 = .ok (.aload_n 0, 1) := dk_42 (dk_at dksX5_switches_0 0 rfl rfl)
theorem dX5_switches_1 : decode cX5_switches 1 = .ok (.iload_n 1, 1) := dk_27 (dk_at dksX5_switches_0 1 rfl rfl)
theorem dX5_switches_2 : decode cX5_switches 2 = .ok (.iconst 4, 1) := dk_7 (dk_at dksX5_switches_0 2 rfl rfl)
theorem dX5_switches_3 : decode cX5_switches 3 = .ok (.iconst 1, 1) := dk_4 (dk_at dksX5_switches_0 3 rfl rfl)
theorem dX5_switches_4 : decode cX5_switches 4 = .ok (.aload_n 0, 1) := dk_42 (dk_at dksX5_switches_0 4 rfl rfl)
theorem dX5_switches_5 : decode cX5_switches 5 = .ok (.iload_n 1, 1) := dk_27 (dk_at dksX5_switches_0 5 rfl rfl)
theorem dX5_switches_6 : decode cX5_switches 6 = .ok (.iconst 4, 1) := dk_7 (dk_at dksX5_switches_0 6 rfl rfl)
theorem dX5_switches_7 : decode cX5_switches 7 = .ok (.invokevirtual 130, 3) := dk_182 0 130 (dk_at dksX5_switches_0 7 rfl rfl)
theorem dX5_switches_10 : decode cX5_switches 10 = .ok (.isub, 1) := dk_100 (dk_at dksX5_switches_0 10 rfl rfl)
theorem dX5_switches_11 : decode cX5_switches 11 = .ok (.invokevirtual 310, 3) := dk_182 1 54 (dk_at dksX5_switches_0 11 rfl rfl)
theorem dX5_switches_14 : decode cX5_switches 14 = .ok (.return_, 1) := dk_177 (dk_at dksX5_switches_0 14 rfl rfl)
abbrev cX5_tryOut : ByteArray := prog_13_method_97_code
def yX5_tryOut : MethodName := ⟨RX5, "tryOut", "()V"⟩
def dkwX5_tryOut_0 : List UInt8 := [42, 180, 0, 9, 3, 42, 180, 0, 13, 3, 184, 0, 115, 177]
abbrev dktX5_tryOut_0 : List UInt8 := dkwX5_tryOut_0 ++ []
theorem dksX5_tryOut_0 : cX5_tryOut.data.toList.drop 0 = dktX5_tryOut_0 := by decide +kernel
theorem dX5_tryOut_0 : decode cX5_tryOut 0 = .ok (.aload_n 0, 1) := dk_42 (dk_at dksX5_tryOut_0 0 rfl rfl)
theorem dX5_tryOut_1 : decode cX5_tryOut 1 = .ok (.getfield 9, 3) := dk_180 0 9 (dk_at dksX5_tryOut_0 1 rfl rfl)
theorem dX5_tryOut_4 : decode cX5_tryOut 4 = .ok (.iconst 0, 1) := dk_3 (dk_at dksX5_tryOut_0 4 rfl rfl)
theorem dX5_tryOut_5 : decode cX5_tryOut 5 = .ok (.aload_n 0, 1) := dk_42 (dk_at dksX5_tryOut_0 5 rfl rfl)
theorem dX5_tryOut_6 : decode cX5_tryOut 6 = .ok (.getfield 13, 3) := dk_180 0 13 (dk_at dksX5_tryOut_0 6 rfl rfl)
theorem dX5_tryOut_9 : decode cX5_tryOut 9 = .ok (.iconst 0, 1) := dk_3 (dk_at dksX5_tryOut_0 9 rfl rfl)
theorem dX5_tryOut_10 : decode cX5_tryOut 10 = .ok (.invokestatic 115, 3) := dk_184 0 115 (dk_at dksX5_tryOut_0 10 rfl rfl)
theorem dX5_tryOut_13 : decode cX5_tryOut 13 = .ok (.return_, 1) := dk_177 (dk_at dksX5_tryOut_0 13 rfl rfl)
abbrev cX5_ifOther : ByteArray := prog_13_method_101_code
def yX5_ifOther : MethodName := ⟨RX5, "ifOther", "(III)I"⟩
def dkwX5_ifOther_2 : List UInt8 := [182, 1, 199, 42, 27, 182, 1, 202, 42, 42, 28, 29, 182, 1, 205, 182, 1, 208, 172]
abbrev dktX5_ifOther_2 : List UInt8 := dkwX5_ifOther_2 ++ []
def dkwX5_ifOther_1 : List UInt8 := [16, 7, 184, 0, 119, 154, 0, 7, 4, 167, 0, 4, 3, 3, 182, 1, 2, 153, 0, 5, 3, 172, 42]
abbrev dktX5_ifOther_1 : List UInt8 := dkwX5_ifOther_1 ++ dktX5_ifOther_2
def dkwX5_ifOther_0 : List UInt8 := [42, 42, 27, 182, 1, 161, 154, 0, 10, 28, 184, 1, 158, 153, 0, 7, 4, 167, 0, 4, 3, 29, 3]
abbrev dktX5_ifOther_0 : List UInt8 := dkwX5_ifOther_0 ++ dktX5_ifOther_1
theorem dksX5_ifOther_0 : cX5_ifOther.data.toList.drop 0 = dktX5_ifOther_0 := by decide +kernel
theorem dksX5_ifOther_1 : cX5_ifOther.data.toList.drop 23 = dktX5_ifOther_1 := dk_seg dksX5_ifOther_0 23 rfl rfl
theorem dksX5_ifOther_2 : cX5_ifOther.data.toList.drop 46 = dktX5_ifOther_2 := dk_seg dksX5_ifOther_1 23 rfl rfl
theorem dX5_ifOther_0 : decode cX5_ifOther 0 = .ok (.aload_n 0, 1) := dk_42 (dk_at dksX5_ifOther_0 0 rfl rfl)
theorem dX5_ifOther_1 : decode cX5_ifOther 1 = .ok (.aload_n 0, 1) := dk_42 (dk_at dksX5_ifOther_0 1 rfl rfl)
theorem dX5_ifOther_2 : decode cX5_ifOther 2 = .ok (.iload_n 1, 1) := dk_27 (dk_at dksX5_ifOther_0 2 rfl rfl)
theorem dX5_ifOther_3 : decode cX5_ifOther 3 = .ok (.invokevirtual 417, 3) := dk_182 1 161 (dk_at dksX5_ifOther_0 3 rfl rfl)
theorem dX5_ifOther_6 : decode cX5_ifOther 6 = .ok (.ifCond .ne 10, 3) := dk_154 0 10 (dk_at dksX5_ifOther_0 6 rfl rfl)
theorem dX5_ifOther_9 : decode cX5_ifOther 9 = .ok (.iload_n 2, 1) := dk_28 (dk_at dksX5_ifOther_0 9 rfl rfl)
theorem dX5_ifOther_10 : decode cX5_ifOther 10 = .ok (.invokestatic 414, 3) := dk_184 1 158 (dk_at dksX5_ifOther_0 10 rfl rfl)
theorem dX5_ifOther_13 : decode cX5_ifOther 13 = .ok (.ifCond .eq 7, 3) := dk_153 0 7 (dk_at dksX5_ifOther_0 13 rfl rfl)
theorem dX5_ifOther_16 : decode cX5_ifOther 16 = .ok (.iconst 1, 1) := dk_4 (dk_at dksX5_ifOther_0 16 rfl rfl)
theorem dX5_ifOther_17 : decode cX5_ifOther 17 = .ok (.goto 4, 3) := dk_167 0 4 (dk_at dksX5_ifOther_0 17 rfl rfl)
theorem dX5_ifOther_20 : decode cX5_ifOther 20 = .ok (.iconst 0, 1) := dk_3 (dk_at dksX5_ifOther_0 20 rfl rfl)
theorem dX5_ifOther_21 : decode cX5_ifOther 21 = .ok (.iload_n 3, 1) := dk_29 (dk_at dksX5_ifOther_0 21 rfl rfl)
theorem dX5_ifOther_22 : decode cX5_ifOther 22 = .ok (.iconst 0, 1) := dk_3 (dk_at dksX5_ifOther_0 22 rfl rfl)
theorem dX5_ifOther_23 : decode cX5_ifOther 23 = .ok (.bipush 7, 2) := dk_16 7 (dk_at dksX5_ifOther_1 0 rfl rfl)
theorem dX5_ifOther_25 : decode cX5_ifOther 25 = .ok (.invokestatic 119, 3) := dk_184 0 119 (dk_at dksX5_ifOther_1 2 rfl rfl)
theorem dX5_ifOther_28 : decode cX5_ifOther 28 = .ok (.ifCond .ne 7, 3) := dk_154 0 7 (dk_at dksX5_ifOther_1 5 rfl rfl)
theorem dX5_ifOther_31 : decode cX5_ifOther 31 = .ok (.iconst 1, 1) := dk_4 (dk_at dksX5_ifOther_1 8 rfl rfl)
theorem dX5_ifOther_32 : decode cX5_ifOther 32 = .ok (.goto 4, 3) := dk_167 0 4 (dk_at dksX5_ifOther_1 9 rfl rfl)
theorem dX5_ifOther_35 : decode cX5_ifOther 35 = .ok (.iconst 0, 1) := dk_3 (dk_at dksX5_ifOther_1 12 rfl rfl)
theorem dX5_ifOther_36 : decode cX5_ifOther 36 = .ok (.iconst 0, 1) := dk_3 (dk_at dksX5_ifOther_1 13 rfl rfl)
theorem dX5_ifOther_37 : decode cX5_ifOther 37 = .ok (.invokevirtual 258, 3) := dk_182 1 2 (dk_at dksX5_ifOther_1 14 rfl rfl)
theorem dX5_ifOther_40 : decode cX5_ifOther 40 = .ok (.ifCond .eq 5, 3) := dk_153 0 5 (dk_at dksX5_ifOther_1 17 rfl rfl)
theorem dX5_ifOther_43 : decode cX5_ifOther 43 = .ok (.iconst 0, 1) := dk_3 (dk_at dksX5_ifOther_1 20 rfl rfl)
theorem dX5_ifOther_44 : decode cX5_ifOther 44 = .ok (.ireturn, 1) := dk_172 (dk_at dksX5_ifOther_1 21 rfl rfl)
theorem dX5_ifOther_45 : decode cX5_ifOther 45 = .ok (.aload_n 0, 1) := dk_42 (dk_at dksX5_ifOther_1 22 rfl rfl)
theorem dX5_ifOther_46 : decode cX5_ifOther 46 = .ok (.invokevirtual 455, 3) := dk_182 1 199 (dk_at dksX5_ifOther_2 0 rfl rfl)
theorem dX5_ifOther_49 : decode cX5_ifOther 49 = .ok (.aload_n 0, 1) := dk_42 (dk_at dksX5_ifOther_2 3 rfl rfl)
theorem dX5_ifOther_50 : decode cX5_ifOther 50 = .ok (.iload_n 1, 1) := dk_27 (dk_at dksX5_ifOther_2 4 rfl rfl)
theorem dX5_ifOther_51 : decode cX5_ifOther 51 = .ok (.invokevirtual 458, 3) := dk_182 1 202 (dk_at dksX5_ifOther_2 5 rfl rfl)
theorem dX5_ifOther_54 : decode cX5_ifOther 54 = .ok (.aload_n 0, 1) := dk_42 (dk_at dksX5_ifOther_2 8 rfl rfl)
theorem dX5_ifOther_55 : decode cX5_ifOther 55 = .ok (.aload_n 0, 1) := dk_42 (dk_at dksX5_ifOther_2 9 rfl rfl)
theorem dX5_ifOther_56 : decode cX5_ifOther 56 = .ok (.iload_n 2, 1) := dk_28 (dk_at dksX5_ifOther_2 10 rfl rfl)
theorem dX5_ifOther_57 : decode cX5_ifOther 57 = .ok (.iload_n 3, 1) := dk_29 (dk_at dksX5_ifOther_2 11 rfl rfl)
theorem dX5_ifOther_58 : decode cX5_ifOther 58 = .ok (.invokevirtual 461, 3) := dk_182 1 205 (dk_at dksX5_ifOther_2 12 rfl rfl)
theorem dX5_ifOther_61 : decode cX5_ifOther 61 = .ok (.invokevirtual 464, 3) := dk_182 1 208 (dk_at dksX5_ifOther_2 15 rfl rfl)
theorem dX5_ifOther_64 : decode cX5_ifOther 64 = .ok (.ireturn, 1) := dk_172 (dk_at dksX5_ifOther_2 18 rfl rfl)
abbrev cX5_ifSet : ByteArray := prog_13_method_102_code
def yX5_ifSet : MethodName := ⟨RX5, "ifSet", "(IIII)I"⟩
def dkwX5_ifSet_2 : List UInt8 := [96, 28, 79, 42, 42, 29, 21, 4, 182, 1, 205, 182, 1, 208, 172]
abbrev dktX5_ifSet_2 : List UInt8 := dkwX5_ifSet_2 ++ []
def dkwX5_ifSet_1 : List UInt8 := [4, 167, 0, 4, 3, 3, 182, 1, 2, 153, 0, 5, 3, 172, 42, 182, 1, 199, 42, 180, 0, 9, 5, 27]
abbrev dktX5_ifSet_1 : List UInt8 := dkwX5_ifSet_1 ++ dktX5_ifSet_2
def dkwX5_ifSet_0 : List UInt8 := [42, 29, 184, 1, 158, 27, 28, 184, 1, 167, 154, 0, 14, 21, 4, 3, 16, 7, 184, 0, 119, 154, 0, 7]
abbrev dktX5_ifSet_0 : List UInt8 := dkwX5_ifSet_0 ++ dktX5_ifSet_1
theorem dksX5_ifSet_0 : cX5_ifSet.data.toList.drop 0 = dktX5_ifSet_0 := by decide +kernel
theorem dksX5_ifSet_1 : cX5_ifSet.data.toList.drop 24 = dktX5_ifSet_1 := dk_seg dksX5_ifSet_0 24 rfl rfl
theorem dksX5_ifSet_2 : cX5_ifSet.data.toList.drop 48 = dktX5_ifSet_2 := dk_seg dksX5_ifSet_1 24 rfl rfl
theorem dX5_ifSet_0 : decode cX5_ifSet 0 = .ok (.aload_n 0, 1) := dk_42 (dk_at dksX5_ifSet_0 0 rfl rfl)
theorem dX5_ifSet_1 : decode cX5_ifSet 1 = .ok (.iload_n 3, 1) := dk_29 (dk_at dksX5_ifSet_0 1 rfl rfl)
theorem dX5_ifSet_2 : decode cX5_ifSet 2 = .ok (.invokestatic 414, 3) := dk_184 1 158 (dk_at dksX5_ifSet_0 2 rfl rfl)
theorem dX5_ifSet_5 : decode cX5_ifSet 5 = .ok (.iload_n 1, 1) := dk_27 (dk_at dksX5_ifSet_0 5 rfl rfl)
theorem dX5_ifSet_6 : decode cX5_ifSet 6 = .ok (.iload_n 2, 1) := dk_28 (dk_at dksX5_ifSet_0 6 rfl rfl)
theorem dX5_ifSet_7 : decode cX5_ifSet 7 = .ok (.invokestatic 423, 3) := dk_184 1 167 (dk_at dksX5_ifSet_0 7 rfl rfl)
theorem dX5_ifSet_10 : decode cX5_ifSet 10 = .ok (.ifCond .ne 14, 3) := dk_154 0 14 (dk_at dksX5_ifSet_0 10 rfl rfl)
theorem dX5_ifSet_13 : decode cX5_ifSet 13 = .ok (.iload 4, 2) := dk_21 4 (dk_at dksX5_ifSet_0 13 rfl rfl)
theorem dX5_ifSet_15 : decode cX5_ifSet 15 = .ok (.iconst 0, 1) := dk_3 (dk_at dksX5_ifSet_0 15 rfl rfl)
theorem dX5_ifSet_16 : decode cX5_ifSet 16 = .ok (.bipush 7, 2) := dk_16 7 (dk_at dksX5_ifSet_0 16 rfl rfl)
theorem dX5_ifSet_18 : decode cX5_ifSet 18 = .ok (.invokestatic 119, 3) := dk_184 0 119 (dk_at dksX5_ifSet_0 18 rfl rfl)
theorem dX5_ifSet_21 : decode cX5_ifSet 21 = .ok (.ifCond .ne 7, 3) := dk_154 0 7 (dk_at dksX5_ifSet_0 21 rfl rfl)
theorem dX5_ifSet_24 : decode cX5_ifSet 24 = .ok (.iconst 1, 1) := dk_4 (dk_at dksX5_ifSet_1 0 rfl rfl)
theorem dX5_ifSet_25 : decode cX5_ifSet 25 = .ok (.goto 4, 3) := dk_167 0 4 (dk_at dksX5_ifSet_1 1 rfl rfl)
theorem dX5_ifSet_28 : decode cX5_ifSet 28 = .ok (.iconst 0, 1) := dk_3 (dk_at dksX5_ifSet_1 4 rfl rfl)
theorem dX5_ifSet_29 : decode cX5_ifSet 29 = .ok (.iconst 0, 1) := dk_3 (dk_at dksX5_ifSet_1 5 rfl rfl)
theorem dX5_ifSet_30 : decode cX5_ifSet 30 = .ok (.invokevirtual 258, 3) := dk_182 1 2 (dk_at dksX5_ifSet_1 6 rfl rfl)
theorem dX5_ifSet_33 : decode cX5_ifSet 33 = .ok (.ifCond .eq 5, 3) := dk_153 0 5 (dk_at dksX5_ifSet_1 9 rfl rfl)
theorem dX5_ifSet_36 : decode cX5_ifSet 36 = .ok (.iconst 0, 1) := dk_3 (dk_at dksX5_ifSet_1 12 rfl rfl)
theorem dX5_ifSet_37 : decode cX5_ifSet 37 = .ok (.ireturn, 1) := dk_172 (dk_at dksX5_ifSet_1 13 rfl rfl)
theorem dX5_ifSet_38 : decode cX5_ifSet 38 = .ok (.aload_n 0, 1) := dk_42 (dk_at dksX5_ifSet_1 14 rfl rfl)
theorem dX5_ifSet_39 : decode cX5_ifSet 39 = .ok (.invokevirtual 455, 3) := dk_182 1 199 (dk_at dksX5_ifSet_1 15 rfl rfl)
theorem dX5_ifSet_42 : decode cX5_ifSet 42 = .ok (.aload_n 0, 1) := dk_42 (dk_at dksX5_ifSet_1 18 rfl rfl)
theorem dX5_ifSet_43 : decode cX5_ifSet 43 = .ok (.getfield 9, 3) := dk_180 0 9 (dk_at dksX5_ifSet_1 19 rfl rfl)
theorem dX5_ifSet_46 : decode cX5_ifSet 46 = .ok (.iconst 2, 1) := dk_5 (dk_at dksX5_ifSet_1 22 rfl rfl)
theorem dX5_ifSet_47 : decode cX5_ifSet 47 = .ok (.iload_n 1, 1) := dk_27 (dk_at dksX5_ifSet_1 23 rfl rfl)
theorem dX5_ifSet_48 : decode cX5_ifSet 48 = .ok (.iadd, 1) := dk_96 (dk_at dksX5_ifSet_2 0 rfl rfl)
theorem dX5_ifSet_49 : decode cX5_ifSet 49 = .ok (.iload_n 2, 1) := dk_28 (dk_at dksX5_ifSet_2 1 rfl rfl)
theorem dX5_ifSet_50 : decode cX5_ifSet 50 = .ok (.iastore, 1) := dk_79 (dk_at dksX5_ifSet_2 2 rfl rfl)
theorem dX5_ifSet_51 : decode cX5_ifSet 51 = .ok (.aload_n 0, 1) := dk_42 (dk_at dksX5_ifSet_2 3 rfl rfl)
theorem dX5_ifSet_52 : decode cX5_ifSet 52 = .ok (.aload_n 0, 1) := dk_42 (dk_at dksX5_ifSet_2 4 rfl rfl)
theorem dX5_ifSet_53 : decode cX5_ifSet 53 = .ok (.iload_n 3, 1) := dk_29 (dk_at dksX5_ifSet_2 5 rfl rfl)
theorem dX5_ifSet_54 : decode cX5_ifSet 54 = .ok (.iload 4, 2) := dk_21 4 (dk_at dksX5_ifSet_2 6 rfl rfl)
theorem dX5_ifSet_56 : decode cX5_ifSet 56 = .ok (.invokevirtual 461, 3) := dk_182 1 205 (dk_at dksX5_ifSet_2 8 rfl rfl)
theorem dX5_ifSet_59 : decode cX5_ifSet 59 = .ok (.invokevirtual 464, 3) := dk_182 1 208 (dk_at dksX5_ifSet_2 11 rfl rfl)
theorem dX5_ifSet_62 : decode cX5_ifSet 62 = .ok (.ireturn, 1) := dk_172 (dk_at dksX5_ifSet_2 14 rfl rfl)
abbrev cX5_extreme : ByteArray := prog_13_method_103_code
def yX5_extreme : MethodName := ⟨RX5, "extreme", "(III)I"⟩
def dkwX5_extreme_4 : List UInt8 := [132, 6, 1, 167, 255, 170, 21, 4, 172]
abbrev dktX5_extreme_4 : List UInt8 := dkwX5_extreme_4 ++ []
def dkwX5_extreme_3 : List UInt8 := [2, 159, 0, 13, 21, 7, 21, 5, 163, 0, 6, 167, 0, 11, 21, 6, 54, 4, 21, 7, 54, 5]
abbrev dktX5_extreme_3 : List UInt8 := dkwX5_extreme_3 ++ dktX5_extreme_4
def dkwX5_extreme_2 : List UInt8 := [182, 1, 199, 42, 21, 6, 182, 1, 202, 42, 42, 27, 182, 0, 252, 182, 1, 208, 29, 104, 54, 7, 21, 4]
abbrev dktX5_extreme_2 : List UInt8 := dkwX5_extreme_2 ++ dktX5_extreme_3
def dkwX5_extreme_1 : List UInt8 := [182, 0, 130, 27, 160, 0, 64, 42, 21, 6, 7, 182, 0, 130, 28, 159, 0, 6, 167, 0, 50, 42]
abbrev dktX5_extreme_1 : List UInt8 := dkwX5_extreme_1 ++ dktX5_extreme_2
def dkwX5_extreme_0 : List UInt8 := [2, 54, 4, 3, 54, 5, 3, 54, 6, 21, 6, 42, 180, 0, 9, 7, 46, 162, 0, 81, 42, 21, 6, 5]
abbrev dktX5_extreme_0 : List UInt8 := dkwX5_extreme_0 ++ dktX5_extreme_1
theorem dksX5_extreme_0 : cX5_extreme.data.toList.drop 0 = dktX5_extreme_0 := by decide +kernel
theorem dksX5_extreme_1 : cX5_extreme.data.toList.drop 24 = dktX5_extreme_1 := dk_seg dksX5_extreme_0 24 rfl rfl
theorem dksX5_extreme_2 : cX5_extreme.data.toList.drop 46 = dktX5_extreme_2 := dk_seg dksX5_extreme_1 22 rfl rfl
theorem dksX5_extreme_3 : cX5_extreme.data.toList.drop 70 = dktX5_extreme_3 := dk_seg dksX5_extreme_2 24 rfl rfl
theorem dksX5_extreme_4 : cX5_extreme.data.toList.drop 92 = dktX5_extreme_4 := dk_seg dksX5_extreme_3 22 rfl rfl
theorem dX5_extreme_0 : decode cX5_extreme 0 = .ok (.iconst (-1), 1) := dk_2 (dk_at dksX5_extreme_0 0 rfl rfl)
theorem dX5_extreme_1 : decode cX5_extreme 1 = .ok (.istore 4, 2) := dk_54 4 (dk_at dksX5_extreme_0 1 rfl rfl)
theorem dX5_extreme_3 : decode cX5_extreme 3 = .ok (.iconst 0, 1) := dk_3 (dk_at dksX5_extreme_0 3 rfl rfl)
theorem dX5_extreme_4 : decode cX5_extreme 4 = .ok (.istore 5, 2) := dk_54 5 (dk_at dksX5_extreme_0 4 rfl rfl)
theorem dX5_extreme_6 : decode cX5_extreme 6 = .ok (.iconst 0, 1) := dk_3 (dk_at dksX5_extreme_0 6 rfl rfl)
theorem dX5_extreme_7 : decode cX5_extreme 7 = .ok (.istore 6, 2) := dk_54 6 (dk_at dksX5_extreme_0 7 rfl rfl)
theorem dX5_extreme_9 : decode cX5_extreme 9 = .ok (.iload 6, 2) := dk_21 6 (dk_at dksX5_extreme_0 9 rfl rfl)
theorem dX5_extreme_11 : decode cX5_extreme 11 = .ok (.aload_n 0, 1) := dk_42 (dk_at dksX5_extreme_0 11 rfl rfl)
theorem dX5_extreme_12 : decode cX5_extreme 12 = .ok (.getfield 9, 3) := dk_180 0 9 (dk_at dksX5_extreme_0 12 rfl rfl)
theorem dX5_extreme_15 : decode cX5_extreme 15 = .ok (.iconst 4, 1) := dk_7 (dk_at dksX5_extreme_0 15 rfl rfl)
theorem dX5_extreme_16 : decode cX5_extreme 16 = .ok (.iaload, 1) := dk_46 (dk_at dksX5_extreme_0 16 rfl rfl)
theorem dX5_extreme_17 : decode cX5_extreme 17 = .ok (.if_icmp .ge 81, 3) := dk_162 0 81 (dk_at dksX5_extreme_0 17 rfl rfl)
theorem dX5_extreme_20 : decode cX5_extreme 20 = .ok (.aload_n 0, 1) := dk_42 (dk_at dksX5_extreme_0 20 rfl rfl)
theorem dX5_extreme_21 : decode cX5_extreme 21 = .ok (.iload 6, 2) := dk_21 6 (dk_at dksX5_extreme_0 21 rfl rfl)
theorem dX5_extreme_23 : decode cX5_extreme 23 = .ok (.iconst 2, 1) := dk_5 (dk_at dksX5_extreme_0 23 rfl rfl)
theorem dX5_extreme_24 : decode cX5_extreme 24 = .ok (.invokevirtual 130, 3) := dk_182 0 130 (dk_at dksX5_extreme_1 0 rfl rfl)
theorem dX5_extreme_27 : decode cX5_extreme 27 = .ok (.iload_n 1, 1) := dk_27 (dk_at dksX5_extreme_1 3 rfl rfl)
theorem dX5_extreme_28 : decode cX5_extreme 28 = .ok (.if_icmp .ne 64, 3) := dk_160 0 64 (dk_at dksX5_extreme_1 4 rfl rfl)
theorem dX5_extreme_31 : decode cX5_extreme 31 = .ok (.aload_n 0, 1) := dk_42 (dk_at dksX5_extreme_1 7 rfl rfl)
theorem dX5_extreme_32 : decode cX5_extreme 32 = .ok (.iload 6, 2) := dk_21 6 (dk_at dksX5_extreme_1 8 rfl rfl)
theorem dX5_extreme_34 : decode cX5_extreme 34 = .ok (.iconst 4, 1) := dk_7 (dk_at dksX5_extreme_1 10 rfl rfl)
theorem dX5_extreme_35 : decode cX5_extreme 35 = .ok (.invokevirtual 130, 3) := dk_182 0 130 (dk_at dksX5_extreme_1 11 rfl rfl)
theorem dX5_extreme_38 : decode cX5_extreme 38 = .ok (.iload_n 2, 1) := dk_28 (dk_at dksX5_extreme_1 14 rfl rfl)
theorem dX5_extreme_39 : decode cX5_extreme 39 = .ok (.if_icmp .eq 6, 3) := dk_159 0 6 (dk_at dksX5_extreme_1 15 rfl rfl)
theorem dX5_extreme_42 : decode cX5_extreme 42 = .ok (.goto 50, 3) := dk_167 0 50 (dk_at dksX5_extreme_1 18 rfl rfl)
theorem dX5_extreme_45 : decode cX5_extreme 45 = .ok (.aload_n 0, 1) := dk_42 (dk_at dksX5_extreme_1 21 rfl rfl)
theorem dX5_extreme_46 : decode cX5_extreme 46 = .ok (.invokevirtual 455, 3) := dk_182 1 199 (dk_at dksX5_extreme_2 0 rfl rfl)
theorem dX5_extreme_49 : decode cX5_extreme 49 = .ok (.aload_n 0, 1) := dk_42 (dk_at dksX5_extreme_2 3 rfl rfl)
theorem dX5_extreme_50 : decode cX5_extreme 50 = .ok (.iload 6, 2) := dk_21 6 (dk_at dksX5_extreme_2 4 rfl rfl)
theorem dX5_extreme_52 : decode cX5_extreme 52 = .ok (.invokevirtual 458, 3) := dk_182 1 202 (dk_at dksX5_extreme_2 6 rfl rfl)
theorem dX5_extreme_55 : decode cX5_extreme 55 = .ok (.aload_n 0, 1) := dk_42 (dk_at dksX5_extreme_2 9 rfl rfl)
theorem dX5_extreme_56 : decode cX5_extreme 56 = .ok (.aload_n 0, 1) := dk_42 (dk_at dksX5_extreme_2 10 rfl rfl)
theorem dX5_extreme_57 : decode cX5_extreme 57 = .ok (.iload_n 1, 1) := dk_27 (dk_at dksX5_extreme_2 11 rfl rfl)
theorem dX5_extreme_58 : decode cX5_extreme 58 = .ok (.invokevirtual 252, 3) := dk_182 0 252 (dk_at dksX5_extreme_2 12 rfl rfl)
theorem dX5_extreme_61 : decode cX5_extreme 61 = .ok (.invokevirtual 464, 3) := dk_182 1 208 (dk_at dksX5_extreme_2 15 rfl rfl)
theorem dX5_extreme_64 : decode cX5_extreme 64 = .ok (.iload_n 3, 1) := dk_29 (dk_at dksX5_extreme_2 18 rfl rfl)
theorem dX5_extreme_65 : decode cX5_extreme 65 = .ok (.imul, 1) := dk_104 (dk_at dksX5_extreme_2 19 rfl rfl)
theorem dX5_extreme_66 : decode cX5_extreme 66 = .ok (.istore 7, 2) := dk_54 7 (dk_at dksX5_extreme_2 20 rfl rfl)
theorem dX5_extreme_68 : decode cX5_extreme 68 = .ok (.iload 4, 2) := dk_21 4 (dk_at dksX5_extreme_2 22 rfl rfl)
theorem dX5_extreme_70 : decode cX5_extreme 70 = .ok (.iconst (-1), 1) := dk_2 (dk_at dksX5_extreme_3 0 rfl rfl)
theorem dX5_extreme_71 : decode cX5_extreme 71 = .ok (.if_icmp .eq 13, 3) := dk_159 0 13 (dk_at dksX5_extreme_3 1 rfl rfl)
theorem dX5_extreme_74 : decode cX5_extreme 74 = .ok (.iload 7, 2) := dk_21 7 (dk_at dksX5_extreme_3 4 rfl rfl)
theorem dX5_extreme_76 : decode cX5_extreme 76 = .ok (.iload 5, 2) := dk_21 5 (dk_at dksX5_extreme_3 6 rfl rfl)
theorem dX5_extreme_78 : decode cX5_extreme 78 = .ok (.if_icmp .gt 6, 3) := dk_163 0 6 (dk_at dksX5_extreme_3 8 rfl rfl)
theorem dX5_extreme_81 : decode cX5_extreme 81 = .ok (.goto 11, 3) := dk_167 0 11 (dk_at dksX5_extreme_3 11 rfl rfl)
theorem dX5_extreme_84 : decode cX5_extreme 84 = .ok (.iload 6, 2) := dk_21 6 (dk_at dksX5_extreme_3 14 rfl rfl)
theorem dX5_extreme_86 : decode cX5_extreme 86 = .ok (.istore 4, 2) := dk_54 4 (dk_at dksX5_extreme_3 16 rfl rfl)
theorem dX5_extreme_88 : decode cX5_extreme 88 = .ok (.iload 7, 2) := dk_21 7 (dk_at dksX5_extreme_3 18 rfl rfl)
theorem dX5_extreme_90 : decode cX5_extreme 90 = .ok (.istore 5, 2) := dk_54 5 (dk_at dksX5_extreme_3 20 rfl rfl)
theorem dX5_extreme_92 : decode cX5_extreme 92 = .ok (.iinc 6 1, 3) := dk_132 6 1 (dk_at dksX5_extreme_4 0 rfl rfl)
theorem dX5_extreme_95 : decode cX5_extreme 95 = .ok (.goto (-86), 3) := dk_167 255 170 (dk_at dksX5_extreme_4 3 rfl rfl)
theorem dX5_extreme_98 : decode cX5_extreme 98 = .ok (.iload 4, 2) := dk_21 4 (dk_at dksX5_extreme_4 6 rfl rfl)
theorem dX5_extreme_100 : decode cX5_extreme 100 = .ok (.ireturn, 1) := dk_172 (dk_at dksX5_extreme_4 8 rfl rfl)
abbrev cX5_bestMend : ByteArray := prog_13_method_104_code
def yX5_bestMend : MethodName := ⟨RX5, "bestMend", "(I)I"⟩
def dkwX5_bestMend_0 : List UInt8 := [42, 27, 184, 1, 158, 3, 3, 182, 1, 2, 153, 0, 5, 3, 172, 42, 27, 4, 4, 182, 1, 211, 172]
abbrev dktX5_bestMend_0 : List UInt8 := dkwX5_bestMend_0 ++ []
theorem dksX5_bestMend_0 : cX5_bestMend.data.toList.drop 0 = dktX5_bestMend_0 := by decide +kernel
theorem dX5_bestMend_0 : decode cX5_bestMend 0 = .ok (.aload_n 0, 1) := dk_42 (dk_at dksX5_bestMend_0 0 rfl rfl)
theorem dX5_bestMend_1 : decode cX5_bestMend 1 = .ok (.iload_n 1, 1) := dk_27 (dk_at dksX5_bestMend_0 1 rfl rfl)
theorem dX5_bestMend_2 : decode cX5_bestMend 2 = .ok (.invokestatic 414, 3) := dk_184 1 158 (dk_at dksX5_bestMend_0 2 rfl rfl)
theorem dX5_bestMend_5 : decode cX5_bestMend 5 = .ok (.iconst 0, 1) := dk_3 (dk_at dksX5_bestMend_0 5 rfl rfl)
theorem dX5_bestMend_6 : decode cX5_bestMend 6 = .ok (.iconst 0, 1) := dk_3 (dk_at dksX5_bestMend_0 6 rfl rfl)
theorem dX5_bestMend_7 : decode cX5_bestMend 7 = .ok (.invokevirtual 258, 3) := dk_182 1 2 (dk_at dksX5_bestMend_0 7 rfl rfl)
theorem dX5_bestMend_10 : decode cX5_bestMend 10 = .ok (.ifCond .eq 5, 3) := dk_153 0 5 (dk_at dksX5_bestMend_0 10 rfl rfl)
theorem dX5_bestMend_13 : decode cX5_bestMend 13 = .ok (.iconst 0, 1) := dk_3 (dk_at dksX5_bestMend_0 13 rfl rfl)
theorem dX5_bestMend_14 : decode cX5_bestMend 14 = .ok (.ireturn, 1) := dk_172 (dk_at dksX5_bestMend_0 14 rfl rfl)
theorem dX5_bestMend_15 : decode cX5_bestMend 15 = .ok (.aload_n 0, 1) := dk_42 (dk_at dksX5_bestMend_0 15 rfl rfl)
theorem dX5_bestMend_16 : decode cX5_bestMend 16 = .ok (.iload_n 1, 1) := dk_27 (dk_at dksX5_bestMend_0 16 rfl rfl)
theorem dX5_bestMend_17 : decode cX5_bestMend 17 = .ok (.iconst 1, 1) := dk_4 (dk_at dksX5_bestMend_0 17 rfl rfl)
theorem dX5_bestMend_18 : decode cX5_bestMend 18 = .ok (.iconst 1, 1) := dk_4 (dk_at dksX5_bestMend_0 18 rfl rfl)
theorem dX5_bestMend_19 : decode cX5_bestMend 19 = .ok (.invokevirtual 467, 3) := dk_182 1 211 (dk_at dksX5_bestMend_0 19 rfl rfl)
theorem dX5_bestMend_22 : decode cX5_bestMend 22 = .ok (.ireturn, 1) := dk_172 (dk_at dksX5_bestMend_0 22 rfl rfl)
abbrev cX5_worstLoss : ByteArray := prog_13_method_105_code
def yX5_worstLoss : MethodName := ⟨RX5, "worstLoss", "(I)I"⟩
def dkwX5_worstLoss_0 : List UInt8 := [42, 27, 184, 1, 158, 3, 3, 182, 1, 2, 153, 0, 5, 3, 172, 42, 27, 3, 2, 182, 1, 211, 172]
abbrev dktX5_worstLoss_0 : List UInt8 := dkwX5_worstLoss_0 ++ []
theorem dksX5_worstLoss_0 : cX5_worstLoss.data.toList.drop 0 = dktX5_worstLoss_0 := by decide +kernel
theorem dX5_worstLoss_0 : decode cX5_worstLoss 0 = .ok (.aload_n 0, 1) := dk_42 (dk_at dksX5_worstLoss_0 0 rfl rfl)
theorem dX5_worstLoss_1 : decode cX5_worstLoss 1 = .ok (.iload_n 1, 1) := dk_27 (dk_at dksX5_worstLoss_0 1 rfl rfl)
theorem dX5_worstLoss_2 : decode cX5_worstLoss 2 = .ok (.invokestatic 414, 3) := dk_184 1 158 (dk_at dksX5_worstLoss_0 2 rfl rfl)
theorem dX5_worstLoss_5 : decode cX5_worstLoss 5 = .ok (.iconst 0, 1) := dk_3 (dk_at dksX5_worstLoss_0 5 rfl rfl)
theorem dX5_worstLoss_6 : decode cX5_worstLoss 6 = .ok (.iconst 0, 1) := dk_3 (dk_at dksX5_worstLoss_0 6 rfl rfl)
theorem dX5_worstLoss_7 : decode cX5_worstLoss 7 = .ok (.invokevirtual 258, 3) := dk_182 1 2 (dk_at dksX5_worstLoss_0 7 rfl rfl)
theorem dX5_worstLoss_10 : decode cX5_worstLoss 10 = .ok (.ifCond .eq 5, 3) := dk_153 0 5 (dk_at dksX5_worstLoss_0 10 rfl rfl)
theorem dX5_worstLoss_13 : decode cX5_worstLoss 13 = .ok (.iconst 0, 1) := dk_3 (dk_at dksX5_worstLoss_0 13 rfl rfl)
theorem dX5_worstLoss_14 : decode cX5_worstLoss 14 = .ok (.ireturn, 1) := dk_172 (dk_at dksX5_worstLoss_0 14 rfl rfl)
theorem dX5_worstLoss_15 : decode cX5_worstLoss 15 = .ok (.aload_n 0, 1) := dk_42 (dk_at dksX5_worstLoss_0 15 rfl rfl)
theorem dX5_worstLoss_16 : decode cX5_worstLoss 16 = .ok (.iload_n 1, 1) := dk_27 (dk_at dksX5_worstLoss_0 16 rfl rfl)
theorem dX5_worstLoss_17 : decode cX5_worstLoss 17 = .ok (.iconst 0, 1) := dk_3 (dk_at dksX5_worstLoss_0 17 rfl rfl)
theorem dX5_worstLoss_18 : decode cX5_worstLoss 18 = .ok (.iconst (-1), 1) := dk_2 (dk_at dksX5_worstLoss_0 18 rfl rfl)
theorem dX5_worstLoss_19 : decode cX5_worstLoss 19 = .ok (.invokevirtual 467, 3) := dk_182 1 211 (dk_at dksX5_worstLoss_0 19 rfl rfl)
theorem dX5_worstLoss_22 : decode cX5_worstLoss 22 = .ok (.ireturn, 1) := dk_172 (dk_at dksX5_worstLoss_0 22 rfl rfl)
abbrev cX5_leastGap : ByteArray := prog_13_method_106_code
def yX5_leastGap : MethodName := ⟨RX5, "leastGap", "(I)I"⟩
def dkwX5_leastGap_2 : List UInt8 := [153, 0, 6, 21, 4, 62, 132, 4, 255, 167, 255, 228, 42, 180, 0, 9, 5, 28, 79, 29, 172]
abbrev dktX5_leastGap_2 : List UInt8 := dkwX5_leastGap_2 ++ []
def dkwX5_leastGap_1 : List UInt8 := [16, 12, 54, 4, 21, 4, 4, 161, 0, 28, 42, 180, 0, 9, 5, 21, 4, 79, 42, 27, 182, 1, 170]
abbrev dktX5_leastGap_1 : List UInt8 := dkwX5_leastGap_1 ++ dktX5_leastGap_2
def dkwX5_leastGap_0 : List UInt8 := [42, 27, 184, 1, 158, 3, 3, 182, 1, 2, 153, 0, 5, 3, 172, 42, 180, 0, 9, 5, 46, 61, 2, 62]
abbrev dktX5_leastGap_0 : List UInt8 := dkwX5_leastGap_0 ++ dktX5_leastGap_1
theorem dksX5_leastGap_0 : cX5_leastGap.data.toList.drop 0 = dktX5_leastGap_0 := by decide +kernel
theorem dksX5_leastGap_1 : cX5_leastGap.data.toList.drop 24 = dktX5_leastGap_1 := dk_seg dksX5_leastGap_0 24 rfl rfl
theorem dksX5_leastGap_2 : cX5_leastGap.data.toList.drop 47 = dktX5_leastGap_2 := dk_seg dksX5_leastGap_1 23 rfl rfl
theorem dX5_leastGap_0 : decode cX5_leastGap 0 = .ok (.aload_n 0, 1) := dk_42 (dk_at dksX5_leastGap_0 0 rfl rfl)
theorem dX5_leastGap_1 : decode cX5_leastGap 1 = .ok (.iload_n 1, 1) := dk_27 (dk_at dksX5_leastGap_0 1 rfl rfl)
theorem dX5_leastGap_2 : decode cX5_leastGap 2 = .ok (.invokestatic 414, 3) := dk_184 1 158 (dk_at dksX5_leastGap_0 2 rfl rfl)
theorem dX5_leastGap_5 : decode cX5_leastGap 5 = .ok (.iconst 0, 1) := dk_3 (dk_at dksX5_leastGap_0 5 rfl rfl)
theorem dX5_leastGap_6 : decode cX5_leastGap 6 = .ok (.iconst 0, 1) := dk_3 (dk_at dksX5_leastGap_0 6 rfl rfl)
theorem dX5_leastGap_7 : decode cX5_leastGap 7 = .ok (.invokevirtual 258, 3) := dk_182 1 2 (dk_at dksX5_leastGap_0 7 rfl rfl)
theorem dX5_leastGap_10 : decode cX5_leastGap 10 = .ok (.ifCond .eq 5, 3) := dk_153 0 5 (dk_at dksX5_leastGap_0 10 rfl rfl)
theorem dX5_leastGap_13 : decode cX5_leastGap 13 = .ok (.iconst 0, 1) := dk_3 (dk_at dksX5_leastGap_0 13 rfl rfl)
theorem dX5_leastGap_14 : decode cX5_leastGap 14 = .ok (.ireturn, 1) := dk_172 (dk_at dksX5_leastGap_0 14 rfl rfl)
theorem dX5_leastGap_15 : decode cX5_leastGap 15 = .ok (.aload_n 0, 1) := dk_42 (dk_at dksX5_leastGap_0 15 rfl rfl)
theorem dX5_leastGap_16 : decode cX5_leastGap 16 = .ok (.getfield 9, 3) := dk_180 0 9 (dk_at dksX5_leastGap_0 16 rfl rfl)
theorem dX5_leastGap_19 : decode cX5_leastGap 19 = .ok (.iconst 2, 1) := dk_5 (dk_at dksX5_leastGap_0 19 rfl rfl)
theorem dX5_leastGap_20 : decode cX5_leastGap 20 = .ok (.iaload, 1) := dk_46 (dk_at dksX5_leastGap_0 20 rfl rfl)
theorem dX5_leastGap_21 : decode cX5_leastGap 21 = .ok (.istore_n 2, 1) := dk_61 (dk_at dksX5_leastGap_0 21 rfl rfl)
theorem dX5_leastGap_22 : decode cX5_leastGap 22 = .ok (.iconst (-1), 1) := dk_2 (dk_at dksX5_leastGap_0 22 rfl rfl)
theorem dX5_leastGap_23 : decode cX5_leastGap 23 = .ok (.istore_n 3, 1) := dk_62 (dk_at dksX5_leastGap_0 23 rfl rfl)
theorem dX5_leastGap_24 : decode cX5_leastGap 24 = .ok (.bipush 12, 2) := dk_16 12 (dk_at dksX5_leastGap_1 0 rfl rfl)
theorem dX5_leastGap_26 : decode cX5_leastGap 26 = .ok (.istore 4, 2) := dk_54 4 (dk_at dksX5_leastGap_1 2 rfl rfl)
theorem dX5_leastGap_28 : decode cX5_leastGap 28 = .ok (.iload 4, 2) := dk_21 4 (dk_at dksX5_leastGap_1 4 rfl rfl)
theorem dX5_leastGap_30 : decode cX5_leastGap 30 = .ok (.iconst 1, 1) := dk_4 (dk_at dksX5_leastGap_1 6 rfl rfl)
theorem dX5_leastGap_31 : decode cX5_leastGap 31 = .ok (.if_icmp .lt 28, 3) := dk_161 0 28 (dk_at dksX5_leastGap_1 7 rfl rfl)
theorem dX5_leastGap_34 : decode cX5_leastGap 34 = .ok (.aload_n 0, 1) := dk_42 (dk_at dksX5_leastGap_1 10 rfl rfl)
theorem dX5_leastGap_35 : decode cX5_leastGap 35 = .ok (.getfield 9, 3) := dk_180 0 9 (dk_at dksX5_leastGap_1 11 rfl rfl)
theorem dX5_leastGap_38 : decode cX5_leastGap 38 = .ok (.iconst 2, 1) := dk_5 (dk_at dksX5_leastGap_1 14 rfl rfl)
theorem dX5_leastGap_39 : decode cX5_leastGap 39 = .ok (.iload 4, 2) := dk_21 4 (dk_at dksX5_leastGap_1 15 rfl rfl)
theorem dX5_leastGap_41 : decode cX5_leastGap 41 = .ok (.iastore, 1) := dk_79 (dk_at dksX5_leastGap_1 17 rfl rfl)
theorem dX5_leastGap_42 : decode cX5_leastGap 42 = .ok (.aload_n 0, 1) := dk_42 (dk_at dksX5_leastGap_1 18 rfl rfl)
theorem dX5_leastGap_43 : decode cX5_leastGap 43 = .ok (.iload_n 1, 1) := dk_27 (dk_at dksX5_leastGap_1 19 rfl rfl)
theorem dX5_leastGap_44 : decode cX5_leastGap 44 = .ok (.invokevirtual 426, 3) := dk_182 1 170 (dk_at dksX5_leastGap_1 20 rfl rfl)
theorem dX5_leastGap_47 : decode cX5_leastGap 47 = .ok (.ifCond .eq 6, 3) := dk_153 0 6 (dk_at dksX5_leastGap_2 0 rfl rfl)
theorem dX5_leastGap_50 : decode cX5_leastGap 50 = .ok (.iload 4, 2) := dk_21 4 (dk_at dksX5_leastGap_2 3 rfl rfl)
theorem dX5_leastGap_52 : decode cX5_leastGap 52 = .ok (.istore_n 3, 1) := dk_62 (dk_at dksX5_leastGap_2 5 rfl rfl)
theorem dX5_leastGap_53 : decode cX5_leastGap 53 = .ok (.iinc 4 (-1), 3) := dk_132 4 255 (dk_at dksX5_leastGap_2 6 rfl rfl)
theorem dX5_leastGap_56 : decode cX5_leastGap 56 = .ok (.goto (-28), 3) := dk_167 255 228 (dk_at dksX5_leastGap_2 9 rfl rfl)
theorem dX5_leastGap_59 : decode cX5_leastGap 59 = .ok (.aload_n 0, 1) := dk_42 (dk_at dksX5_leastGap_2 12 rfl rfl)
theorem dX5_leastGap_60 : decode cX5_leastGap 60 = .ok (.getfield 9, 3) := dk_180 0 9 (dk_at dksX5_leastGap_2 13 rfl rfl)
theorem dX5_leastGap_63 : decode cX5_leastGap 63 = .ok (.iconst 2, 1) := dk_5 (dk_at dksX5_leastGap_2 16 rfl rfl)
theorem dX5_leastGap_64 : decode cX5_leastGap 64 = .ok (.iload_n 2, 1) := dk_28 (dk_at dksX5_leastGap_2 17 rfl rfl)
theorem dX5_leastGap_65 : decode cX5_leastGap 65 = .ok (.iastore, 1) := dk_79 (dk_at dksX5_leastGap_2 18 rfl rfl)
theorem dX5_leastGap_66 : decode cX5_leastGap 66 = .ok (.iload_n 3, 1) := dk_29 (dk_at dksX5_leastGap_2 19 rfl rfl)
theorem dX5_leastGap_67 : decode cX5_leastGap 67 = .ok (.ireturn, 1) := dk_172 (dk_at dksX5_leastGap_2 20 rfl rfl)
abbrev cX5_gap : ByteArray := prog_13_method_107_code
def yX5_gap : MethodName := ⟨RX5, "gap", "()I"⟩
def dkwX5_gap_8 : List UInt8 := [172]
abbrev dktX5_gap_8 : List UInt8 := dkwX5_gap_8 ++ []
def dkwX5_gap_7 : List UInt8 := [184, 1, 215, 96, 4, 159, 0, 6, 132, 1, 1, 132, 4, 1, 167, 255, 157, 132, 2, 1, 167, 255, 79, 27]
abbrev dktX5_gap_7 : List UInt8 := dkwX5_gap_7 ++ dktX5_gap_8
def dkwX5_gap_6 : List UInt8 := [46, 16, 100, 108, 100, 184, 1, 215, 21, 6, 42, 180, 0, 45, 21, 4, 4, 100, 46, 16, 100, 112, 100]
abbrev dktX5_gap_6 : List UInt8 := dkwX5_gap_6 ++ dktX5_gap_7
def dkwX5_gap_5 : List UInt8 := [182, 0, 154, 154, 0, 6, 132, 1, 1, 21, 4, 158, 0, 47, 21, 5, 42, 180, 0, 45, 21, 4, 4, 100]
abbrev dktX5_gap_5 : List UInt8 := dkwX5_gap_5 ++ dktX5_gap_6
def dkwX5_gap_4 : List UInt8 := [46, 16, 100, 108, 54, 5, 42, 180, 0, 45, 21, 4, 46, 16, 100, 112, 54, 6, 42, 21, 5, 21, 6]
abbrev dktX5_gap_4 : List UInt8 := dkwX5_gap_4 ++ dktX5_gap_5
def dkwX5_gap_3 : List UInt8 := [100, 184, 1, 215, 96, 60, 3, 54, 4, 21, 4, 42, 180, 0, 199, 162, 0, 96, 42, 180, 0, 45, 21, 4]
abbrev dktX5_gap_3 : List UInt8 := dkwX5_gap_3 ++ dktX5_gap_4
def dkwX5_gap_2 : List UInt8 := [29, 42, 180, 0, 48, 21, 4, 46, 96, 62, 132, 4, 1, 167, 255, 234, 27, 29, 4, 96, 42, 180, 0, 199]
abbrev dktX5_gap_2 : List UInt8 := dkwX5_gap_2 ++ dktX5_gap_3
def dkwX5_gap_1 : List UInt8 := [42, 180, 0, 199, 154, 0, 6, 167, 0, 152, 3, 62, 3, 54, 4, 21, 4, 42, 180, 0, 202, 162, 0, 19]
abbrev dktX5_gap_1 : List UInt8 := dkwX5_gap_1 ++ dktX5_gap_2
def dkwX5_gap_0 : List UInt8 := [42, 3, 181, 0, 106, 3, 60, 3, 61, 28, 42, 180, 0, 9, 7, 46, 162, 0, 173, 42, 28, 182, 0, 243]
abbrev dktX5_gap_0 : List UInt8 := dkwX5_gap_0 ++ dktX5_gap_1
theorem dksX5_gap_0 : cX5_gap.data.toList.drop 0 = dktX5_gap_0 := by decide +kernel
theorem dksX5_gap_1 : cX5_gap.data.toList.drop 24 = dktX5_gap_1 := dk_seg dksX5_gap_0 24 rfl rfl
theorem dksX5_gap_2 : cX5_gap.data.toList.drop 48 = dktX5_gap_2 := dk_seg dksX5_gap_1 24 rfl rfl
theorem dksX5_gap_3 : cX5_gap.data.toList.drop 72 = dktX5_gap_3 := dk_seg dksX5_gap_2 24 rfl rfl
theorem dksX5_gap_4 : cX5_gap.data.toList.drop 96 = dktX5_gap_4 := dk_seg dksX5_gap_3 24 rfl rfl
theorem dksX5_gap_5 : cX5_gap.data.toList.drop 119 = dktX5_gap_5 := dk_seg dksX5_gap_4 23 rfl rfl
theorem dksX5_gap_6 : cX5_gap.data.toList.drop 143 = dktX5_gap_6 := dk_seg dksX5_gap_5 24 rfl rfl
theorem dksX5_gap_7 : cX5_gap.data.toList.drop 166 = dktX5_gap_7 := dk_seg dksX5_gap_6 23 rfl rfl
theorem dksX5_gap_8 : cX5_gap.data.toList.drop 190 = dktX5_gap_8 := dk_seg dksX5_gap_7 24 rfl rfl
theorem dX5_gap_0 : decode cX5_gap 0 = .ok (.aload_n 0, 1) := dk_42 (dk_at dksX5_gap_0 0 rfl rfl)
theorem dX5_gap_1 : decode cX5_gap 1 = .ok (.iconst 0, 1) := dk_3 (dk_at dksX5_gap_0 1 rfl rfl)
theorem dX5_gap_2 : decode cX5_gap 2 = .ok (.putfield 106, 3) := dk_181 0 106 (dk_at dksX5_gap_0 2 rfl rfl)
theorem dX5_gap_5 : decode cX5_gap 5 = .ok (.iconst 0, 1) := dk_3 (dk_at dksX5_gap_0 5 rfl rfl)
theorem dX5_gap_6 : decode cX5_gap 6 = .ok (.istore_n 1, 1) := dk_60 (dk_at dksX5_gap_0 6 rfl rfl)
theorem dX5_gap_7 : decode cX5_gap 7 = .ok (.iconst 0, 1) := dk_3 (dk_at dksX5_gap_0 7 rfl rfl)
theorem dX5_gap_8 : decode cX5_gap 8 = .ok (.istore_n 2, 1) := dk_61 (dk_at dksX5_gap_0 8 rfl rfl)
theorem dX5_gap_9 : decode cX5_gap 9 = .ok (.iload_n 2, 1) := dk_28 (dk_at dksX5_gap_0 9 rfl rfl)
theorem dX5_gap_10 : decode cX5_gap 10 = .ok (.aload_n 0, 1) := dk_42 (dk_at dksX5_gap_0 10 rfl rfl)
theorem dX5_gap_11 : decode cX5_gap 11 = .ok (.getfield 9, 3) := dk_180 0 9 (dk_at dksX5_gap_0 11 rfl rfl)
theorem dX5_gap_14 : decode cX5_gap 14 = .ok (.iconst 4, 1) := dk_7 (dk_at dksX5_gap_0 14 rfl rfl)
theorem dX5_gap_15 : decode cX5_gap 15 = .ok (.iaload, 1) := dk_46 (dk_at dksX5_gap_0 15 rfl rfl)
theorem dX5_gap_16 : decode cX5_gap 16 = .ok (.if_icmp .ge 173, 3) := dk_162 0 173 (dk_at dksX5_gap_0 16 rfl rfl)
theorem dX5_gap_19 : decode cX5_gap 19 = .ok (.aload_n 0, 1) := dk_42 (dk_at dksX5_gap_0 19 rfl rfl)
theorem dX5_gap_20 : decode cX5_gap 20 = .ok (.iload_n 2, 1) := dk_28 (dk_at dksX5_gap_0 20 rfl rfl)
theorem dX5_gap_21 : decode cX5_gap 21 = .ok (.invokevirtual 243, 3) := dk_182 0 243 (dk_at dksX5_gap_0 21 rfl rfl)
theorem dX5_gap_24 : decode cX5_gap 24 = .ok (.aload_n 0, 1) := dk_42 (dk_at dksX5_gap_1 0 rfl rfl)
theorem dX5_gap_25 : decode cX5_gap 25 = .ok (.getfield 199, 3) := dk_180 0 199 (dk_at dksX5_gap_1 1 rfl rfl)
theorem dX5_gap_28 : decode cX5_gap 28 = .ok (.ifCond .ne 6, 3) := dk_154 0 6 (dk_at dksX5_gap_1 4 rfl rfl)
theorem dX5_gap_31 : decode cX5_gap 31 = .ok (.goto 152, 3) := dk_167 0 152 (dk_at dksX5_gap_1 7 rfl rfl)
theorem dX5_gap_34 : decode cX5_gap 34 = .ok (.iconst 0, 1) := dk_3 (dk_at dksX5_gap_1 10 rfl rfl)
theorem dX5_gap_35 : decode cX5_gap 35 = .ok (.istore_n 3, 1) := dk_62 (dk_at dksX5_gap_1 11 rfl rfl)
theorem dX5_gap_36 : decode cX5_gap 36 = .ok (.iconst 0, 1) := dk_3 (dk_at dksX5_gap_1 12 rfl rfl)
theorem dX5_gap_37 : decode cX5_gap 37 = .ok (.istore 4, 2) := dk_54 4 (dk_at dksX5_gap_1 13 rfl rfl)
theorem dX5_gap_39 : decode cX5_gap 39 = .ok (.iload 4, 2) := dk_21 4 (dk_at dksX5_gap_1 15 rfl rfl)
theorem dX5_gap_41 : decode cX5_gap 41 = .ok (.aload_n 0, 1) := dk_42 (dk_at dksX5_gap_1 17 rfl rfl)
theorem dX5_gap_42 : decode cX5_gap 42 = .ok (.getfield 202, 3) := dk_180 0 202 (dk_at dksX5_gap_1 18 rfl rfl)
theorem dX5_gap_45 : decode cX5_gap 45 = .ok (.if_icmp .ge 19, 3) := dk_162 0 19 (dk_at dksX5_gap_1 21 rfl rfl)
theorem dX5_gap_48 : decode cX5_gap 48 = .ok (.iload_n 3, 1) := dk_29 (dk_at dksX5_gap_2 0 rfl rfl)
theorem dX5_gap_49 : decode cX5_gap 49 = .ok (.aload_n 0, 1) := dk_42 (dk_at dksX5_gap_2 1 rfl rfl)
theorem dX5_gap_50 : decode cX5_gap 50 = .ok (.getfield 48, 3) := dk_180 0 48 (dk_at dksX5_gap_2 2 rfl rfl)
theorem dX5_gap_53 : decode cX5_gap 53 = .ok (.iload 4, 2) := dk_21 4 (dk_at dksX5_gap_2 5 rfl rfl)
theorem dX5_gap_55 : decode cX5_gap 55 = .ok (.iaload, 1) := dk_46 (dk_at dksX5_gap_2 7 rfl rfl)
theorem dX5_gap_56 : decode cX5_gap 56 = .ok (.iadd, 1) := dk_96 (dk_at dksX5_gap_2 8 rfl rfl)
theorem dX5_gap_57 : decode cX5_gap 57 = .ok (.istore_n 3, 1) := dk_62 (dk_at dksX5_gap_2 9 rfl rfl)
theorem dX5_gap_58 : decode cX5_gap 58 = .ok (.iinc 4 1, 3) := dk_132 4 1 (dk_at dksX5_gap_2 10 rfl rfl)
theorem dX5_gap_61 : decode cX5_gap 61 = .ok (.goto (-22), 3) := dk_167 255 234 (dk_at dksX5_gap_2 13 rfl rfl)
theorem dX5_gap_64 : decode cX5_gap 64 = .ok (.iload_n 1, 1) := dk_27 (dk_at dksX5_gap_2 16 rfl rfl)
theorem dX5_gap_65 : decode cX5_gap 65 = .ok (.iload_n 3, 1) := dk_29 (dk_at dksX5_gap_2 17 rfl rfl)
theorem dX5_gap_66 : decode cX5_gap 66 = .ok (.iconst 1, 1) := dk_4 (dk_at dksX5_gap_2 18 rfl rfl)
theorem dX5_gap_67 : decode cX5_gap 67 = .ok (.iadd, 1) := dk_96 (dk_at dksX5_gap_2 19 rfl rfl)
theorem dX5_gap_68 : decode cX5_gap 68 = .ok (.aload_n 0, 1) := dk_42 (dk_at dksX5_gap_2 20 rfl rfl)
theorem dX5_gap_69 : decode cX5_gap 69 = .ok (.getfield 199, 3) := dk_180 0 199 (dk_at dksX5_gap_2 21 rfl rfl)
theorem dX5_gap_72 : decode cX5_gap 72 = .ok (.isub, 1) := dk_100 (dk_at dksX5_gap_3 0 rfl rfl)
theorem dX5_gap_73 : decode cX5_gap 73 = .ok (.invokestatic 471, 3) := dk_184 1 215 (dk_at dksX5_gap_3 1 rfl rfl)
theorem dX5_gap_76 : decode cX5_gap 76 = .ok (.iadd, 1) := dk_96 (dk_at dksX5_gap_3 4 rfl rfl)
theorem dX5_gap_77 : decode cX5_gap 77 = .ok (.istore_n 1, 1) := dk_60 (dk_at dksX5_gap_3 5 rfl rfl)
theorem dX5_gap_78 : decode cX5_gap 78 = .ok (.iconst 0, 1) := dk_3 (dk_at dksX5_gap_3 6 rfl rfl)
theorem dX5_gap_79 : decode cX5_gap 79 = .ok (.istore 4, 2) := dk_54 4 (dk_at dksX5_gap_3 7 rfl rfl)
theorem dX5_gap_81 : decode cX5_gap 81 = .ok (.iload 4, 2) := dk_21 4 (dk_at dksX5_gap_3 9 rfl rfl)
theorem dX5_gap_83 : decode cX5_gap 83 = .ok (.aload_n 0, 1) := dk_42 (dk_at dksX5_gap_3 11 rfl rfl)
theorem dX5_gap_84 : decode cX5_gap 84 = .ok (.getfield 199, 3) := dk_180 0 199 (dk_at dksX5_gap_3 12 rfl rfl)
theorem dX5_gap_87 : decode cX5_gap 87 = .ok (.if_icmp .ge 96, 3) := dk_162 0 96 (dk_at dksX5_gap_3 15 rfl rfl)
theorem dX5_gap_90 : decode cX5_gap 90 = .ok (.aload_n 0, 1) := dk_42 (dk_at dksX5_gap_3 18 rfl rfl)
theorem dX5_gap_91 : decode cX5_gap 91 = .ok (.getfield 45, 3) := dk_180 0 45 (dk_at dksX5_gap_3 19 rfl rfl)
theorem dX5_gap_94 : decode cX5_gap 94 = .ok (.iload 4, 2) := dk_21 4 (dk_at dksX5_gap_3 22 rfl rfl)
theorem dX5_gap_96 : decode cX5_gap 96 = .ok (.iaload, 1) := dk_46 (dk_at dksX5_gap_4 0 rfl rfl)
theorem dX5_gap_97 : decode cX5_gap 97 = .ok (.bipush 100, 2) := dk_16 100 (dk_at dksX5_gap_4 1 rfl rfl)
theorem dX5_gap_99 : decode cX5_gap 99 = .ok (.idiv, 1) := dk_108 (dk_at dksX5_gap_4 3 rfl rfl)
theorem dX5_gap_100 : decode cX5_gap 100 = .ok (.istore 5, 2) := dk_54 5 (dk_at dksX5_gap_4 4 rfl rfl)
theorem dX5_gap_102 : decode cX5_gap 102 = .ok (.aload_n 0, 1) := dk_42 (dk_at dksX5_gap_4 6 rfl rfl)
theorem dX5_gap_103 : decode cX5_gap 103 = .ok (.getfield 45, 3) := dk_180 0 45 (dk_at dksX5_gap_4 7 rfl rfl)
theorem dX5_gap_106 : decode cX5_gap 106 = .ok (.iload 4, 2) := dk_21 4 (dk_at dksX5_gap_4 10 rfl rfl)
theorem dX5_gap_108 : decode cX5_gap 108 = .ok (.iaload, 1) := dk_46 (dk_at dksX5_gap_4 12 rfl rfl)
theorem dX5_gap_109 : decode cX5_gap 109 = .ok (.bipush 100, 2) := dk_16 100 (dk_at dksX5_gap_4 13 rfl rfl)
theorem dX5_gap_111 : decode cX5_gap 111 = .ok (.irem, 1) := dk_112 (dk_at dksX5_gap_4 15 rfl rfl)
theorem dX5_gap_112 : decode cX5_gap 112 = .ok (.istore 6, 2) := dk_54 6 (dk_at dksX5_gap_4 16 rfl rfl)
theorem dX5_gap_114 : decode cX5_gap 114 = .ok (.aload_n 0, 1) := dk_42 (dk_at dksX5_gap_4 18 rfl rfl)
theorem dX5_gap_115 : decode cX5_gap 115 = .ok (.iload 5, 2) := dk_21 5 (dk_at dksX5_gap_4 19 rfl rfl)
theorem dX5_gap_117 : decode cX5_gap 117 = .ok (.iload 6, 2) := dk_21 6 (dk_at dksX5_gap_4 21 rfl rfl)
theorem dX5_gap_119 : decode cX5_gap 119 = .ok (.invokevirtual 154, 3) := dk_182 0 154 (dk_at dksX5_gap_5 0 rfl rfl)
theorem dX5_gap_122 : decode cX5_gap 122 = .ok (.ifCond .ne 6, 3) := dk_154 0 6 (dk_at dksX5_gap_5 3 rfl rfl)
theorem dX5_gap_125 : decode cX5_gap 125 = .ok (.iinc 1 1, 3) := dk_132 1 1 (dk_at dksX5_gap_5 6 rfl rfl)
theorem dX5_gap_128 : decode cX5_gap 128 = .ok (.iload 4, 2) := dk_21 4 (dk_at dksX5_gap_5 9 rfl rfl)
theorem dX5_gap_130 : decode cX5_gap 130 = .ok (.ifCond .le 47, 3) := dk_158 0 47 (dk_at dksX5_gap_5 11 rfl rfl)
theorem dX5_gap_133 : decode cX5_gap 133 = .ok (.iload 5, 2) := dk_21 5 (dk_at dksX5_gap_5 14 rfl rfl)
theorem dX5_gap_135 : decode cX5_gap 135 = .ok (.aload_n 0, 1) := dk_42 (dk_at dksX5_gap_5 16 rfl rfl)
theorem dX5_gap_136 : decode cX5_gap 136 = .ok (.getfield 45, 3) := dk_180 0 45 (dk_at dksX5_gap_5 17 rfl rfl)
theorem dX5_gap_139 : decode cX5_gap 139 = .ok (.iload 4, 2) := dk_21 4 (dk_at dksX5_gap_5 20 rfl rfl)
theorem dX5_gap_141 : decode cX5_gap 141 = .ok (.iconst 1, 1) := dk_4 (dk_at dksX5_gap_5 22 rfl rfl)
theorem dX5_gap_142 : decode cX5_gap 142 = .ok (.isub, 1) := dk_100 (dk_at dksX5_gap_5 23 rfl rfl)
theorem dX5_gap_143 : decode cX5_gap 143 = .ok (.iaload, 1) := dk_46 (dk_at dksX5_gap_6 0 rfl rfl)
theorem dX5_gap_144 : decode cX5_gap 144 = .ok (.bipush 100, 2) := dk_16 100 (dk_at dksX5_gap_6 1 rfl rfl)
theorem dX5_gap_146 : decode cX5_gap 146 = .ok (.idiv, 1) := dk_108 (dk_at dksX5_gap_6 3 rfl rfl)
theorem dX5_gap_147 : decode cX5_gap 147 = .ok (.isub, 1) := dk_100 (dk_at dksX5_gap_6 4 rfl rfl)
theorem dX5_gap_148 : decode cX5_gap 148 = .ok (.invokestatic 471, 3) := dk_184 1 215 (dk_at dksX5_gap_6 5 rfl rfl)
theorem dX5_gap_151 : decode cX5_gap 151 = .ok (.iload 6, 2) := dk_21 6 (dk_at dksX5_gap_6 8 rfl rfl)
theorem dX5_gap_153 : decode cX5_gap 153 = .ok (.aload_n 0, 1) := dk_42 (dk_at dksX5_gap_6 10 rfl rfl)
theorem dX5_gap_154 : decode cX5_gap 154 = .ok (.getfield 45, 3) := dk_180 0 45 (dk_at dksX5_gap_6 11 rfl rfl)
theorem dX5_gap_157 : decode cX5_gap 157 = .ok (.iload 4, 2) := dk_21 4 (dk_at dksX5_gap_6 14 rfl rfl)
theorem dX5_gap_159 : decode cX5_gap 159 = .ok (.iconst 1, 1) := dk_4 (dk_at dksX5_gap_6 16 rfl rfl)
theorem dX5_gap_160 : decode cX5_gap 160 = .ok (.isub, 1) := dk_100 (dk_at dksX5_gap_6 17 rfl rfl)
theorem dX5_gap_161 : decode cX5_gap 161 = .ok (.iaload, 1) := dk_46 (dk_at dksX5_gap_6 18 rfl rfl)
theorem dX5_gap_162 : decode cX5_gap 162 = .ok (.bipush 100, 2) := dk_16 100 (dk_at dksX5_gap_6 19 rfl rfl)
theorem dX5_gap_164 : decode cX5_gap 164 = .ok (.irem, 1) := dk_112 (dk_at dksX5_gap_6 21 rfl rfl)
theorem dX5_gap_165 : decode cX5_gap 165 = .ok (.isub, 1) := dk_100 (dk_at dksX5_gap_6 22 rfl rfl)
theorem dX5_gap_166 : decode cX5_gap 166 = .ok (.invokestatic 471, 3) := dk_184 1 215 (dk_at dksX5_gap_7 0 rfl rfl)
theorem dX5_gap_169 : decode cX5_gap 169 = .ok (.iadd, 1) := dk_96 (dk_at dksX5_gap_7 3 rfl rfl)
theorem dX5_gap_170 : decode cX5_gap 170 = .ok (.iconst 1, 1) := dk_4 (dk_at dksX5_gap_7 4 rfl rfl)
theorem dX5_gap_171 : decode cX5_gap 171 = .ok (.if_icmp .eq 6, 3) := dk_159 0 6 (dk_at dksX5_gap_7 5 rfl rfl)
theorem dX5_gap_174 : decode cX5_gap 174 = .ok (.iinc 1 1, 3) := dk_132 1 1 (dk_at dksX5_gap_7 8 rfl rfl)
theorem dX5_gap_177 : decode cX5_gap 177 = .ok (.iinc 4 1, 3) := dk_132 4 1 (dk_at dksX5_gap_7 11 rfl rfl)
theorem dX5_gap_180 : decode cX5_gap 180 = .ok (.goto (-99), 3) := dk_167 255 157 (dk_at dksX5_gap_7 14 rfl rfl)
theorem dX5_gap_183 : decode cX5_gap 183 = .ok (.iinc 2 1, 3) := dk_132 2 1 (dk_at dksX5_gap_7 17 rfl rfl)
theorem dX5_gap_186 : decode cX5_gap 186 = .ok (.goto (-177), 3) := dk_167 255 79 (dk_at dksX5_gap_7 20 rfl rfl)
theorem dX5_gap_189 : decode cX5_gap 189 = .ok (.iload_n 1, 1) := dk_27 (dk_at dksX5_gap_7 23 rfl rfl)
theorem dX5_gap_190 : decode cX5_gap 190 = .ok (.ireturn, 1) := dk_172 (dk_at dksX5_gap_8 0 rfl rfl)
abbrev cX5_reached : ByteArray := prog_13_method_109_code
def yX5_reached : MethodName := ⟨RX5, "reached", "()D"⟩
def dkwX5_reached_2 : List UInt8 := [175]
abbrev dktX5_reached_2 : List UInt8 := dkwX5_reached_2 ++ []
def dkwX5_reached_1 : List UInt8 := [182, 0, 252, 96, 61, 132, 3, 1, 167, 255, 240, 27, 154, 0, 7, 15, 167, 0, 8, 28, 135, 27, 135, 111]
abbrev dktX5_reached_1 : List UInt8 := dkwX5_reached_1 ++ dktX5_reached_2
def dkwX5_reached_0 : List UInt8 := [42, 3, 181, 0, 106, 42, 2, 4, 182, 0, 236, 60, 3, 61, 3, 62, 29, 7, 162, 0, 17, 28, 42, 29]
abbrev dktX5_reached_0 : List UInt8 := dkwX5_reached_0 ++ dktX5_reached_1
theorem dksX5_reached_0 : cX5_reached.data.toList.drop 0 = dktX5_reached_0 := by decide +kernel
theorem dksX5_reached_1 : cX5_reached.data.toList.drop 24 = dktX5_reached_1 := dk_seg dksX5_reached_0 24 rfl rfl
theorem dksX5_reached_2 : cX5_reached.data.toList.drop 48 = dktX5_reached_2 := dk_seg dksX5_reached_1 24 rfl rfl
theorem dX5_reached_0 : decode cX5_reached 0 = .ok (.aload_n 0, 1) := dk_42 (dk_at dksX5_reached_0 0 rfl rfl)
theorem dX5_reached_1 : decode cX5_reached 1 = .ok (.iconst 0, 1) := dk_3 (dk_at dksX5_reached_0 1 rfl rfl)
theorem dX5_reached_2 : decode cX5_reached 2 = .ok (.putfield 106, 3) := dk_181 0 106 (dk_at dksX5_reached_0 2 rfl rfl)
theorem dX5_reached_5 : decode cX5_reached 5 = .ok (.aload_n 0, 1) := dk_42 (dk_at dksX5_reached_0 5 rfl rfl)
theorem dX5_reached_6 : decode cX5_reached 6 = .ok (.iconst (-1), 1) := dk_2 (dk_at dksX5_reached_0 6 rfl rfl)
theorem dX5_reached_7 : decode cX5_reached 7 = .ok (.iconst 1, 1) := dk_4 (dk_at dksX5_reached_0 7 rfl rfl)
theorem dX5_reached_8 : decode cX5_reached 8 = .ok (.invokevirtual 236, 3) := dk_182 0 236 (dk_at dksX5_reached_0 8 rfl rfl)
theorem dX5_reached_11 : decode cX5_reached 11 = .ok (.istore_n 1, 1) := dk_60 (dk_at dksX5_reached_0 11 rfl rfl)
theorem dX5_reached_12 : decode cX5_reached 12 = .ok (.iconst 0, 1) := dk_3 (dk_at dksX5_reached_0 12 rfl rfl)
theorem dX5_reached_13 : decode cX5_reached 13 = .ok (.istore_n 2, 1) := dk_61 (dk_at dksX5_reached_0 13 rfl rfl)
theorem dX5_reached_14 : decode cX5_reached 14 = .ok (.iconst 0, 1) := dk_3 (dk_at dksX5_reached_0 14 rfl rfl)
theorem dX5_reached_15 : decode cX5_reached 15 = .ok (.istore_n 3, 1) := dk_62 (dk_at dksX5_reached_0 15 rfl rfl)
theorem dX5_reached_16 : decode cX5_reached 16 = .ok (.iload_n 3, 1) := dk_29 (dk_at dksX5_reached_0 16 rfl rfl)
theorem dX5_reached_17 : decode cX5_reached 17 = .ok (.iconst 4, 1) := dk_7 (dk_at dksX5_reached_0 17 rfl rfl)
theorem dX5_reached_18 : decode cX5_reached 18 = .ok (.if_icmp .ge 17, 3) := dk_162 0 17 (dk_at dksX5_reached_0 18 rfl rfl)
theorem dX5_reached_21 : decode cX5_reached 21 = .ok (.iload_n 2, 1) := dk_28 (dk_at dksX5_reached_0 21 rfl rfl)
theorem dX5_reached_22 : decode cX5_reached 22 = .ok (.aload_n 0, 1) := dk_42 (dk_at dksX5_reached_0 22 rfl rfl)
theorem dX5_reached_23 : decode cX5_reached 23 = .ok (.iload_n 3, 1) := dk_29 (dk_at dksX5_reached_0 23 rfl rfl)
theorem dX5_reached_24 : decode cX5_reached 24 = .ok (.invokevirtual 252, 3) := dk_182 0 252 (dk_at dksX5_reached_1 0 rfl rfl)
theorem dX5_reached_27 : decode cX5_reached 27 = .ok (.iadd, 1) := dk_96 (dk_at dksX5_reached_1 3 rfl rfl)
theorem dX5_reached_28 : decode cX5_reached 28 = .ok (.istore_n 2, 1) := dk_61 (dk_at dksX5_reached_1 4 rfl rfl)
theorem dX5_reached_29 : decode cX5_reached 29 = .ok (.iinc 3 1, 3) := dk_132 3 1 (dk_at dksX5_reached_1 5 rfl rfl)
theorem dX5_reached_32 : decode cX5_reached 32 = .ok (.goto (-16), 3) := dk_167 255 240 (dk_at dksX5_reached_1 8 rfl rfl)
theorem dX5_reached_35 : decode cX5_reached 35 = .ok (.iload_n 1, 1) := dk_27 (dk_at dksX5_reached_1 11 rfl rfl)
theorem dX5_reached_36 : decode cX5_reached 36 = .ok (.ifCond .ne 7, 3) := dk_154 0 7 (dk_at dksX5_reached_1 12 rfl rfl)
theorem dX5_reached_39 : decode cX5_reached 39 = .ok (.dconst 1, 1) := dk_15 (dk_at dksX5_reached_1 15 rfl rfl)
theorem dX5_reached_40 : decode cX5_reached 40 = .ok (.goto 8, 3) := dk_167 0 8 (dk_at dksX5_reached_1 16 rfl rfl)
theorem dX5_reached_43 : decode cX5_reached 43 = .ok (.iload_n 2, 1) := dk_28 (dk_at dksX5_reached_1 19 rfl rfl)
theorem dX5_reached_44 : decode cX5_reached 44 = .ok (.i2d, 1) := dk_135 (dk_at dksX5_reached_1 20 rfl rfl)
theorem dX5_reached_45 : decode cX5_reached 45 = .ok (.iload_n 1, 1) := dk_27 (dk_at dksX5_reached_1 21 rfl rfl)
theorem dX5_reached_46 : decode cX5_reached 46 = .ok (.i2d, 1) := dk_135 (dk_at dksX5_reached_1 22 rfl rfl)
theorem dX5_reached_47 : decode cX5_reached 47 = .ok (.ddiv, 1) := dk_111 (dk_at dksX5_reached_1 23 rfl rfl)
theorem dX5_reached_48 : decode cX5_reached 48 = .ok (.dreturn, 1) := dk_175 (dk_at dksX5_reached_2 0 rfl rfl)
abbrev cX5_areSame : ByteArray := prog_13_method_111_code
def yX5_areSame : MethodName := ⟨RX5, "areSame", "(II)Z"⟩
def dkwX5_areSame_2 : List UInt8 := [167, 0, 4, 3, 172]
abbrev dktX5_areSame_2 : List UInt8 := dkwX5_areSame_2 ++ []
def dkwX5_areSame_1 : List UInt8 := [180, 0, 51, 28, 46, 160, 0, 22, 42, 180, 0, 57, 27, 51, 42, 180, 0, 57, 28, 51, 160, 0, 7, 4]
abbrev dktX5_areSame_1 : List UInt8 := dkwX5_areSame_1 ++ dktX5_areSame_2
def dkwX5_areSame_0 : List UInt8 := [42, 180, 0, 48, 27, 46, 42, 180, 0, 48, 28, 46, 160, 0, 37, 42, 180, 0, 51, 27, 46, 42]
abbrev dktX5_areSame_0 : List UInt8 := dkwX5_areSame_0 ++ dktX5_areSame_1
theorem dksX5_areSame_0 : cX5_areSame.data.toList.drop 0 = dktX5_areSame_0 := by decide +kernel
theorem dksX5_areSame_1 : cX5_areSame.data.toList.drop 22 = dktX5_areSame_1 := dk_seg dksX5_areSame_0 22 rfl rfl
theorem dksX5_areSame_2 : cX5_areSame.data.toList.drop 46 = dktX5_areSame_2 := dk_seg dksX5_areSame_1 24 rfl rfl
theorem dX5_areSame_0 : decode cX5_areSame 0 = .ok (.aload_n 0, 1) := dk_42 (dk_at dksX5_areSame_0 0 rfl rfl)
theorem dX5_areSame_1 : decode cX5_areSame 1 = .ok (.getfield 48, 3) := dk_180 0 48 (dk_at dksX5_areSame_0 1 rfl rfl)
theorem dX5_areSame_4 : decode cX5_areSame 4 = .ok (.iload_n 1, 1) := dk_27 (dk_at dksX5_areSame_0 4 rfl rfl)
theorem dX5_areSame_5 : decode cX5_areSame 5 = .ok (.iaload, 1) := dk_46 (dk_at dksX5_areSame_0 5 rfl rfl)
theorem dX5_areSame_6 : decode cX5_areSame 6 = .ok (.aload_n 0, 1) := dk_42 (dk_at dksX5_areSame_0 6 rfl rfl)
theorem dX5_areSame_7 : decode cX5_areSame 7 = .ok (.getfield 48, 3) := dk_180 0 48 (dk_at dksX5_areSame_0 7 rfl rfl)
theorem dX5_areSame_10 : decode cX5_areSame 10 = .ok (.iload_n 2, 1) := dk_28 (dk_at dksX5_areSame_0 10 rfl rfl)
theorem dX5_areSame_11 : decode cX5_areSame 11 = .ok (.iaload, 1) := dk_46 (dk_at dksX5_areSame_0 11 rfl rfl)
theorem dX5_areSame_12 : decode cX5_areSame 12 = .ok (.if_icmp .ne 37, 3) := dk_160 0 37 (dk_at dksX5_areSame_0 12 rfl rfl)
theorem dX5_areSame_15 : decode cX5_areSame 15 = .ok (.aload_n 0, 1) := dk_42 (dk_at dksX5_areSame_0 15 rfl rfl)
theorem dX5_areSame_16 : decode cX5_areSame 16 = .ok (.getfield 51, 3) := dk_180 0 51 (dk_at dksX5_areSame_0 16 rfl rfl)
theorem dX5_areSame_19 : decode cX5_areSame 19 = .ok (.iload_n 1, 1) := dk_27 (dk_at dksX5_areSame_0 19 rfl rfl)
theorem dX5_areSame_20 : decode cX5_areSame 20 = .ok (.iaload, 1) := dk_46 (dk_at dksX5_areSame_0 20 rfl rfl)
theorem dX5_areSame_21 : decode cX5_areSame 21 = .ok (.aload_n 0, 1) := dk_42 (dk_at dksX5_areSame_0 21 rfl rfl)
theorem dX5_areSame_22 : decode cX5_areSame 22 = .ok (.getfield 51, 3) := dk_180 0 51 (dk_at dksX5_areSame_1 0 rfl rfl)
theorem dX5_areSame_25 : decode cX5_areSame 25 = .ok (.iload_n 2, 1) := dk_28 (dk_at dksX5_areSame_1 3 rfl rfl)
theorem dX5_areSame_26 : decode cX5_areSame 26 = .ok (.iaload, 1) := dk_46 (dk_at dksX5_areSame_1 4 rfl rfl)
theorem dX5_areSame_27 : decode cX5_areSame 27 = .ok (.if_icmp .ne 22, 3) := dk_160 0 22 (dk_at dksX5_areSame_1 5 rfl rfl)
theorem dX5_areSame_30 : decode cX5_areSame 30 = .ok (.aload_n 0, 1) := dk_42 (dk_at dksX5_areSame_1 8 rfl rfl)
theorem dX5_areSame_31 : decode cX5_areSame 31 = .ok (.getfield 57, 3) := dk_180 0 57 (dk_at dksX5_areSame_1 9 rfl rfl)
theorem dX5_areSame_34 : decode cX5_areSame 34 = .ok (.iload_n 1, 1) := dk_27 (dk_at dksX5_areSame_1 12 rfl rfl)
theorem dX5_areSame_35 : decode cX5_areSame 35 = .ok (.baload, 1) := dk_51 (dk_at dksX5_areSame_1 13 rfl rfl)
theorem dX5_areSame_36 : decode cX5_areSame 36 = .ok (.aload_n 0, 1) := dk_42 (dk_at dksX5_areSame_1 14 rfl rfl)
theorem dX5_areSame_37 : decode cX5_areSame 37 = .ok (.getfield 57, 3) := dk_180 0 57 (dk_at dksX5_areSame_1 15 rfl rfl)
theorem dX5_areSame_40 : decode cX5_areSame 40 = .ok (.iload_n 2, 1) := dk_28 (dk_at dksX5_areSame_1 18 rfl rfl)
theorem dX5_areSame_41 : decode cX5_areSame 41 = .ok (.baload, 1) := dk_51 (dk_at dksX5_areSame_1 19 rfl rfl)
theorem dX5_areSame_42 : decode cX5_areSame 42 = .ok (.if_icmp .ne 7, 3) := dk_160 0 7 (dk_at dksX5_areSame_1 20 rfl rfl)
theorem dX5_areSame_45 : decode cX5_areSame 45 = .ok (.iconst 1, 1) := dk_4 (dk_at dksX5_areSame_1 23 rfl rfl)
theorem dX5_areSame_46 : decode cX5_areSame 46 = .ok (.goto 4, 3) := dk_167 0 4 (dk_at dksX5_areSame_2 0 rfl rfl)
theorem dX5_areSame_49 : decode cX5_areSame 49 = .ok (.iconst 0, 1) := dk_3 (dk_at dksX5_areSame_2 3 rfl rfl)
theorem dX5_areSame_50 : decode cX5_areSame 50 = .ok (.ireturn, 1) := dk_172 (dk_at dksX5_areSame_2 4 rfl rfl)
abbrev cX5_repeats : ByteArray := prog_13_method_113_code
def yX5_repeats : MethodName := ⟨RX5, "repeats", "(II)I"⟩
def dkwX5_repeats_2 : List UInt8 := [154, 0, 5, 29, 172, 132, 4, 1, 167, 255, 226, 132, 3, 1, 167, 255, 197, 29, 172]
abbrev dktX5_repeats_2 : List UInt8 := dkwX5_repeats_2 ++ []
def dkwX5_repeats_1 : List UInt8 := [54, 4, 21, 4, 28, 162, 0, 30, 42, 27, 21, 4, 96, 27, 29, 28, 104, 96, 21, 4, 96, 182, 1, 232]
abbrev dktX5_repeats_1 : List UInt8 := dkwX5_repeats_1 ++ dktX5_repeats_2
def dkwX5_repeats_0 : List UInt8 := [4, 62, 29, 16, 9, 162, 0, 59, 27, 29, 4, 96, 28, 104, 96, 42, 180, 0, 202, 163, 0, 45, 3]
abbrev dktX5_repeats_0 : List UInt8 := dkwX5_repeats_0 ++ dktX5_repeats_1
theorem dksX5_repeats_0 : cX5_repeats.data.toList.drop 0 = dktX5_repeats_0 := by decide +kernel
theorem dksX5_repeats_1 : cX5_repeats.data.toList.drop 23 = dktX5_repeats_1 := dk_seg dksX5_repeats_0 23 rfl rfl
theorem dksX5_repeats_2 : cX5_repeats.data.toList.drop 47 = dktX5_repeats_2 := dk_seg dksX5_repeats_1 24 rfl rfl
theorem dX5_repeats_0 : decode cX5_repeats 0 = .ok (.iconst 1, 1) := dk_4 (dk_at dksX5_repeats_0 0 rfl rfl)
theorem dX5_repeats_1 : decode cX5_repeats 1 = .ok (.istore_n 3, 1) := dk_62 (dk_at dksX5_repeats_0 1 rfl rfl)
theorem dX5_repeats_2 : decode cX5_repeats 2 = .ok (.iload_n 3, 1) := dk_29 (dk_at dksX5_repeats_0 2 rfl rfl)
theorem dX5_repeats_3 : decode cX5_repeats 3 = .ok (.bipush 9, 2) := dk_16 9 (dk_at dksX5_repeats_0 3 rfl rfl)
theorem dX5_repeats_5 : decode cX5_repeats 5 = .ok (.if_icmp .ge 59, 3) := dk_162 0 59 (dk_at dksX5_repeats_0 5 rfl rfl)
theorem dX5_repeats_8 : decode cX5_repeats 8 = .ok (.iload_n 1, 1) := dk_27 (dk_at dksX5_repeats_0 8 rfl rfl)
theorem dX5_repeats_9 : decode cX5_repeats 9 = .ok (.iload_n 3, 1) := dk_29 (dk_at dksX5_repeats_0 9 rfl rfl)
theorem dX5_repeats_10 : decode cX5_repeats 10 = .ok (.iconst 1, 1) := dk_4 (dk_at dksX5_repeats_0 10 rfl rfl)
theorem dX5_repeats_11 : decode cX5_repeats 11 = .ok (.iadd, 1) := dk_96 (dk_at dksX5_repeats_0 11 rfl rfl)
theorem dX5_repeats_12 : decode cX5_repeats 12 = .ok (.iload_n 2, 1) := dk_28 (dk_at dksX5_repeats_0 12 rfl rfl)
theorem dX5_repeats_13 : decode cX5_repeats 13 = .ok (.imul, 1) := dk_104 (dk_at dksX5_repeats_0 13 rfl rfl)
theorem dX5_repeats_14 : decode cX5_repeats 14 = .ok (.iadd, 1) := dk_96 (dk_at dksX5_repeats_0 14 rfl rfl)
theorem dX5_repeats_15 : decode cX5_repeats 15 = .ok (.aload_n 0, 1) := dk_42 (dk_at dksX5_repeats_0 15 rfl rfl)
theorem dX5_repeats_16 : decode cX5_repeats 16 = .ok (.getfield 202, 3) := dk_180 0 202 (dk_at dksX5_repeats_0 16 rfl rfl)
theorem dX5_repeats_19 : decode cX5_repeats 19 = .ok (.if_icmp .gt 45, 3) := dk_163 0 45 (dk_at dksX5_repeats_0 19 rfl rfl)
theorem dX5_repeats_22 : decode cX5_repeats 22 = .ok (.iconst 0, 1) := dk_3 (dk_at dksX5_repeats_0 22 rfl rfl)
theorem dX5_repeats_23 : decode cX5_repeats 23 = .ok (.istore 4, 2) := dk_54 4 (dk_at dksX5_repeats_1 0 rfl rfl)
theorem dX5_repeats_25 : decode cX5_repeats 25 = .ok (.iload 4, 2) := dk_21 4 (dk_at dksX5_repeats_1 2 rfl rfl)
theorem dX5_repeats_27 : decode cX5_repeats 27 = .ok (.iload_n 2, 1) := dk_28 (dk_at dksX5_repeats_1 4 rfl rfl)
theorem dX5_repeats_28 : decode cX5_repeats 28 = .ok (.if_icmp .ge 30, 3) := dk_162 0 30 (dk_at dksX5_repeats_1 5 rfl rfl)
theorem dX5_repeats_31 : decode cX5_repeats 31 = .ok (.aload_n 0, 1) := dk_42 (dk_at dksX5_repeats_1 8 rfl rfl)
theorem dX5_repeats_32 : decode cX5_repeats 32 = .ok (.iload_n 1, 1) := dk_27 (dk_at dksX5_repeats_1 9 rfl rfl)
theorem dX5_repeats_33 : decode cX5_repeats 33 = .ok (.iload 4, 2) := dk_21 4 (dk_at dksX5_repeats_1 10 rfl rfl)
theorem dX5_repeats_35 : decode cX5_repeats 35 = .ok (.iadd, 1) := dk_96 (dk_at dksX5_repeats_1 12 rfl rfl)
theorem dX5_repeats_36 : decode cX5_repeats 36 = .ok (.iload_n 1, 1) := dk_27 (dk_at dksX5_repeats_1 13 rfl rfl)
theorem dX5_repeats_37 : decode cX5_repeats 37 = .ok (.iload_n 3, 1) := dk_29 (dk_at dksX5_repeats_1 14 rfl rfl)
theorem dX5_repeats_38 : decode cX5_repeats 38 = .ok (.iload_n 2, 1) := dk_28 (dk_at dksX5_repeats_1 15 rfl rfl)
theorem dX5_repeats_39 : decode cX5_repeats 39 = .ok (.imul, 1) := dk_104 (dk_at dksX5_repeats_1 16 rfl rfl)
theorem dX5_repeats_40 : decode cX5_repeats 40 = .ok (.iadd, 1) := dk_96 (dk_at dksX5_repeats_1 17 rfl rfl)
theorem dX5_repeats_41 : decode cX5_repeats 41 = .ok (.iload 4, 2) := dk_21 4 (dk_at dksX5_repeats_1 18 rfl rfl)
theorem dX5_repeats_43 : decode cX5_repeats 43 = .ok (.iadd, 1) := dk_96 (dk_at dksX5_repeats_1 20 rfl rfl)
theorem dX5_repeats_44 : decode cX5_repeats 44 = .ok (.invokevirtual 488, 3) := dk_182 1 232 (dk_at dksX5_repeats_1 21 rfl rfl)
theorem dX5_repeats_47 : decode cX5_repeats 47 = .ok (.ifCond .ne 5, 3) := dk_154 0 5 (dk_at dksX5_repeats_2 0 rfl rfl)
theorem dX5_repeats_50 : decode cX5_repeats 50 = .ok (.iload_n 3, 1) := dk_29 (dk_at dksX5_repeats_2 3 rfl rfl)
theorem dX5_repeats_51 : decode cX5_repeats 51 = .ok (.ireturn, 1) := dk_172 (dk_at dksX5_repeats_2 4 rfl rfl)
theorem dX5_repeats_52 : decode cX5_repeats 52 = .ok (.iinc 4 1, 3) := dk_132 4 1 (dk_at dksX5_repeats_2 5 rfl rfl)
theorem dX5_repeats_55 : decode cX5_repeats 55 = .ok (.goto (-30), 3) := dk_167 255 226 (dk_at dksX5_repeats_2 8 rfl rfl)
theorem dX5_repeats_58 : decode cX5_repeats 58 = .ok (.iinc 3 1, 3) := dk_132 3 1 (dk_at dksX5_repeats_2 11 rfl rfl)
theorem dX5_repeats_61 : decode cX5_repeats 61 = .ok (.goto (-59), 3) := dk_167 255 197 (dk_at dksX5_repeats_2 14 rfl rfl)
theorem dX5_repeats_64 : decode cX5_repeats 64 = .ok (.iload_n 3, 1) := dk_29 (dk_at dksX5_repeats_2 17 rfl rfl)
theorem dX5_repeats_65 : decode cX5_repeats 65 = .ok (.ireturn, 1) := dk_172 (dk_at dksX5_repeats_2 18 rfl rfl)
abbrev cX5_out : ByteArray := prog_13_method_110_code
def yX5_out : MethodName := ⟨RX5, "out", "(I)V"⟩
def dkwX5_out_0 : List UInt8 := [42, 180, 0, 32, 42, 180, 1, 224, 27, 79, 42, 89, 180, 1, 224, 4, 96, 181, 1, 224, 177]
abbrev dktX5_out_0 : List UInt8 := dkwX5_out_0 ++ []
theorem dksX5_out_0 : cX5_out.data.toList.drop 0 = dktX5_out_0 := by decide +kernel
theorem dX5_out_0 : decode cX5_out 0 = .ok (.aload_n 0, 1) := dk_42 (dk_at dksX5_out_0 0 rfl rfl)
theorem dX5_out_1 : decode cX5_out 1 = .ok (.getfield 32, 3) := dk_180 0 32 (dk_at dksX5_out_0 1 rfl rfl)
theorem dX5_out_4 : decode cX5_out 4 = .ok (.aload_n 0, 1) := dk_42 (dk_at dksX5_out_0 4 rfl rfl)
theorem dX5_out_5 : decode cX5_out 5 = .ok (.getfield 480, 3) := dk_180 1 224 (dk_at dksX5_out_0 5 rfl rfl)
theorem dX5_out_8 : decode cX5_out 8 = .ok (.iload_n 1, 1) := dk_27 (dk_at dksX5_out_0 8 rfl rfl)
theorem dX5_out_9 : decode cX5_out 9 = .ok (.iastore, 1) := dk_79 (dk_at dksX5_out_0 9 rfl rfl)
theorem dX5_out_10 : decode cX5_out 10 = .ok (.aload_n 0, 1) := dk_42 (dk_at dksX5_out_0 10 rfl rfl)
theorem dX5_out_11 : decode cX5_out 11 = .ok (.dup, 1) := dk_89 (dk_at dksX5_out_0 11 rfl rfl)
theorem dX5_out_12 : decode cX5_out 12 = .ok (.getfield 480, 3) := dk_180 1 224 (dk_at dksX5_out_0 12 rfl rfl)
theorem dX5_out_15 : decode cX5_out 15 = .ok (.iconst 1, 1) := dk_4 (dk_at dksX5_out_0 15 rfl rfl)
theorem dX5_out_16 : decode cX5_out 16 = .ok (.iadd, 1) := dk_96 (dk_at dksX5_out_0 16 rfl rfl)
theorem dX5_out_17 : decode cX5_out 17 = .ok (.putfield 480, 3) := dk_181 1 224 (dk_at dksX5_out_0 17 rfl rfl)
theorem dX5_out_20 : decode cX5_out 20 = .ok (.return_, 1) := dk_177 (dk_at dksX5_out_0 20 rfl rfl)
abbrev cX5_outputByte : ByteArray := prog_13_method_117_code
def yX5_outputByte : MethodName := ⟨RX5, "outputByte", "(I)I"⟩
def dkwX5_outputByte_1 : List UInt8 := [46, 167, 0, 4, 2, 172]
abbrev dktX5_outputByte_1 : List UInt8 := dkwX5_outputByte_1 ++ []
def dkwX5_outputByte_0 : List UInt8 := [42, 3, 181, 0, 106, 27, 3, 42, 180, 1, 224, 4, 100, 184, 0, 119, 153, 0, 12, 42, 180, 0, 32, 27]
abbrev dktX5_outputByte_0 : List UInt8 := dkwX5_outputByte_0 ++ dktX5_outputByte_1
theorem dksX5_outputByte_0 : cX5_outputByte.data.toList.drop 0 = dktX5_outputByte_0 := by decide +kernel
theorem dksX5_outputByte_1 : cX5_outputByte.data.toList.drop 24 = dktX5_outputByte_1 := dk_seg dksX5_outputByte_0 24 rfl rfl
theorem dX5_outputByte_0 : decode cX5_outputByte 0 = .ok (.aload_n 0, 1) := dk_42 (dk_at dksX5_outputByte_0 0 rfl rfl)
theorem dX5_outputByte_1 : decode cX5_outputByte 1 = .ok (.iconst 0, 1) := dk_3 (dk_at dksX5_outputByte_0 1 rfl rfl)
theorem dX5_outputByte_2 : decode cX5_outputByte 2 = .ok (.putfield 106, 3) := dk_181 0 106 (dk_at dksX5_outputByte_0 2 rfl rfl)
theorem dX5_outputByte_5 : decode cX5_outputByte 5 = .ok (.iload_n 1, 1) := dk_27 (dk_at dksX5_outputByte_0 5 rfl rfl)
theorem dX5_outputByte_6 : decode cX5_outputByte 6 = .ok (.iconst 0, 1) := dk_3 (dk_at dksX5_outputByte_0 6 rfl rfl)
theorem dX5_outputByte_7 : decode cX5_outputByte 7 = .ok (.aload_n 0, 1) := dk_42 (dk_at dksX5_outputByte_0 7 rfl rfl)
theorem dX5_outputByte_8 : decode cX5_outputByte 8 = .ok (.getfield 480, 3) := dk_180 1 224 (dk_at dksX5_outputByte_0 8 rfl rfl)
theorem dX5_outputByte_11 : decode cX5_outputByte 11 = .ok (.iconst 1, 1) := dk_4 (dk_at dksX5_outputByte_0 11 rfl rfl)
theorem dX5_outputByte_12 : decode cX5_outputByte 12 = .ok (.isub, 1) := dk_100 (dk_at dksX5_outputByte_0 12 rfl rfl)
theorem dX5_outputByte_13 : decode cX5_outputByte 13 = .ok (.invokestatic 119, 3) := dk_184 0 119 (dk_at dksX5_outputByte_0 13 rfl rfl)
theorem dX5_outputByte_16 : decode cX5_outputByte 16 = .ok (.ifCond .eq 12, 3) := dk_153 0 12 (dk_at dksX5_outputByte_0 16 rfl rfl)
theorem dX5_outputByte_19 : decode cX5_outputByte 19 = .ok (.aload_n 0, 1) := dk_42 (dk_at dksX5_outputByte_0 19 rfl rfl)
theorem dX5_outputByte_20 : decode cX5_outputByte 20 = .ok (.getfield 32, 3) := dk_180 0 32 (dk_at dksX5_outputByte_0 20 rfl rfl)
theorem dX5_outputByte_23 : decode cX5_outputByte 23 = .ok (.iload_n 1, 1) := dk_27 (dk_at dksX5_outputByte_0 23 rfl rfl)
theorem dX5_outputByte_24 : decode cX5_outputByte 24 = .ok (.iaload, 1) := dk_46 (dk_at dksX5_outputByte_1 0 rfl rfl)
theorem dX5_outputByte_25 : decode cX5_outputByte 25 = .ok (.goto 4, 3) := dk_167 0 4 (dk_at dksX5_outputByte_1 1 rfl rfl)
theorem dX5_outputByte_28 : decode cX5_outputByte 28 = .ok (.iconst (-1), 1) := dk_2 (dk_at dksX5_outputByte_1 4 rfl rfl)
theorem dX5_outputByte_29 : decode cX5_outputByte 29 = .ok (.ireturn, 1) := dk_172 (dk_at dksX5_outputByte_1 5 rfl rfl)
theorem q146 : (Jvm.Cond.initialized "TrailMarkersModel") ∈ lw_all := lw_g (lw_at lw_m1 9 rfl) rfl
theorem q151 : (Jvm.Cond.initialized "java/lang/System") ∈ lw_all := lw_g (lw_at lw_m1 14 rfl) rfl
theorem q152 : (Jvm.Cond.initialized "java/lang/Math") ∈ lw_all := lw_g (lw_at lw_m1 15 rfl) rfl
theorem q512 : (Jvm.Cond.static ({ cls := "java/lang/Math", name := "min", desc := "(II)I" } : Jvm.MethodName)) ∈ lw_all := lw_g (lw_at lw_m2 135 rfl) rfl
theorem q513 : (Jvm.Cond.code ({ cls := "java/lang/Math", name := "min", desc := "(II)I" } : Jvm.MethodName) prog_32_method_69_code (2 : Nat) (Option.some Jvm.ClassFile.FieldType.int)) ∈ lw_all := lw_g (lw_at lw_m2 136 rfl) rfl
theorem q565 : (Jvm.Cond.static ({ cls := "java/lang/Math", name := "max", desc := "(II)I" } : Jvm.MethodName)) ∈ lw_all := lw_g (lw_at lw_m2 188 rfl) rfl
theorem q566 : (Jvm.Cond.code ({ cls := "java/lang/Math", name := "max", desc := "(II)I" } : Jvm.MethodName) prog_32_method_65_code (2 : Nat) (Option.some Jvm.ClassFile.FieldType.int)) ∈ lw_all := lw_g (lw_at lw_m2 189 rfl) rfl
theorem q584 : (Jvm.Cond.static ({ cls := "java/lang/System", name := "arraycopy", desc := "(Ljava/lang/Object;ILjava/lang/Object;II)V" } : Jvm.MethodName)) ∈ lw_all := lw_g (lw_at lw_m2 207 rfl) rfl
theorem q585 : (Jvm.Cond.native ({ cls := "java/lang/System", name := "arraycopy", desc := "(Ljava/lang/Object;ILjava/lang/Object;II)V" } : Jvm.MethodName)) ∈ lw_all := lw_g (lw_at lw_m2 208 rfl) rfl
theorem q1354 : (Jvm.Cond.static ({ cls := "java/lang/Math", name := "abs", desc := "(I)I" } : Jvm.MethodName)) ∈ lw_all := lw_g (lw_at lw_m6 17 rfl) rfl
theorem q1355 : (Jvm.Cond.code ({ cls := "java/lang/Math", name := "abs", desc := "(I)I" } : Jvm.MethodName) prog_32_method_59_code (1 : Nat) (Option.some Jvm.ClassFile.FieldType.int)) ∈ lw_all := lw_g (lw_at lw_m6 18 rfl) rfl
theorem q3042 : (Jvm.Cond.methodLink "TrailMarkersModel" (115 : Nat) ({ cls := "TrailMarkersModel", name := "copy", desc := "([II[II)V" } : Jvm.MethodName)) ∈ lw_all := lw_g (lw_at lw_m13 25 rfl) rfl
theorem q3043 : (Jvm.Cond.static ({ cls := "TrailMarkersModel", name := "copy", desc := "([II[II)V" } : Jvm.MethodName)) ∈ lw_all := lw_g (lw_at lw_m13 26 rfl) rfl
theorem q3044 : (Jvm.Cond.code ({ cls := "TrailMarkersModel", name := "copy", desc := "([II[II)V" } : Jvm.MethodName) prog_13_method_6_code (4 : Nat) (Option.none : Option Jvm.ClassFile.FieldType)) ∈ lw_all := lw_g (lw_at lw_m13 27 rfl) rfl
theorem q3045 : (Jvm.Cond.methodLink "TrailMarkersModel" (109 : Nat) ({ cls := "java/lang/System", name := "arraycopy", desc := "(Ljava/lang/Object;ILjava/lang/Object;II)V" } : Jvm.MethodName)) ∈ lw_all := lw_g (lw_at lw_m13 28 rfl) rfl
theorem q3046 : (Jvm.Cond.methodLink "TrailMarkersModel" (295 : Nat) ({ cls := "TrailMarkersModel", name := "next", desc := "()V" } : Jvm.MethodName)) ∈ lw_all := lw_g (lw_at lw_m13 29 rfl) rfl
theorem q3048 : (Jvm.Cond.instanceMethod ({ cls := "TrailMarkersModel", name := "next", desc := "()V" } : Jvm.MethodName)) ∈ lw_all := lw_g (lw_at lw_m13 31 rfl) rfl
theorem q3049 : (Jvm.Cond.code ({ cls := "TrailMarkersModel", name := "next", desc := "()V" } : Jvm.MethodName) prog_13_method_40_code (1 : Nat) (Option.none : Option Jvm.ClassFile.FieldType)) ∈ lw_all := lw_g (lw_at lw_m13 32 rfl) rfl
theorem q3050 : (Jvm.Cond.methodLink "TrailMarkersModel" (271 : Nat) ({ cls := "TrailMarkersModel", name := "isLetter", desc := "(I)Z" } : Jvm.MethodName)) ∈ lw_all := lw_g (lw_at lw_m13 33 rfl) rfl
theorem q3052 : (Jvm.Cond.instanceMethod ({ cls := "TrailMarkersModel", name := "isLetter", desc := "(I)Z" } : Jvm.MethodName)) ∈ lw_all := lw_g (lw_at lw_m13 35 rfl) rfl
theorem q3053 : (Jvm.Cond.code ({ cls := "TrailMarkersModel", name := "isLetter", desc := "(I)Z" } : Jvm.MethodName) prog_13_method_38_code (2 : Nat) (Option.some Jvm.ClassFile.FieldType.boolean)) ∈ lw_all := lw_g (lw_at lw_m13 36 rfl) rfl
theorem q3054 : (Jvm.Cond.methodLink "TrailMarkersModel" (119 : Nat) ({ cls := "TrailMarkersModel", name := "isIn", desc := "(III)Z" } : Jvm.MethodName)) ∈ lw_all := lw_g (lw_at lw_m13 37 rfl) rfl
theorem q3055 : (Jvm.Cond.static ({ cls := "TrailMarkersModel", name := "isIn", desc := "(III)Z" } : Jvm.MethodName)) ∈ lw_all := lw_g (lw_at lw_m13 38 rfl) rfl
theorem q3056 : (Jvm.Cond.code ({ cls := "TrailMarkersModel", name := "isIn", desc := "(III)Z" } : Jvm.MethodName) prog_13_method_5_code (3 : Nat) (Option.some Jvm.ClassFile.FieldType.boolean)) ∈ lw_all := lw_g (lw_at lw_m13 39 rfl) rfl
theorem q3057 : (Jvm.Cond.methodLink "TrailMarkersModel" (274 : Nat) ({ cls := "TrailMarkersModel", name := "isDigit", desc := "(I)Z" } : Jvm.MethodName)) ∈ lw_all := lw_g (lw_at lw_m13 40 rfl) rfl
theorem q3059 : (Jvm.Cond.instanceMethod ({ cls := "TrailMarkersModel", name := "isDigit", desc := "(I)Z" } : Jvm.MethodName)) ∈ lw_all := lw_g (lw_at lw_m13 42 rfl) rfl
theorem q3060 : (Jvm.Cond.code ({ cls := "TrailMarkersModel", name := "isDigit", desc := "(I)Z" } : Jvm.MethodName) prog_13_method_39_code (2 : Nat) (Option.some Jvm.ClassFile.FieldType.boolean)) ∈ lw_all := lw_g (lw_at lw_m13 43 rfl) rfl
theorem q3061 : (Jvm.Cond.constant "TrailMarkersModel" (280 : Nat) (100000 : Int32)) ∈ lw_all := lw_g (lw_at lw_m13 44 rfl) rfl
theorem q3062 : (Jvm.Cond.methodLink "TrailMarkersModel" (281 : Nat) ({ cls := "java/lang/Math", name := "min", desc := "(II)I" } : Jvm.MethodName)) ∈ lw_all := lw_g (lw_at lw_m13 45 rfl) rfl
theorem q3068 : (Jvm.Cond.methodLink "TrailMarkersModel" (297 : Nat) ({ cls := "TrailMarkersModel", name := "wrong", desc := "(ZI)V" } : Jvm.MethodName)) ∈ lw_all := lw_g (lw_at lw_m13 51 rfl) rfl
theorem q3070 : (Jvm.Cond.instanceMethod ({ cls := "TrailMarkersModel", name := "wrong", desc := "(ZI)V" } : Jvm.MethodName)) ∈ lw_all := lw_g (lw_at lw_m13 53 rfl) rfl
theorem q3071 : (Jvm.Cond.code ({ cls := "TrailMarkersModel", name := "wrong", desc := "(ZI)V" } : Jvm.MethodName) prog_13_method_43_code (3 : Nat) (Option.none : Option Jvm.ClassFile.FieldType)) ∈ lw_all := lw_g (lw_at lw_m13 54 rfl) rfl
theorem q3072 : (Jvm.Cond.methodLink "TrailMarkersModel" (284 : Nat) ({ cls := "TrailMarkersModel", name := "refused", desc := "(ZIII)V" } : Jvm.MethodName)) ∈ lw_all := lw_g (lw_at lw_m13 55 rfl) rfl
theorem q3074 : (Jvm.Cond.instanceMethod ({ cls := "TrailMarkersModel", name := "refused", desc := "(ZIII)V" } : Jvm.MethodName)) ∈ lw_all := lw_g (lw_at lw_m13 57 rfl) rfl
theorem q3075 : (Jvm.Cond.code ({ cls := "TrailMarkersModel", name := "refused", desc := "(ZIII)V" } : Jvm.MethodName) prog_13_method_44_code (5 : Nat) (Option.none : Option Jvm.ClassFile.FieldType)) ∈ lw_all := lw_g (lw_at lw_m13 58 rfl) rfl
theorem q3076 : (Jvm.Cond.methodLink "TrailMarkersModel" (304 : Nat) ({ cls := "TrailMarkersModel", name := "go", desc := "()V" } : Jvm.MethodName)) ∈ lw_all := lw_g (lw_at lw_m13 59 rfl) rfl
theorem q3078 : (Jvm.Cond.instanceMethod ({ cls := "TrailMarkersModel", name := "go", desc := "()V" } : Jvm.MethodName)) ∈ lw_all := lw_g (lw_at lw_m13 61 rfl) rfl
theorem q3079 : (Jvm.Cond.code ({ cls := "TrailMarkersModel", name := "go", desc := "()V" } : Jvm.MethodName) prog_13_method_45_code (1 : Nat) (Option.none : Option Jvm.ClassFile.FieldType)) ∈ lw_all := lw_g (lw_at lw_m13 62 rfl) rfl
theorem q3080 : (Jvm.Cond.methodLink "TrailMarkersModel" (338 : Nat) ({ cls := "TrailMarkersModel", name := "number", desc := "(II)I" } : Jvm.MethodName)) ∈ lw_all := lw_g (lw_at lw_m13 63 rfl) rfl
theorem q3082 : (Jvm.Cond.instanceMethod ({ cls := "TrailMarkersModel", name := "number", desc := "(II)I" } : Jvm.MethodName)) ∈ lw_all := lw_g (lw_at lw_m13 65 rfl) rfl
theorem q3083 : (Jvm.Cond.code ({ cls := "TrailMarkersModel", name := "number", desc := "(II)I" } : Jvm.MethodName) prog_13_method_47_code (4 : Nat) (Option.some Jvm.ClassFile.FieldType.int)) ∈ lw_all := lw_g (lw_at lw_m13 66 rfl) rfl
theorem q3084 : (Jvm.Cond.methodLink "TrailMarkersModel" (301 : Nat) ({ cls := "TrailMarkersModel", name := "here", desc := "(II)I" } : Jvm.MethodName)) ∈ lw_all := lw_g (lw_at lw_m13 67 rfl) rfl
theorem q3086 : (Jvm.Cond.instanceMethod ({ cls := "TrailMarkersModel", name := "here", desc := "(II)I" } : Jvm.MethodName)) ∈ lw_all := lw_g (lw_at lw_m13 69 rfl) rfl
theorem q3087 : (Jvm.Cond.code ({ cls := "TrailMarkersModel", name := "here", desc := "(II)I" } : Jvm.MethodName) prog_13_method_46_code (3 : Nat) (Option.some Jvm.ClassFile.FieldType.int)) ∈ lw_all := lw_g (lw_at lw_m13 70 rfl) rfl
theorem q3092 : (Jvm.Cond.methodLink "TrailMarkersModel" (307 : Nat) ({ cls := "TrailMarkersModel", name := "isSign", desc := "(I)Z" } : Jvm.MethodName)) ∈ lw_all := lw_g (lw_at lw_m13 75 rfl) rfl
theorem q3094 : (Jvm.Cond.instanceMethod ({ cls := "TrailMarkersModel", name := "isSign", desc := "(I)Z" } : Jvm.MethodName)) ∈ lw_all := lw_g (lw_at lw_m13 77 rfl) rfl
theorem q3095 : (Jvm.Cond.code ({ cls := "TrailMarkersModel", name := "isSign", desc := "(I)Z" } : Jvm.MethodName) prog_13_method_42_code (2 : Nat) (Option.some Jvm.ClassFile.FieldType.boolean)) ∈ lw_all := lw_g (lw_at lw_m13 78 rfl) rfl
theorem q3113 : (Jvm.Cond.methodLink "TrailMarkersModel" (317 : Nat) ({ cls := "TrailMarkersModel", name := "whyNoPost", desc := "(II)I" } : Jvm.MethodName)) ∈ lw_all := lw_g (lw_at lw_m13 96 rfl) rfl
theorem q3115 : (Jvm.Cond.instanceMethod ({ cls := "TrailMarkersModel", name := "whyNoPost", desc := "(II)I" } : Jvm.MethodName)) ∈ lw_all := lw_g (lw_at lw_m13 98 rfl) rfl
theorem q3116 : (Jvm.Cond.code ({ cls := "TrailMarkersModel", name := "whyNoPost", desc := "(II)I" } : Jvm.MethodName) prog_13_method_49_code (3 : Nat) (Option.some Jvm.ClassFile.FieldType.int)) ∈ lw_all := lw_g (lw_at lw_m13 99 rfl) rfl
theorem q3117 : (Jvm.Cond.methodLink "TrailMarkersModel" (123 : Nat) ({ cls := "TrailMarkersModel", name := "isOn", desc := "(II)Z" } : Jvm.MethodName)) ∈ lw_all := lw_g (lw_at lw_m13 100 rfl) rfl
theorem q3119 : (Jvm.Cond.instanceMethod ({ cls := "TrailMarkersModel", name := "isOn", desc := "(II)Z" } : Jvm.MethodName)) ∈ lw_all := lw_g (lw_at lw_m13 102 rfl) rfl
theorem q3120 : (Jvm.Cond.code ({ cls := "TrailMarkersModel", name := "isOn", desc := "(II)Z" } : Jvm.MethodName) prog_13_method_12_code (3 : Nat) (Option.some Jvm.ClassFile.FieldType.boolean)) ∈ lw_all := lw_g (lw_at lw_m13 103 rfl) rfl
theorem q3121 : (Jvm.Cond.methodLink "TrailMarkersModel" (127 : Nat) ({ cls := "TrailMarkersModel", name := "isBlock", desc := "(II)Z" } : Jvm.MethodName)) ∈ lw_all := lw_g (lw_at lw_m13 104 rfl) rfl
theorem q3123 : (Jvm.Cond.instanceMethod ({ cls := "TrailMarkersModel", name := "isBlock", desc := "(II)Z" } : Jvm.MethodName)) ∈ lw_all := lw_g (lw_at lw_m13 106 rfl) rfl
theorem q3124 : (Jvm.Cond.code ({ cls := "TrailMarkersModel", name := "isBlock", desc := "(II)Z" } : Jvm.MethodName) prog_13_method_13_code (3 : Nat) (Option.some Jvm.ClassFile.FieldType.boolean)) ∈ lw_all := lw_g (lw_at lw_m13 107 rfl) rfl
theorem q3125 : (Jvm.Cond.methodLink "TrailMarkersModel" (157 : Nat) ({ cls := "TrailMarkersModel", name := "postAt", desc := "(II)I" } : Jvm.MethodName)) ∈ lw_all := lw_g (lw_at lw_m13 108 rfl) rfl
theorem q3127 : (Jvm.Cond.instanceMethod ({ cls := "TrailMarkersModel", name := "postAt", desc := "(II)I" } : Jvm.MethodName)) ∈ lw_all := lw_g (lw_at lw_m13 110 rfl) rfl
theorem q3128 : (Jvm.Cond.code ({ cls := "TrailMarkersModel", name := "postAt", desc := "(II)I" } : Jvm.MethodName) prog_13_method_16_code (4 : Nat) (Option.some Jvm.ClassFile.FieldType.int)) ∈ lw_all := lw_g (lw_at lw_m13 111 rfl) rfl
theorem q3129 : (Jvm.Cond.methodLink "TrailMarkersModel" (130 : Nat) ({ cls := "TrailMarkersModel", name := "of", desc := "(II)I" } : Jvm.MethodName)) ∈ lw_all := lw_g (lw_at lw_m13 112 rfl) rfl
theorem q3131 : (Jvm.Cond.instanceMethod ({ cls := "TrailMarkersModel", name := "of", desc := "(II)I" } : Jvm.MethodName)) ∈ lw_all := lw_g (lw_at lw_m13 114 rfl) rfl
theorem q3132 : (Jvm.Cond.code ({ cls := "TrailMarkersModel", name := "of", desc := "(II)I" } : Jvm.MethodName) prog_13_method_8_code (3 : Nat) (Option.some Jvm.ClassFile.FieldType.int)) ∈ lw_all := lw_g (lw_at lw_m13 115 rfl) rfl
theorem q3133 : (Jvm.Cond.methodLink "TrailMarkersModel" (320 : Nat) ({ cls := "TrailMarkersModel", name := "lay", desc := "(IIII)I" } : Jvm.MethodName)) ∈ lw_all := lw_g (lw_at lw_m13 116 rfl) rfl
theorem q3135 : (Jvm.Cond.instanceMethod ({ cls := "TrailMarkersModel", name := "lay", desc := "(IIII)I" } : Jvm.MethodName)) ∈ lw_all := lw_g (lw_at lw_m13 118 rfl) rfl
theorem q3136 : (Jvm.Cond.code ({ cls := "TrailMarkersModel", name := "lay", desc := "(IIII)I" } : Jvm.MethodName) prog_13_method_50_code (6 : Nat) (Option.some Jvm.ClassFile.FieldType.int)) ∈ lw_all := lw_g (lw_at lw_m13 119 rfl) rfl
theorem q3137 : (Jvm.Cond.methodLink "TrailMarkersModel" (310 : Nat) ({ cls := "TrailMarkersModel", name := "put", desc := "(III)V" } : Jvm.MethodName)) ∈ lw_all := lw_g (lw_at lw_m13 120 rfl) rfl
theorem q3139 : (Jvm.Cond.instanceMethod ({ cls := "TrailMarkersModel", name := "put", desc := "(III)V" } : Jvm.MethodName)) ∈ lw_all := lw_g (lw_at lw_m13 122 rfl) rfl
theorem q3140 : (Jvm.Cond.code ({ cls := "TrailMarkersModel", name := "put", desc := "(III)V" } : Jvm.MethodName) prog_13_method_9_code (4 : Nat) (Option.none : Option Jvm.ClassFile.FieldType)) ∈ lw_all := lw_g (lw_at lw_m13 123 rfl) rfl
theorem q3157 : (Jvm.Cond.methodLink "TrailMarkersModel" (147 : Nat) ({ cls := "TrailMarkersModel", name := "dx", desc := "(I)I" } : Jvm.MethodName)) ∈ lw_all := lw_g (lw_at lw_m13 140 rfl) rfl
theorem q3158 : (Jvm.Cond.static ({ cls := "TrailMarkersModel", name := "dx", desc := "(I)I" } : Jvm.MethodName)) ∈ lw_all := lw_g (lw_at lw_m13 141 rfl) rfl
theorem q3159 : (Jvm.Cond.code ({ cls := "TrailMarkersModel", name := "dx", desc := "(I)I" } : Jvm.MethodName) prog_13_method_17_code (1 : Nat) (Option.some Jvm.ClassFile.FieldType.int)) ∈ lw_all := lw_g (lw_at lw_m13 142 rfl) rfl
theorem q3160 : (Jvm.Cond.methodLink "TrailMarkersModel" (151 : Nat) ({ cls := "TrailMarkersModel", name := "dy", desc := "(I)I" } : Jvm.MethodName)) ∈ lw_all := lw_g (lw_at lw_m13 143 rfl) rfl
theorem q3161 : (Jvm.Cond.static ({ cls := "TrailMarkersModel", name := "dy", desc := "(I)I" } : Jvm.MethodName)) ∈ lw_all := lw_g (lw_at lw_m13 144 rfl) rfl
theorem q3162 : (Jvm.Cond.code ({ cls := "TrailMarkersModel", name := "dy", desc := "(I)I" } : Jvm.MethodName) prog_13_method_18_code (1 : Nat) (Option.some Jvm.ClassFile.FieldType.int)) ∈ lw_all := lw_g (lw_at lw_m13 145 rfl) rfl
theorem q3177 : (Jvm.Cond.methodLink "TrailMarkersModel" (370 : Nat) ({ cls := "TrailMarkersModel", name := "whyNoBlock", desc := "(II)I" } : Jvm.MethodName)) ∈ lw_all := lw_g (lw_at lw_m13 160 rfl) rfl
theorem q3179 : (Jvm.Cond.instanceMethod ({ cls := "TrailMarkersModel", name := "whyNoBlock", desc := "(II)I" } : Jvm.MethodName)) ∈ lw_all := lw_g (lw_at lw_m13 162 rfl) rfl
theorem q3180 : (Jvm.Cond.code ({ cls := "TrailMarkersModel", name := "whyNoBlock", desc := "(II)I" } : Jvm.MethodName) prog_13_method_57_code (3 : Nat) (Option.some Jvm.ClassFile.FieldType.int)) ∈ lw_all := lw_g (lw_at lw_m13 163 rfl) rfl
theorem q3181 : (Jvm.Cond.methodLink "TrailMarkersModel" (373 : Nat) ({ cls := "TrailMarkersModel", name := "block", desc := "(III)V" } : Jvm.MethodName)) ∈ lw_all := lw_g (lw_at lw_m13 164 rfl) rfl
theorem q3183 : (Jvm.Cond.instanceMethod ({ cls := "TrailMarkersModel", name := "block", desc := "(III)V" } : Jvm.MethodName)) ∈ lw_all := lw_g (lw_at lw_m13 166 rfl) rfl
theorem q3184 : (Jvm.Cond.code ({ cls := "TrailMarkersModel", name := "block", desc := "(III)V" } : Jvm.MethodName) prog_13_method_58_code (4 : Nat) (Option.none : Option Jvm.ClassFile.FieldType)) ∈ lw_all := lw_g (lw_at lw_m13 167 rfl) rfl
theorem q3193 : (Jvm.Cond.methodLink "TrailMarkersModel" (402 : Nat) ({ cls := "TrailMarkersModel", name := "remember", desc := "([I)V" } : Jvm.MethodName)) ∈ lw_all := lw_g (lw_at lw_m13 176 rfl) rfl
theorem q3195 : (Jvm.Cond.instanceMethod ({ cls := "TrailMarkersModel", name := "remember", desc := "([I)V" } : Jvm.MethodName)) ∈ lw_all := lw_g (lw_at lw_m13 178 rfl) rfl
theorem q3196 : (Jvm.Cond.code ({ cls := "TrailMarkersModel", name := "remember", desc := "([I)V" } : Jvm.MethodName) prog_13_method_7_code (2 : Nat) (Option.none : Option Jvm.ClassFile.FieldType)) ∈ lw_all := lw_g (lw_at lw_m13 179 rfl) rfl
theorem q3197 : (Jvm.Cond.fieldLink "TrailMarkersModel" (9 : Nat) "TrailMarkersModel" "s" "[I") ∈ lw_all := lw_g (lw_at lw_m13 180 rfl) rfl
theorem q3198 : (Jvm.Cond.fieldLink "TrailMarkersModel" (13 : Nat) "TrailMarkersModel" "aside" "[I") ∈ lw_all := lw_g (lw_at lw_m13 181 rfl) rfl
theorem q3199 : (Jvm.Cond.fieldLink "TrailMarkersModel" (16 : Nat) "TrailMarkersModel" "kept" "[I") ∈ lw_all := lw_g (lw_at lw_m13 182 rfl) rfl
theorem q3200 : (Jvm.Cond.fieldLink "TrailMarkersModel" (19 : Nat) "TrailMarkersModel" "slots" "[I") ∈ lw_all := lw_g (lw_at lw_m13 183 rfl) rfl
theorem q3201 : (Jvm.Cond.fieldLink "TrailMarkersModel" (22 : Nat) "TrailMarkersModel" "before" "[I") ∈ lw_all := lw_g (lw_at lw_m13 184 rfl) rfl
theorem q3202 : (Jvm.Cond.fieldLink "TrailMarkersModel" (25 : Nat) "TrailMarkersModel" "isSaved" "[Z") ∈ lw_all := lw_g (lw_at lw_m13 185 rfl) rfl
theorem q3203 : (Jvm.Cond.fieldLink "TrailMarkersModel" (103 : Nat) "TrailMarkersModel" "changes" "I") ∈ lw_all := lw_g (lw_at lw_m13 186 rfl) rfl
theorem q3204 : (Jvm.Cond.fieldLink "TrailMarkersModel" (106 : Nat) "TrailMarkersModel" "thrown" "I") ∈ lw_all := lw_g (lw_at lw_m13 187 rfl) rfl
theorem q3205 : (Jvm.Cond.fieldLink "TrailMarkersModel" (29 : Nat) "TrailMarkersModel" "input" "[I") ∈ lw_all := lw_g (lw_at lw_m13 188 rfl) rfl
theorem q3206 : (Jvm.Cond.fieldLink "TrailMarkersModel" (32 : Nat) "TrailMarkersModel" "output" "[I") ∈ lw_all := lw_g (lw_at lw_m13 189 rfl) rfl
theorem q3207 : (Jvm.Cond.fieldLink "TrailMarkersModel" (93 : Nat) "TrailMarkersModel" "inputMany" "I") ∈ lw_all := lw_g (lw_at lw_m13 190 rfl) rfl
theorem q3208 : (Jvm.Cond.fieldLink "TrailMarkersModel" (480 : Nat) "TrailMarkersModel" "outputMany" "I") ∈ lw_all := lw_g (lw_at lw_m13 191 rfl) rfl
theorem q3209 : (Jvm.Cond.fieldLink "TrailMarkersModel" (292 : Nat) "TrailMarkersModel" "errorCode" "I") ∈ lw_all := lw_g (lw_at lw_m13 192 rfl) rfl
theorem q3210 : (Jvm.Cond.fieldLink "TrailMarkersModel" (35 : Nat) "TrailMarkersModel" "errorOffset" "I") ∈ lw_all := lw_g (lw_at lw_m13 193 rfl) rfl
theorem q3211 : (Jvm.Cond.fieldLink "TrailMarkersModel" (39 : Nat) "TrailMarkersModel" "errorCause" "I") ∈ lw_all := lw_g (lw_at lw_m13 194 rfl) rfl
theorem q3212 : (Jvm.Cond.fieldLink "TrailMarkersModel" (138 : Nat) "TrailMarkersModel" "far" "I") ∈ lw_all := lw_g (lw_at lw_m13 195 rfl) rfl
theorem q3213 : (Jvm.Cond.fieldLink "TrailMarkersModel" (141 : Nat) "TrailMarkersModel" "metPost" "I") ∈ lw_all := lw_g (lw_at lw_m13 196 rfl) rfl
theorem q3214 : (Jvm.Cond.fieldLink "TrailMarkersModel" (144 : Nat) "TrailMarkersModel" "metSteps" "I") ∈ lw_all := lw_g (lw_at lw_m13 197 rfl) rfl
theorem q3215 : (Jvm.Cond.fieldLink "TrailMarkersModel" (169 : Nat) "TrailMarkersModel" "next" "I") ∈ lw_all := lw_g (lw_at lw_m13 198 rfl) rfl
theorem q3216 : (Jvm.Cond.fieldLink "TrailMarkersModel" (175 : Nat) "TrailMarkersModel" "inferredMany" "I") ∈ lw_all := lw_g (lw_at lw_m13 199 rfl) rfl
theorem q3217 : (Jvm.Cond.fieldLink "TrailMarkersModel" (160 : Nat) "TrailMarkersModel" "k1" "I") ∈ lw_all := lw_g (lw_at lw_m13 200 rfl) rfl
theorem q3218 : (Jvm.Cond.fieldLink "TrailMarkersModel" (178 : Nat) "TrailMarkersModel" "d1" "I") ∈ lw_all := lw_g (lw_at lw_m13 201 rfl) rfl
theorem q3219 : (Jvm.Cond.fieldLink "TrailMarkersModel" (163 : Nat) "TrailMarkersModel" "k2" "I") ∈ lw_all := lw_g (lw_at lw_m13 202 rfl) rfl
theorem q3220 : (Jvm.Cond.fieldLink "TrailMarkersModel" (181 : Nat) "TrailMarkersModel" "d2" "I") ∈ lw_all := lw_g (lw_at lw_m13 203 rfl) rfl
theorem q3221 : (Jvm.Cond.fieldLink "TrailMarkersModel" (166 : Nat) "TrailMarkersModel" "last" "I") ∈ lw_all := lw_g (lw_at lw_m13 204 rfl) rfl
theorem q3222 : (Jvm.Cond.fieldLink "TrailMarkersModel" (42 : Nat) "TrailMarkersModel" "routePosts" "[I") ∈ lw_all := lw_g (lw_at lw_m13 205 rfl) rfl
theorem q3223 : (Jvm.Cond.fieldLink "TrailMarkersModel" (45 : Nat) "TrailMarkersModel" "cells" "[I") ∈ lw_all := lw_g (lw_at lw_m13 206 rfl) rfl
theorem q3224 : (Jvm.Cond.fieldLink "TrailMarkersModel" (48 : Nat) "TrailMarkersModel" "legSteps" "[I") ∈ lw_all := lw_g (lw_at lw_m13 207 rfl) rfl
theorem q3225 : (Jvm.Cond.fieldLink "TrailMarkersModel" (51 : Nat) "TrailMarkersModel" "legSide" "[I") ∈ lw_all := lw_g (lw_at lw_m13 208 rfl) rfl
theorem q3226 : (Jvm.Cond.fieldLink "TrailMarkersModel" (54 : Nat) "TrailMarkersModel" "turnCells" "[I") ∈ lw_all := lw_g (lw_at lw_m13 209 rfl) rfl
theorem q3227 : (Jvm.Cond.fieldLink "TrailMarkersModel" (57 : Nat) "TrailMarkersModel" "legMissing" "[Z") ∈ lw_all := lw_g (lw_at lw_m13 210 rfl) rfl
theorem q3228 : (Jvm.Cond.fieldLink "TrailMarkersModel" (60 : Nat) "TrailMarkersModel" "isMet" "[Z") ∈ lw_all := lw_g (lw_at lw_m13 211 rfl) rfl
theorem q3229 : (Jvm.Cond.fieldLink "TrailMarkersModel" (208 : Nat) "TrailMarkersModel" "postMany" "I") ∈ lw_all := lw_g (lw_at lw_m13 212 rfl) rfl
theorem q3230 : (Jvm.Cond.fieldLink "TrailMarkersModel" (199 : Nat) "TrailMarkersModel" "cellMany" "I") ∈ lw_all := lw_g (lw_at lw_m13 213 rfl) rfl
theorem q3231 : (Jvm.Cond.fieldLink "TrailMarkersModel" (202 : Nat) "TrailMarkersModel" "legMany" "I") ∈ lw_all := lw_g (lw_at lw_m13 214 rfl) rfl
theorem q3232 : (Jvm.Cond.fieldLink "TrailMarkersModel" (205 : Nat) "TrailMarkersModel" "turnMany" "I") ∈ lw_all := lw_g (lw_at lw_m13 215 rfl) rfl
theorem q3233 : (Jvm.Cond.fieldLink "TrailMarkersModel" (214 : Nat) "TrailMarkersModel" "end" "I") ∈ lw_all := lw_g (lw_at lw_m13 216 rfl) rfl
theorem q3234 : (Jvm.Cond.fieldLink "TrailMarkersModel" (217 : Nat) "TrailMarkersModel" "lastPost" "I") ∈ lw_all := lw_g (lw_at lw_m13 217 rfl) rfl
theorem q3235 : (Jvm.Cond.fieldLink "TrailMarkersModel" (211 : Nat) "TrailMarkersModel" "longest" "I") ∈ lw_all := lw_g (lw_at lw_m13 218 rfl) rfl
theorem q3236 : (Jvm.Cond.fieldLink "TrailMarkersModel" (268 : Nat) "TrailMarkersModel" "token" "I") ∈ lw_all := lw_g (lw_at lw_m13 219 rfl) rfl
theorem q3237 : (Jvm.Cond.fieldLink "TrailMarkersModel" (265 : Nat) "TrailMarkersModel" "from" "I") ∈ lw_all := lw_g (lw_at lw_m13 220 rfl) rfl
theorem q3238 : (Jvm.Cond.fieldLink "TrailMarkersModel" (262 : Nat) "TrailMarkersModel" "to" "I") ∈ lw_all := lw_g (lw_at lw_m13 221 rfl) rfl
theorem q3239 : (Jvm.Cond.fieldLink "TrailMarkersModel" (277 : Nat) "TrailMarkersModel" "value" "I") ∈ lw_all := lw_g (lw_at lw_m13 222 rfl) rfl
theorem q3240 : (Jvm.Cond.fieldLink "TrailMarkersModel" (288 : Nat) "TrailMarkersModel" "isWrong" "Z") ∈ lw_all := lw_g (lw_at lw_m13 223 rfl) rfl
theorem q3241 : (Jvm.Cond.fieldLink "TrailMarkersModel" (63 : Nat) "TrailMarkersModel" "madeSteps" "[I") ∈ lw_all := lw_g (lw_at lw_m13 224 rfl) rfl
theorem q3242 : (Jvm.Cond.fieldLink "TrailMarkersModel" (66 : Nat) "TrailMarkersModel" "madeSide" "[I") ∈ lw_all := lw_g (lw_at lw_m13 225 rfl) rfl
theorem q3243 : (Jvm.Cond.fieldLink "TrailMarkersModel" (69 : Nat) "TrailMarkersModel" "madeFrom" "[I") ∈ lw_all := lw_g (lw_at lw_m13 226 rfl) rfl
theorem q3244 : (Jvm.Cond.fieldLink "TrailMarkersModel" (72 : Nat) "TrailMarkersModel" "madeMissing" "[Z") ∈ lw_all := lw_g (lw_at lw_m13 227 rfl) rfl
theorem q3245 : (Jvm.Cond.fieldLink "TrailMarkersModel" (324 : Nat) "TrailMarkersModel" "madeMany" "I") ∈ lw_all := lw_g (lw_at lw_m13 228 rfl) rfl
theorem q3247 : (Jvm.Cond.fieldLink "TrailMarkersModel" (314 : Nat) "TrailMarkersModel" "hand" "I") ∈ lw_all := lw_g (lw_at lw_m13 230 rfl) rfl
theorem q3248 : (Jvm.Cond.fieldLink "TrailMarkersModel" (75 : Nat) "TrailMarkersModel" "isMine" "[Z") ∈ lw_all := lw_g (lw_at lw_m13 231 rfl) rfl
theorem q3249 : (Jvm.Cond.fieldLink "TrailMarkersModel" (78 : Nat) "TrailMarkersModel" "isIts" "[Z") ∈ lw_all := lw_g (lw_at lw_m13 232 rfl) rfl
theorem q3366 : (Jvm.Cond.methodLink "TrailMarkersModel" (255 : Nat) ({ cls := "TrailMarkersModel", name := "four", desc := "(I)V" } : Jvm.MethodName)) ∈ lw_all := lw_g (lw_at lw_m14 109 rfl) rfl
theorem q3368 : (Jvm.Cond.instanceMethod ({ cls := "TrailMarkersModel", name := "four", desc := "(I)V" } : Jvm.MethodName)) ∈ lw_all := lw_g (lw_at lw_m14 111 rfl) rfl
theorem q3369 : (Jvm.Cond.code ({ cls := "TrailMarkersModel", name := "four", desc := "(I)V" } : Jvm.MethodName) prog_13_method_36_code (3 : Nat) (Option.none : Option Jvm.ClassFile.FieldType)) ∈ lw_all := lw_g (lw_at lw_m14 112 rfl) rfl
theorem q3374 : (Jvm.Cond.methodLink "TrailMarkersModel" (258 : Nat) ({ cls := "TrailMarkersModel", name := "fails", desc := "(ZZZ)Z" } : Jvm.MethodName)) ∈ lw_all := lw_g (lw_at lw_m14 117 rfl) rfl
theorem q3376 : (Jvm.Cond.instanceMethod ({ cls := "TrailMarkersModel", name := "fails", desc := "(ZZZ)Z" } : Jvm.MethodName)) ∈ lw_all := lw_g (lw_at lw_m14 119 rfl) rfl
theorem q3377 : (Jvm.Cond.code ({ cls := "TrailMarkersModel", name := "fails", desc := "(ZZZ)Z" } : Jvm.MethodName) prog_13_method_4_code (4 : Nat) (Option.some Jvm.ClassFile.FieldType.boolean)) ∈ lw_all := lw_g (lw_at lw_m14 120 rfl) rfl
theorem q3391 : (Jvm.Cond.methodLink "TrailMarkersModel" (414 : Nat) ({ cls := "TrailMarkersModel", name := "noColour", desc := "(I)Z" } : Jvm.MethodName)) ∈ lw_all := lw_g (lw_at lw_m14 134 rfl) rfl
theorem q3392 : (Jvm.Cond.static ({ cls := "TrailMarkersModel", name := "noColour", desc := "(I)Z" } : Jvm.MethodName)) ∈ lw_all := lw_g (lw_at lw_m14 135 rfl) rfl
theorem q3393 : (Jvm.Cond.code ({ cls := "TrailMarkersModel", name := "noColour", desc := "(I)Z" } : Jvm.MethodName) prog_13_method_11_code (1 : Nat) (Option.some Jvm.ClassFile.FieldType.boolean)) ∈ lw_all := lw_g (lw_at lw_m14 136 rfl) rfl
theorem q3398 : (Jvm.Cond.methodLink "TrailMarkersModel" (417 : Nat) ({ cls := "TrailMarkersModel", name := "noPost", desc := "(I)Z" } : Jvm.MethodName)) ∈ lw_all := lw_g (lw_at lw_m14 141 rfl) rfl
theorem q3400 : (Jvm.Cond.instanceMethod ({ cls := "TrailMarkersModel", name := "noPost", desc := "(I)Z" } : Jvm.MethodName)) ∈ lw_all := lw_g (lw_at lw_m14 143 rfl) rfl
theorem q3401 : (Jvm.Cond.code ({ cls := "TrailMarkersModel", name := "noPost", desc := "(I)Z" } : Jvm.MethodName) prog_13_method_10_code (2 : Nat) (Option.some Jvm.ClassFile.FieldType.boolean)) ∈ lw_all := lw_g (lw_at lw_m14 144 rfl) rfl
theorem q3410 : (Jvm.Cond.methodLink "TrailMarkersModel" (420 : Nat) ({ cls := "TrailMarkersModel", name := "states", desc := "(II)I" } : Jvm.MethodName)) ∈ lw_all := lw_g (lw_at lw_m14 153 rfl) rfl
theorem q3412 : (Jvm.Cond.instanceMethod ({ cls := "TrailMarkersModel", name := "states", desc := "(II)I" } : Jvm.MethodName)) ∈ lw_all := lw_g (lw_at lw_m14 155 rfl) rfl
theorem q3413 : (Jvm.Cond.code ({ cls := "TrailMarkersModel", name := "states", desc := "(II)I" } : Jvm.MethodName) prog_13_method_70_code (4 : Nat) (Option.some Jvm.ClassFile.FieldType.int)) ∈ lw_all := lw_g (lw_at lw_m14 156 rfl) rfl
theorem q3414 : (Jvm.Cond.methodLink "TrailMarkersModel" (236 : Nat) ({ cls := "TrailMarkersModel", name := "posts", desc := "(IZ)I" } : Jvm.MethodName)) ∈ lw_all := lw_g (lw_at lw_m14 157 rfl) rfl
theorem q3416 : (Jvm.Cond.instanceMethod ({ cls := "TrailMarkersModel", name := "posts", desc := "(IZ)I" } : Jvm.MethodName)) ∈ lw_all := lw_g (lw_at lw_m14 159 rfl) rfl
theorem q3417 : (Jvm.Cond.code ({ cls := "TrailMarkersModel", name := "posts", desc := "(IZ)I" } : Jvm.MethodName) prog_13_method_19_code (5 : Nat) (Option.some Jvm.ClassFile.FieldType.int)) ∈ lw_all := lw_g (lw_at lw_m14 160 rfl) rfl
theorem q3418 : (Jvm.Cond.methodLink "TrailMarkersModel" (134 : Nat) ({ cls := "TrailMarkersModel", name := "stands", desc := "(I)Z" } : Jvm.MethodName)) ∈ lw_all := lw_g (lw_at lw_m14 161 rfl) rfl
theorem q3420 : (Jvm.Cond.instanceMethod ({ cls := "TrailMarkersModel", name := "stands", desc := "(I)Z" } : Jvm.MethodName)) ∈ lw_all := lw_g (lw_at lw_m14 163 rfl) rfl
theorem q3421 : (Jvm.Cond.code ({ cls := "TrailMarkersModel", name := "stands", desc := "(I)Z" } : Jvm.MethodName) prog_13_method_15_code (2 : Nat) (Option.some Jvm.ClassFile.FieldType.boolean)) ∈ lw_all := lw_g (lw_at lw_m14 164 rfl) rfl
theorem q3434 : (Jvm.Cond.methodLink "TrailMarkersModel" (423 : Nat) ({ cls := "TrailMarkersModel", name := "noSetting", desc := "(II)Z" } : Jvm.MethodName)) ∈ lw_all := lw_g (lw_at lw_m14 177 rfl) rfl
theorem q3435 : (Jvm.Cond.static ({ cls := "TrailMarkersModel", name := "noSetting", desc := "(II)Z" } : Jvm.MethodName)) ∈ lw_all := lw_g (lw_at lw_m14 178 rfl) rfl
theorem q3436 : (Jvm.Cond.code ({ cls := "TrailMarkersModel", name := "noSetting", desc := "(II)Z" } : Jvm.MethodName) prog_13_method_74_code (2 : Nat) (Option.some Jvm.ClassFile.FieldType.boolean)) ∈ lw_all := lw_g (lw_at lw_m14 179 rfl) rfl
theorem q3453 : (Jvm.Cond.methodLink "TrailMarkersModel" (429 : Nat) ({ cls := "TrailMarkersModel", name := "completeOnes", desc := "()I" } : Jvm.MethodName)) ∈ lw_all := lw_g (lw_at lw_m14 196 rfl) rfl
theorem q3455 : (Jvm.Cond.instanceMethod ({ cls := "TrailMarkersModel", name := "completeOnes", desc := "()I" } : Jvm.MethodName)) ∈ lw_all := lw_g (lw_at lw_m14 198 rfl) rfl
theorem q3456 : (Jvm.Cond.code ({ cls := "TrailMarkersModel", name := "completeOnes", desc := "()I" } : Jvm.MethodName) prog_13_method_79_code (3 : Nat) (Option.some Jvm.ClassFile.FieldType.int)) ∈ lw_all := lw_g (lw_at lw_m14 199 rfl) rfl
theorem q3457 : (Jvm.Cond.methodLink "TrailMarkersModel" (426 : Nat) ({ cls := "TrailMarkersModel", name := "isComplete", desc := "(I)Z" } : Jvm.MethodName)) ∈ lw_all := lw_g (lw_at lw_m14 200 rfl) rfl
theorem q3459 : (Jvm.Cond.instanceMethod ({ cls := "TrailMarkersModel", name := "isComplete", desc := "(I)Z" } : Jvm.MethodName)) ∈ lw_all := lw_g (lw_at lw_m14 202 rfl) rfl
theorem q3460 : (Jvm.Cond.code ({ cls := "TrailMarkersModel", name := "isComplete", desc := "(I)Z" } : Jvm.MethodName) prog_13_method_34_code (3 : Nat) (Option.some Jvm.ClassFile.FieldType.boolean)) ∈ lw_all := lw_g (lw_at lw_m14 203 rfl) rfl
theorem q3461 : (Jvm.Cond.methodLink "TrailMarkersModel" (252 : Nat) ({ cls := "TrailMarkersModel", name := "metBy", desc := "(I)I" } : Jvm.MethodName)) ∈ lw_all := lw_g (lw_at lw_m14 204 rfl) rfl
theorem q3463 : (Jvm.Cond.instanceMethod ({ cls := "TrailMarkersModel", name := "metBy", desc := "(I)I" } : Jvm.MethodName)) ∈ lw_all := lw_g (lw_at lw_m14 206 rfl) rfl
theorem q3464 : (Jvm.Cond.code ({ cls := "TrailMarkersModel", name := "metBy", desc := "(I)I" } : Jvm.MethodName) prog_13_method_33_code (2 : Nat) (Option.some Jvm.ClassFile.FieldType.int)) ∈ lw_all := lw_g (lw_at lw_m14 207 rfl) rfl
theorem q3465 : (Jvm.Cond.methodLink "TrailMarkersModel" (249 : Nat) ({ cls := "TrailMarkersModel", name := "begin", desc := "(I)I" } : Jvm.MethodName)) ∈ lw_all := lw_g (lw_at lw_m14 208 rfl) rfl
theorem q3467 : (Jvm.Cond.instanceMethod ({ cls := "TrailMarkersModel", name := "begin", desc := "(I)I" } : Jvm.MethodName)) ∈ lw_all := lw_g (lw_at lw_m14 210 rfl) rfl
theorem q3468 : (Jvm.Cond.code ({ cls := "TrailMarkersModel", name := "begin", desc := "(I)I" } : Jvm.MethodName) prog_13_method_20_code (3 : Nat) (Option.some Jvm.ClassFile.FieldType.int)) ∈ lw_all := lw_g (lw_at lw_m14 211 rfl) rfl
theorem q3469 : (Jvm.Cond.methodLink "TrailMarkersModel" (243 : Nat) ({ cls := "TrailMarkersModel", name := "walk", desc := "(I)V" } : Jvm.MethodName)) ∈ lw_all := lw_g (lw_at lw_m14 212 rfl) rfl
theorem q3471 : (Jvm.Cond.instanceMethod ({ cls := "TrailMarkersModel", name := "walk", desc := "(I)V" } : Jvm.MethodName)) ∈ lw_all := lw_g (lw_at lw_m14 214 rfl) rfl
theorem q3472 : (Jvm.Cond.code ({ cls := "TrailMarkersModel", name := "walk", desc := "(I)V" } : Jvm.MethodName) prog_13_method_29_code (4 : Nat) (Option.none : Option Jvm.ClassFile.FieldType)) ∈ lw_all := lw_g (lw_at lw_m14 215 rfl) rfl
theorem q3473 : (Jvm.Cond.methodLink "TrailMarkersModel" (220 : Nat) ({ cls := "TrailMarkersModel", name := "begins", desc := "(I)V" } : Jvm.MethodName)) ∈ lw_all := lw_g (lw_at lw_m14 216 rfl) rfl
theorem q3475 : (Jvm.Cond.instanceMethod ({ cls := "TrailMarkersModel", name := "begins", desc := "(I)V" } : Jvm.MethodName)) ∈ lw_all := lw_g (lw_at lw_m14 218 rfl) rfl
theorem q3476 : (Jvm.Cond.code ({ cls := "TrailMarkersModel", name := "begins", desc := "(I)V" } : Jvm.MethodName) prog_13_method_28_code (3 : Nat) (Option.none : Option Jvm.ClassFile.FieldType)) ∈ lw_all := lw_g (lw_at lw_m14 219 rfl) rfl
theorem q3477 : (Jvm.Cond.methodLink "TrailMarkersModel" (224 : Nat) ({ cls := "TrailMarkersModel", name := "find", desc := "(I)V" } : Jvm.MethodName)) ∈ lw_all := lw_g (lw_at lw_m14 220 rfl) rfl
theorem q3479 : (Jvm.Cond.instanceMethod ({ cls := "TrailMarkersModel", name := "find", desc := "(I)V" } : Jvm.MethodName)) ∈ lw_all := lw_g (lw_at lw_m14 222 rfl) rfl
theorem q3480 : (Jvm.Cond.code ({ cls := "TrailMarkersModel", name := "find", desc := "(I)V" } : Jvm.MethodName) prog_13_method_25_code (8 : Nat) (Option.none : Option Jvm.ClassFile.FieldType)) ∈ lw_all := lw_g (lw_at lw_m14 223 rfl) rfl
theorem q3481 : (Jvm.Cond.methodLink "TrailMarkersModel" (184 : Nat) ({ cls := "TrailMarkersModel", name := "leg", desc := "(IIII)V" } : Jvm.MethodName)) ∈ lw_all := lw_g (lw_at lw_m14 224 rfl) rfl
theorem q3483 : (Jvm.Cond.instanceMethod ({ cls := "TrailMarkersModel", name := "leg", desc := "(IIII)V" } : Jvm.MethodName)) ∈ lw_all := lw_g (lw_at lw_m14 226 rfl) rfl
theorem q3484 : (Jvm.Cond.code ({ cls := "TrailMarkersModel", name := "leg", desc := "(IIII)V" } : Jvm.MethodName) prog_13_method_21_code (8 : Nat) (Option.none : Option Jvm.ClassFile.FieldType)) ∈ lw_all := lw_g (lw_at lw_m14 227 rfl) rfl
theorem q3485 : (Jvm.Cond.methodLink "TrailMarkersModel" (154 : Nat) ({ cls := "TrailMarkersModel", name := "isFree", desc := "(II)Z" } : Jvm.MethodName)) ∈ lw_all := lw_g (lw_at lw_m14 228 rfl) rfl
theorem q3487 : (Jvm.Cond.instanceMethod ({ cls := "TrailMarkersModel", name := "isFree", desc := "(II)Z" } : Jvm.MethodName)) ∈ lw_all := lw_g (lw_at lw_m14 230 rfl) rfl
theorem q3488 : (Jvm.Cond.code ({ cls := "TrailMarkersModel", name := "isFree", desc := "(II)Z" } : Jvm.MethodName) prog_13_method_14_code (3 : Nat) (Option.some Jvm.ClassFile.FieldType.boolean)) ∈ lw_all := lw_g (lw_at lw_m14 231 rfl) rfl
theorem q3489 : (Jvm.Cond.methodLink "TrailMarkersModel" (192 : Nat) ({ cls := "TrailMarkersModel", name := "turns", desc := "(IIIIIII)V" } : Jvm.MethodName)) ∈ lw_all := lw_g (lw_at lw_m14 232 rfl) rfl
theorem q3491 : (Jvm.Cond.instanceMethod ({ cls := "TrailMarkersModel", name := "turns", desc := "(IIIIIII)V" } : Jvm.MethodName)) ∈ lw_all := lw_g (lw_at lw_m14 234 rfl) rfl
theorem q3492 : (Jvm.Cond.code ({ cls := "TrailMarkersModel", name := "turns", desc := "(IIIIIII)V" } : Jvm.MethodName) prog_13_method_24_code (10 : Nat) (Option.none : Option Jvm.ClassFile.FieldType)) ∈ lw_all := lw_g (lw_at lw_m14 235 rfl) rfl
theorem q3493 : (Jvm.Cond.methodLink "TrailMarkersModel" (188 : Nat) ({ cls := "TrailMarkersModel", name := "found", desc := "(IIIIIII)V" } : Jvm.MethodName)) ∈ lw_all := lw_g (lw_at lw_m14 236 rfl) rfl
theorem q3495 : (Jvm.Cond.instanceMethod ({ cls := "TrailMarkersModel", name := "found", desc := "(IIIIIII)V" } : Jvm.MethodName)) ∈ lw_all := lw_g (lw_at lw_m14 238 rfl) rfl
theorem q3496 : (Jvm.Cond.code ({ cls := "TrailMarkersModel", name := "found", desc := "(IIIIIII)V" } : Jvm.MethodName) prog_13_method_23_code (8 : Nat) (Option.none : Option Jvm.ClassFile.FieldType)) ∈ lw_all := lw_g (lw_at lw_m14 239 rfl) rfl
theorem q3497 : (Jvm.Cond.methodLink "TrailMarkersModel" (172 : Nat) ({ cls := "TrailMarkersModel", name := "steps", desc := "()I" } : Jvm.MethodName)) ∈ lw_all := lw_g (lw_at lw_m15 0 rfl) rfl
theorem q3499 : (Jvm.Cond.instanceMethod ({ cls := "TrailMarkersModel", name := "steps", desc := "()I" } : Jvm.MethodName)) ∈ lw_all := lw_g (lw_at lw_m15 2 rfl) rfl
theorem q3500 : (Jvm.Cond.code ({ cls := "TrailMarkersModel", name := "steps", desc := "()I" } : Jvm.MethodName) prog_13_method_22_code (1 : Nat) (Option.some Jvm.ClassFile.FieldType.int)) ∈ lw_all := lw_g (lw_at lw_m15 3 rfl) rfl
theorem q3501 : (Jvm.Cond.methodLink "TrailMarkersModel" (195 : Nat) ({ cls := "TrailMarkersModel", name := "twice", desc := "(IIIII)V" } : Jvm.MethodName)) ∈ lw_all := lw_g (lw_at lw_m15 4 rfl) rfl
theorem q3503 : (Jvm.Cond.instanceMethod ({ cls := "TrailMarkersModel", name := "twice", desc := "(IIIII)V" } : Jvm.MethodName)) ∈ lw_all := lw_g (lw_at lw_m15 6 rfl) rfl
theorem q3504 : (Jvm.Cond.code ({ cls := "TrailMarkersModel", name := "twice", desc := "(IIIII)V" } : Jvm.MethodName) prog_13_method_26_code (8 : Nat) (Option.none : Option Jvm.ClassFile.FieldType)) ∈ lw_all := lw_g (lw_at lw_m15 7 rfl) rfl
theorem q3505 : (Jvm.Cond.methodLink "TrailMarkersModel" (227 : Nat) ({ cls := "java/lang/Math", name := "max", desc := "(II)I" } : Jvm.MethodName)) ∈ lw_all := lw_g (lw_at lw_m15 8 rfl) rfl
theorem q3506 : (Jvm.Cond.methodLink "TrailMarkersModel" (232 : Nat) ({ cls := "TrailMarkersModel", name := "goes", desc := "(IIZ)V" } : Jvm.MethodName)) ∈ lw_all := lw_g (lw_at lw_m15 9 rfl) rfl
theorem q3508 : (Jvm.Cond.instanceMethod ({ cls := "TrailMarkersModel", name := "goes", desc := "(IIZ)V" } : Jvm.MethodName)) ∈ lw_all := lw_g (lw_at lw_m15 11 rfl) rfl
theorem q3509 : (Jvm.Cond.code ({ cls := "TrailMarkersModel", name := "goes", desc := "(IIZ)V" } : Jvm.MethodName) prog_13_method_27_code (6 : Nat) (Option.none : Option Jvm.ClassFile.FieldType)) ∈ lw_all := lw_g (lw_at lw_m15 12 rfl) rfl
theorem q3514 : (Jvm.Cond.methodLink "TrailMarkersModel" (432 : Nat) ({ cls := "TrailMarkersModel", name := "comers", desc := "(I)I" } : Jvm.MethodName)) ∈ lw_all := lw_g (lw_at lw_m15 17 rfl) rfl
theorem q3516 : (Jvm.Cond.instanceMethod ({ cls := "TrailMarkersModel", name := "comers", desc := "(I)I" } : Jvm.MethodName)) ∈ lw_all := lw_g (lw_at lw_m15 19 rfl) rfl
theorem q3517 : (Jvm.Cond.code ({ cls := "TrailMarkersModel", name := "comers", desc := "(I)I" } : Jvm.MethodName) prog_13_method_82_code (4 : Nat) (Option.some Jvm.ClassFile.FieldType.int)) ∈ lw_all := lw_g (lw_at lw_m15 20 rfl) rfl
theorem q3518 : (Jvm.Cond.methodLink "TrailMarkersModel" (435 : Nat) ({ cls := "TrailMarkersModel", name := "cell", desc := "(I)I" } : Jvm.MethodName)) ∈ lw_all := lw_g (lw_at lw_m15 21 rfl) rfl
theorem q3520 : (Jvm.Cond.instanceMethod ({ cls := "TrailMarkersModel", name := "cell", desc := "(I)I" } : Jvm.MethodName)) ∈ lw_all := lw_g (lw_at lw_m15 23 rfl) rfl
theorem q3521 : (Jvm.Cond.code ({ cls := "TrailMarkersModel", name := "cell", desc := "(I)I" } : Jvm.MethodName) prog_13_method_81_code (2 : Nat) (Option.some Jvm.ClassFile.FieldType.int)) ∈ lw_all := lw_g (lw_at lw_m15 24 rfl) rfl
theorem q3530 : (Jvm.Cond.methodLink "TrailMarkersModel" (438 : Nat) ({ cls := "TrailMarkersModel", name := "right", desc := "(I)I" } : Jvm.MethodName)) ∈ lw_all := lw_g (lw_at lw_m15 33 rfl) rfl
theorem q3532 : (Jvm.Cond.instanceMethod ({ cls := "TrailMarkersModel", name := "right", desc := "(I)I" } : Jvm.MethodName)) ∈ lw_all := lw_g (lw_at lw_m15 35 rfl) rfl
theorem q3533 : (Jvm.Cond.code ({ cls := "TrailMarkersModel", name := "right", desc := "(I)I" } : Jvm.MethodName) prog_13_method_85_code (5 : Nat) (Option.some Jvm.ClassFile.FieldType.int)) ∈ lw_all := lw_g (lw_at lw_m15 36 rfl) rfl
theorem q3542 : (Jvm.Cond.methodLink "TrailMarkersModel" (441 : Nat) ({ cls := "TrailMarkersModel", name := "routeOf", desc := "(II)I" } : Jvm.MethodName)) ∈ lw_all := lw_g (lw_at lw_m15 45 rfl) rfl
theorem q3544 : (Jvm.Cond.instanceMethod ({ cls := "TrailMarkersModel", name := "routeOf", desc := "(II)I" } : Jvm.MethodName)) ∈ lw_all := lw_g (lw_at lw_m15 47 rfl) rfl
theorem q3545 : (Jvm.Cond.code ({ cls := "TrailMarkersModel", name := "routeOf", desc := "(II)I" } : Jvm.MethodName) prog_13_method_32_code (3 : Nat) (Option.some Jvm.ClassFile.FieldType.int)) ∈ lw_all := lw_g (lw_at lw_m15 48 rfl) rfl
theorem q3546 : (Jvm.Cond.methodLink "TrailMarkersModel" (246 : Nat) ({ cls := "TrailMarkersModel", name := "ofRoute", desc := "(I)I" } : Jvm.MethodName)) ∈ lw_all := lw_g (lw_at lw_m15 49 rfl) rfl
theorem q3548 : (Jvm.Cond.instanceMethod ({ cls := "TrailMarkersModel", name := "ofRoute", desc := "(I)I" } : Jvm.MethodName)) ∈ lw_all := lw_g (lw_at lw_m15 51 rfl) rfl
theorem q3549 : (Jvm.Cond.code ({ cls := "TrailMarkersModel", name := "ofRoute", desc := "(I)I" } : Jvm.MethodName) prog_13_method_31_code (2 : Nat) (Option.some Jvm.ClassFile.FieldType.int)) ∈ lw_all := lw_g (lw_at lw_m15 52 rfl) rfl
theorem q3550 : (Jvm.Cond.methodLink "TrailMarkersModel" (240 : Nat) ({ cls := "TrailMarkersModel", name := "loopSteps", desc := "()I" } : Jvm.MethodName)) ∈ lw_all := lw_g (lw_at lw_m15 53 rfl) rfl
theorem q3552 : (Jvm.Cond.instanceMethod ({ cls := "TrailMarkersModel", name := "loopSteps", desc := "()I" } : Jvm.MethodName)) ∈ lw_all := lw_g (lw_at lw_m15 55 rfl) rfl
theorem q3553 : (Jvm.Cond.code ({ cls := "TrailMarkersModel", name := "loopSteps", desc := "()I" } : Jvm.MethodName) prog_13_method_30_code (3 : Nat) (Option.some Jvm.ClassFile.FieldType.int)) ∈ lw_all := lw_g (lw_at lw_m15 56 rfl) rfl
theorem q3558 : (Jvm.Cond.methodLink "TrailMarkersModel" (444 : Nat) ({ cls := "TrailMarkersModel", name := "told", desc := "([III)I" } : Jvm.MethodName)) ∈ lw_all := lw_g (lw_at lw_m15 61 rfl) rfl
theorem q3560 : (Jvm.Cond.instanceMethod ({ cls := "TrailMarkersModel", name := "told", desc := "([III)I" } : Jvm.MethodName)) ∈ lw_all := lw_g (lw_at lw_m15 63 rfl) rfl
theorem q3561 : (Jvm.Cond.code ({ cls := "TrailMarkersModel", name := "told", desc := "([III)I" } : Jvm.MethodName) prog_13_method_89_code (4 : Nat) (Option.some Jvm.ClassFile.FieldType.int)) ∈ lw_all := lw_g (lw_at lw_m15 64 rfl) rfl
theorem q3574 : (Jvm.Cond.methodLink "TrailMarkersModel" (448 : Nat) ({ cls := "TrailMarkersModel", name := "marks", desc := "([ZI)V" } : Jvm.MethodName)) ∈ lw_all := lw_g (lw_at lw_m15 77 rfl) rfl
theorem q3576 : (Jvm.Cond.instanceMethod ({ cls := "TrailMarkersModel", name := "marks", desc := "([ZI)V" } : Jvm.MethodName)) ∈ lw_all := lw_g (lw_at lw_m15 79 rfl) rfl
theorem q3577 : (Jvm.Cond.code ({ cls := "TrailMarkersModel", name := "marks", desc := "([ZI)V" } : Jvm.MethodName) prog_13_method_93_code (4 : Nat) (Option.none : Option Jvm.ClassFile.FieldType)) ∈ lw_all := lw_g (lw_at lw_m15 80 rfl) rfl
theorem q3582 : (Jvm.Cond.methodLink "TrailMarkersModel" (452 : Nat) ({ cls := "TrailMarkersModel", name := "stopped", desc := "(IZ)I" } : Jvm.MethodName)) ∈ lw_all := lw_g (lw_at lw_m15 85 rfl) rfl
theorem q3584 : (Jvm.Cond.instanceMethod ({ cls := "TrailMarkersModel", name := "stopped", desc := "(IZ)I" } : Jvm.MethodName)) ∈ lw_all := lw_g (lw_at lw_m15 87 rfl) rfl
theorem q3585 : (Jvm.Cond.code ({ cls := "TrailMarkersModel", name := "stopped", desc := "(IZ)I" } : Jvm.MethodName) prog_13_method_95_code (6 : Nat) (Option.some Jvm.ClassFile.FieldType.int)) ∈ lw_all := lw_g (lw_at lw_m15 88 rfl) rfl
theorem q3590 : (Jvm.Cond.methodLink "TrailMarkersModel" (455 : Nat) ({ cls := "TrailMarkersModel", name := "tryOut", desc := "()V" } : Jvm.MethodName)) ∈ lw_all := lw_g (lw_at lw_m15 93 rfl) rfl
theorem q3592 : (Jvm.Cond.instanceMethod ({ cls := "TrailMarkersModel", name := "tryOut", desc := "()V" } : Jvm.MethodName)) ∈ lw_all := lw_g (lw_at lw_m15 95 rfl) rfl
theorem q3593 : (Jvm.Cond.code ({ cls := "TrailMarkersModel", name := "tryOut", desc := "()V" } : Jvm.MethodName) prog_13_method_97_code (1 : Nat) (Option.none : Option Jvm.ClassFile.FieldType)) ∈ lw_all := lw_g (lw_at lw_m15 96 rfl) rfl
theorem q3594 : (Jvm.Cond.methodLink "TrailMarkersModel" (458 : Nat) ({ cls := "TrailMarkersModel", name := "switches", desc := "(I)V" } : Jvm.MethodName)) ∈ lw_all := lw_g (lw_at lw_m15 97 rfl) rfl
theorem q3596 : (Jvm.Cond.instanceMethod ({ cls := "TrailMarkersModel", name := "switches", desc := "(I)V" } : Jvm.MethodName)) ∈ lw_all := lw_g (lw_at lw_m15 99 rfl) rfl
theorem q3597 : (Jvm.Cond.code ({ cls := "TrailMarkersModel", name := "switches", desc := "(I)V" } : Jvm.MethodName) prog_13_method_100_code (2 : Nat) (Option.none : Option Jvm.ClassFile.FieldType)) ∈ lw_all := lw_g (lw_at lw_m15 100 rfl) rfl
theorem q3598 : (Jvm.Cond.methodLink "TrailMarkersModel" (461 : Nat) ({ cls := "TrailMarkersModel", name := "fromBegin", desc := "(II)I" } : Jvm.MethodName)) ∈ lw_all := lw_g (lw_at lw_m15 101 rfl) rfl
theorem q3600 : (Jvm.Cond.instanceMethod ({ cls := "TrailMarkersModel", name := "fromBegin", desc := "(II)I" } : Jvm.MethodName)) ∈ lw_all := lw_g (lw_at lw_m15 103 rfl) rfl
theorem q3601 : (Jvm.Cond.code ({ cls := "TrailMarkersModel", name := "fromBegin", desc := "(II)I" } : Jvm.MethodName) prog_13_method_99_code (4 : Nat) (Option.some Jvm.ClassFile.FieldType.int)) ∈ lw_all := lw_g (lw_at lw_m15 104 rfl) rfl
theorem q3602 : (Jvm.Cond.methodLink "TrailMarkersModel" (464 : Nat) ({ cls := "TrailMarkersModel", name := "laidBack", desc := "(I)I" } : Jvm.MethodName)) ∈ lw_all := lw_g (lw_at lw_m15 105 rfl) rfl
theorem q3604 : (Jvm.Cond.instanceMethod ({ cls := "TrailMarkersModel", name := "laidBack", desc := "(I)I" } : Jvm.MethodName)) ∈ lw_all := lw_g (lw_at lw_m15 107 rfl) rfl
theorem q3605 : (Jvm.Cond.code ({ cls := "TrailMarkersModel", name := "laidBack", desc := "(I)I" } : Jvm.MethodName) prog_13_method_98_code (2 : Nat) (Option.some Jvm.ClassFile.FieldType.int)) ∈ lw_all := lw_g (lw_at lw_m15 108 rfl) rfl
theorem q3614 : (Jvm.Cond.methodLink "TrailMarkersModel" (467 : Nat) ({ cls := "TrailMarkersModel", name := "extreme", desc := "(III)I" } : Jvm.MethodName)) ∈ lw_all := lw_g (lw_at lw_m15 117 rfl) rfl
theorem q3616 : (Jvm.Cond.instanceMethod ({ cls := "TrailMarkersModel", name := "extreme", desc := "(III)I" } : Jvm.MethodName)) ∈ lw_all := lw_g (lw_at lw_m15 119 rfl) rfl
theorem q3617 : (Jvm.Cond.code ({ cls := "TrailMarkersModel", name := "extreme", desc := "(III)I" } : Jvm.MethodName) prog_13_method_103_code (8 : Nat) (Option.some Jvm.ClassFile.FieldType.int)) ∈ lw_all := lw_g (lw_at lw_m15 120 rfl) rfl
theorem q3630 : (Jvm.Cond.methodLink "TrailMarkersModel" (471 : Nat) ({ cls := "java/lang/Math", name := "abs", desc := "(I)I" } : Jvm.MethodName)) ∈ lw_all := lw_g (lw_at lw_m15 133 rfl) rfl
theorem q3652 : (Jvm.Cond.methodLink "TrailMarkersModel" (488 : Nat) ({ cls := "TrailMarkersModel", name := "areSame", desc := "(II)Z" } : Jvm.MethodName)) ∈ lw_all := lw_g (lw_at lw_m15 155 rfl) rfl
theorem q3654 : (Jvm.Cond.instanceMethod ({ cls := "TrailMarkersModel", name := "areSame", desc := "(II)Z" } : Jvm.MethodName)) ∈ lw_all := lw_g (lw_at lw_m15 157 rfl) rfl
theorem q3655 : (Jvm.Cond.code ({ cls := "TrailMarkersModel", name := "areSame", desc := "(II)Z" } : Jvm.MethodName) prog_13_method_111_code (3 : Nat) (Option.some Jvm.ClassFile.FieldType.boolean)) ∈ lw_all := lw_g (lw_at lw_m15 158 rfl) rfl
theorem cf_X5 : CF 4 RX5 TX5 53 := ⟨rfl, in_X5, ⟨tyX5, tyX5_ok⟩, nmX5⟩
theorem fp_X5_106 : FP "TrailMarkersModel" 106 4 7 (tyX5 7) false := ⟨RX5, TX5, 53, "TrailMarkersModel", cf_X5, by decide, q3204, Or.inl rfl, tyX5_ok 7 (by decide), rfl, fun h9 => nomatch h9⟩
theorem fp_X5_262 : FP "TrailMarkersModel" 262 4 41 (tyX5 41) false := ⟨RX5, TX5, 53, "TrailMarkersModel", cf_X5, by decide, q3238, Or.inl rfl, tyX5_ok 41 (by decide), rfl, fun h9 => nomatch h9⟩
theorem fp_X5_288 : FP "TrailMarkersModel" 288 4 43 (tyX5 43) false := ⟨RX5, TX5, 53, "TrailMarkersModel", cf_X5, by decide, q3240, Or.inl rfl, tyX5_ok 43 (by decide), rfl, fun h9 => nomatch h9⟩
theorem fp_X5_292 : FP "TrailMarkersModel" 292 4 12 (tyX5 12) false := ⟨RX5, TX5, 53, "TrailMarkersModel", cf_X5, by decide, q3209, Or.inl rfl, tyX5_ok 12 (by decide), rfl, fun h9 => nomatch h9⟩
theorem fp_X5_35 : FP "TrailMarkersModel" 35 4 13 (tyX5 13) false := ⟨RX5, TX5, 53, "TrailMarkersModel", cf_X5, by decide, q3210, Or.inl rfl, tyX5_ok 13 (by decide), rfl, fun h9 => nomatch h9⟩
theorem fp_X5_39 : FP "TrailMarkersModel" 39 4 14 (tyX5 14) false := ⟨RX5, TX5, 53, "TrailMarkersModel", cf_X5, by decide, q3211, Or.inl rfl, tyX5_ok 14 (by decide), rfl, fun h9 => nomatch h9⟩
theorem fa_X5_9 : FA "TrailMarkersModel" 9 4 0 := ⟨RX5, TX5, 53, "TrailMarkersModel", cf_X5, by decide, q3197, Or.inl rfl⟩
theorem fa_X5_22 : FA "TrailMarkersModel" 22 4 4 := ⟨RX5, TX5, 53, "TrailMarkersModel", cf_X5, by decide, q3201, Or.inl rfl⟩
theorem m_X5_115 : MS "TrailMarkersModel" 115 yX5_copy cX5_copy 4 (Option.none : Option Jvm.ClassFile.FieldType) 4 := ⟨q3042, q3043, q146, q3044, by decide +kernel, by decide +kernel, by decide +kernel⟩
theorem m_X5_295 : MV "TrailMarkersModel" 295 yX5_next cX5_next 1 (Option.none : Option Jvm.ClassFile.FieldType) 0 := ⟨q3046, q3048, qs67, q146, q3049, by decide +kernel, by decide +kernel, by decide +kernel⟩
theorem fa_X5_262 : FA "TrailMarkersModel" 262 4 41 := ⟨RX5, TX5, 53, "TrailMarkersModel", cf_X5, by decide, q3238, Or.inl rfl⟩
theorem fa_X5_93 : FA "TrailMarkersModel" 93 4 10 := ⟨RX5, TX5, 53, "TrailMarkersModel", cf_X5, by decide, q3207, Or.inl rfl⟩
theorem fa_X5_29 : FA "TrailMarkersModel" 29 4 8 := ⟨RX5, TX5, 53, "TrailMarkersModel", cf_X5, by decide, q3205, Or.inl rfl⟩
theorem fp_X5_265 : FP "TrailMarkersModel" 265 4 40 (tyX5 40) false := ⟨RX5, TX5, 53, "TrailMarkersModel", cf_X5, by decide, q3237, Or.inl rfl, tyX5_ok 40 (by decide), rfl, fun h9 => nomatch h9⟩
theorem fp_X5_268 : FP "TrailMarkersModel" 268 4 39 (tyX5 39) false := ⟨RX5, TX5, 53, "TrailMarkersModel", cf_X5, by decide, q3236, Or.inl rfl, tyX5_ok 39 (by decide), rfl, fun h9 => nomatch h9⟩
theorem m_X5_271 : MV "TrailMarkersModel" 271 yX5_isLetter cX5_isLetter 2 (Option.some Jvm.ClassFile.FieldType.boolean) 1 := ⟨q3050, q3052, qs68, q146, q3053, by decide +kernel, by decide +kernel, by decide +kernel⟩
theorem m_X5_274 : MV "TrailMarkersModel" 274 yX5_isDigit cX5_isDigit 2 (Option.some Jvm.ClassFile.FieldType.boolean) 1 := ⟨q3057, q3059, qs69, q146, q3060, by decide +kernel, by decide +kernel, by decide +kernel⟩
theorem fp_X5_277 : FP "TrailMarkersModel" 277 4 42 (tyX5 42) false := ⟨RX5, TX5, 53, "TrailMarkersModel", cf_X5, by decide, q3239, Or.inl rfl, tyX5_ok 42 (by decide), rfl, fun h9 => nomatch h9⟩
theorem fa_X5_277 : FA "TrailMarkersModel" 277 4 42 := ⟨RX5, TX5, 53, "TrailMarkersModel", cf_X5, by decide, q3239, Or.inl rfl⟩
theorem m_X5_119 : MS "TrailMarkersModel" 119 yX5_isIn cX5_isIn 3 (Option.some Jvm.ClassFile.FieldType.boolean) 3 := ⟨q3054, q3055, q146, q3056, by decide +kernel, by decide +kernel, by decide +kernel⟩
theorem fa_X5_265 : FA "TrailMarkersModel" 265 4 40 := ⟨RX5, TX5, 53, "TrailMarkersModel", cf_X5, by decide, q3237, Or.inl rfl⟩
theorem m_X5_284 : MV "TrailMarkersModel" 284 yX5_refused cX5_refused 5 (Option.none : Option Jvm.ClassFile.FieldType) 4 := ⟨q3072, q3074, qs72, q146, q3075, by decide +kernel, by decide +kernel, by decide +kernel⟩
theorem fa_X5_288 : FA "TrailMarkersModel" 288 4 43 := ⟨RX5, TX5, 53, "TrailMarkersModel", cf_X5, by decide, q3240, Or.inl rfl⟩
theorem m_X5_301 : MV "TrailMarkersModel" 301 yX5_here cX5_here 3 (Option.some Jvm.ClassFile.FieldType.int) 2 := ⟨q3084, q3086, qs75, q146, q3087, by decide +kernel, by decide +kernel, by decide +kernel⟩
theorem m_X5_304 : MV "TrailMarkersModel" 304 yX5_go cX5_go 1 (Option.none : Option Jvm.ClassFile.FieldType) 0 := ⟨q3076, q3078, qs73, q146, q3079, by decide +kernel, by decide +kernel, by decide +kernel⟩
theorem fa_X5_268 : FA "TrailMarkersModel" 268 4 39 := ⟨RX5, TX5, 53, "TrailMarkersModel", cf_X5, by decide, q3236, Or.inl rfl⟩
theorem m_X5_297 : MV "TrailMarkersModel" 297 yX5_wrong cX5_wrong 3 (Option.none : Option Jvm.ClassFile.FieldType) 2 := ⟨q3068, q3070, qs71, q146, q3071, by decide +kernel, by decide +kernel, by decide +kernel⟩
theorem m_X5_307 : MV "TrailMarkersModel" 307 yX5_isSign cX5_isSign 2 (Option.some Jvm.ClassFile.FieldType.boolean) 1 := ⟨q3092, q3094, qs77, q146, q3095, by decide +kernel, by decide +kernel, by decide +kernel⟩
theorem m_X5_123 : MV "TrailMarkersModel" 123 yX5_isOn cX5_isOn 3 (Option.some Jvm.ClassFile.FieldType.boolean) 2 := ⟨q3117, q3119, qs82, q146, q3120, by decide +kernel, by decide +kernel, by decide +kernel⟩
theorem m_X5_127 : MV "TrailMarkersModel" 127 yX5_isBlock cX5_isBlock 3 (Option.some Jvm.ClassFile.FieldType.boolean) 2 := ⟨q3121, q3123, qs83, q146, q3124, by decide +kernel, by decide +kernel, by decide +kernel⟩
theorem m_X5_157 : MV "TrailMarkersModel" 157 yX5_postAt cX5_postAt 4 (Option.some Jvm.ClassFile.FieldType.int) 2 := ⟨q3125, q3127, qs84, q146, q3128, by decide +kernel, by decide +kernel, by decide +kernel⟩
theorem m_X5_130 : MV "TrailMarkersModel" 130 yX5_of cX5_of 3 (Option.some Jvm.ClassFile.FieldType.int) 2 := ⟨q3129, q3131, qs85, q146, q3132, by decide +kernel, by decide +kernel, by decide +kernel⟩
theorem m_X5_310 : MV "TrailMarkersModel" 310 yX5_put cX5_put 4 (Option.none : Option Jvm.ClassFile.FieldType) 3 := ⟨q3137, q3139, qs87, q146, q3140, by decide +kernel, by decide +kernel, by decide +kernel⟩
theorem fa_X5_314 : FA "TrailMarkersModel" 314 4 50 := ⟨RX5, TX5, 53, "TrailMarkersModel", cf_X5, by decide, q3247, Or.inl rfl⟩
theorem m_X5_147 : MS "TrailMarkersModel" 147 yX5_dx cX5_dx 1 (Option.some Jvm.ClassFile.FieldType.int) 1 := ⟨q3157, q3158, q146, q3159, by decide +kernel, by decide +kernel, by decide +kernel⟩
theorem m_X5_151 : MS "TrailMarkersModel" 151 yX5_dy cX5_dy 1 (Option.some Jvm.ClassFile.FieldType.int) 1 := ⟨q3160, q3161, q146, q3162, by decide +kernel, by decide +kernel, by decide +kernel⟩
theorem m_X5_317 : MV "TrailMarkersModel" 317 yX5_whyNoPost cX5_whyNoPost 3 (Option.some Jvm.ClassFile.FieldType.int) 2 := ⟨q3113, q3115, qs81, q146, q3116, by decide +kernel, by decide +kernel, by decide +kernel⟩
theorem m_X5_320 : MV "TrailMarkersModel" 320 yX5_lay cX5_lay 6 (Option.some Jvm.ClassFile.FieldType.int) 4 := ⟨q3133, q3135, qs86, q146, q3136, by decide +kernel, by decide +kernel, by decide +kernel⟩
theorem fp_X5_314 : FP "TrailMarkersModel" 314 4 50 (tyX5 50) false := ⟨RX5, TX5, 53, "TrailMarkersModel", cf_X5, by decide, q3247, Or.inl rfl, tyX5_ok 50 (by decide), rfl, fun h9 => nomatch h9⟩
theorem fa_X5_63 : FA "TrailMarkersModel" 63 4 44 := ⟨RX5, TX5, 53, "TrailMarkersModel", cf_X5, by decide, q3241, Or.inl rfl⟩
theorem fa_X5_324 : FA "TrailMarkersModel" 324 4 48 := ⟨RX5, TX5, 53, "TrailMarkersModel", cf_X5, by decide, q3245, Or.inl rfl⟩
theorem fa_X5_66 : FA "TrailMarkersModel" 66 4 45 := ⟨RX5, TX5, 53, "TrailMarkersModel", cf_X5, by decide, q3242, Or.inl rfl⟩
theorem fa_X5_69 : FA "TrailMarkersModel" 69 4 46 := ⟨RX5, TX5, 53, "TrailMarkersModel", cf_X5, by decide, q3243, Or.inl rfl⟩
theorem fa_X5_72 : FA "TrailMarkersModel" 72 4 47 := ⟨RX5, TX5, 53, "TrailMarkersModel", cf_X5, by decide, q3244, Or.inl rfl⟩
theorem fp_X5_324 : FP "TrailMarkersModel" 324 4 48 (tyX5 48) false := ⟨RX5, TX5, 53, "TrailMarkersModel", cf_X5, by decide, q3245, Or.inl rfl, tyX5_ok 48 (by decide), rfl, fun h9 => nomatch h9⟩
theorem m_X5_338 : MV "TrailMarkersModel" 338 yX5_number cX5_number 4 (Option.some Jvm.ClassFile.FieldType.int) 2 := ⟨q3080, q3082, qs74, q146, q3083, by decide +kernel, by decide +kernel, by decide +kernel⟩
theorem m_X5_370 : MV "TrailMarkersModel" 370 yX5_whyNoBlock cX5_whyNoBlock 3 (Option.some Jvm.ClassFile.FieldType.int) 2 := ⟨q3177, q3179, qs94, q146, q3180, by decide +kernel, by decide +kernel, by decide +kernel⟩
theorem m_X5_373 : MV "TrailMarkersModel" 373 yX5_block cX5_block 4 (Option.none : Option Jvm.ClassFile.FieldType) 3 := ⟨q3181, q3183, qs95, q146, q3184, by decide +kernel, by decide +kernel, by decide +kernel⟩
theorem fa_X5_103 : FA "TrailMarkersModel" 103 4 6 := ⟨RX5, TX5, 53, "TrailMarkersModel", cf_X5, by decide, q3203, Or.inl rfl⟩
theorem fa_X5_16 : FA "TrailMarkersModel" 16 4 2 := ⟨RX5, TX5, 53, "TrailMarkersModel", cf_X5, by decide, q3199, Or.inl rfl⟩
theorem fp_X5_103 : FP "TrailMarkersModel" 103 4 6 (tyX5 6) false := ⟨RX5, TX5, 53, "TrailMarkersModel", cf_X5, by decide, q3203, Or.inl rfl, tyX5_ok 6 (by decide), rfl, fun h9 => nomatch h9⟩
theorem fa_X5_106 : FA "TrailMarkersModel" 106 4 7 := ⟨RX5, TX5, 53, "TrailMarkersModel", cf_X5, by decide, q3204, Or.inl rfl⟩
theorem m_X5_255 : MV "TrailMarkersModel" 255 yX5_four cX5_four 3 (Option.none : Option Jvm.ClassFile.FieldType) 1 := ⟨q3366, q3368, qs98, q146, q3369, by decide +kernel, by decide +kernel, by decide +kernel⟩
theorem fp_X5_93 : FP "TrailMarkersModel" 93 4 10 (tyX5 10) false := ⟨RX5, TX5, 53, "TrailMarkersModel", cf_X5, by decide, q3207, Or.inl rfl, tyX5_ok 10 (by decide), rfl, fun h9 => nomatch h9⟩
theorem m_X5_258 : MV "TrailMarkersModel" 258 yX5_fails cX5_fails 4 (Option.some Jvm.ClassFile.FieldType.boolean) 3 := ⟨q3374, q3376, qs99, q146, q3377, by decide +kernel, by decide +kernel, by decide +kernel⟩
theorem fa_X5_292 : FA "TrailMarkersModel" 292 4 12 := ⟨RX5, TX5, 53, "TrailMarkersModel", cf_X5, by decide, q3209, Or.inl rfl⟩
theorem fa_X5_35 : FA "TrailMarkersModel" 35 4 13 := ⟨RX5, TX5, 53, "TrailMarkersModel", cf_X5, by decide, q3210, Or.inl rfl⟩
theorem fa_X5_39 : FA "TrailMarkersModel" 39 4 14 := ⟨RX5, TX5, 53, "TrailMarkersModel", cf_X5, by decide, q3211, Or.inl rfl⟩
theorem m_X5_414 : MS "TrailMarkersModel" 414 yX5_noColour cX5_noColour 1 (Option.some Jvm.ClassFile.FieldType.boolean) 1 := ⟨q3391, q3392, q146, q3393, by decide +kernel, by decide +kernel, by decide +kernel⟩
theorem m_X5_402 : MV "TrailMarkersModel" 402 yX5_remember cX5_remember 2 (Option.none : Option Jvm.ClassFile.FieldType) 1 := ⟨q3193, q3195, qs97, q146, q3196, by decide +kernel, by decide +kernel, by decide +kernel⟩
theorem m_X5_417 : MV "TrailMarkersModel" 417 yX5_noPost cX5_noPost 2 (Option.some Jvm.ClassFile.FieldType.boolean) 1 := ⟨q3398, q3400, qs100, q146, q3401, by decide +kernel, by decide +kernel, by decide +kernel⟩
theorem m_X5_420 : MV "TrailMarkersModel" 420 yX5_states cX5_states 4 (Option.some Jvm.ClassFile.FieldType.int) 2 := ⟨q3410, q3412, qs101, q146, q3413, by decide +kernel, by decide +kernel, by decide +kernel⟩
theorem m_X5_236 : MV "TrailMarkersModel" 236 yX5_posts cX5_posts 5 (Option.some Jvm.ClassFile.FieldType.int) 2 := ⟨q3414, q3416, qs102, q146, q3417, by decide +kernel, by decide +kernel, by decide +kernel⟩
theorem m_X5_134 : MV "TrailMarkersModel" 134 yX5_stands cX5_stands 2 (Option.some Jvm.ClassFile.FieldType.boolean) 1 := ⟨q3418, q3420, qs103, q146, q3421, by decide +kernel, by decide +kernel, by decide +kernel⟩
theorem m_X5_423 : MS "TrailMarkersModel" 423 yX5_noSetting cX5_noSetting 2 (Option.some Jvm.ClassFile.FieldType.boolean) 2 := ⟨q3434, q3435, q146, q3436, by decide +kernel, by decide +kernel, by decide +kernel⟩
theorem fa_X5_19 : FA "TrailMarkersModel" 19 4 3 := ⟨RX5, TX5, 53, "TrailMarkersModel", cf_X5, by decide, q3200, Or.inl rfl⟩
theorem fa_X5_25 : FA "TrailMarkersModel" 25 4 5 := ⟨RX5, TX5, 53, "TrailMarkersModel", cf_X5, by decide, q3202, Or.inl rfl⟩
theorem m_X5_429 : MV "TrailMarkersModel" 429 yX5_completeOnes cX5_completeOnes 3 (Option.some Jvm.ClassFile.FieldType.int) 0 := ⟨q3453, q3455, qs104, q146, q3456, by decide +kernel, by decide +kernel, by decide +kernel⟩
theorem m_X5_426 : MV "TrailMarkersModel" 426 yX5_isComplete cX5_isComplete 3 (Option.some Jvm.ClassFile.FieldType.boolean) 1 := ⟨q3457, q3459, qs105, q146, q3460, by decide +kernel, by decide +kernel, by decide +kernel⟩
theorem m_X5_252 : MV "TrailMarkersModel" 252 yX5_metBy cX5_metBy 2 (Option.some Jvm.ClassFile.FieldType.int) 1 := ⟨q3461, q3463, qs106, q146, q3464, by decide +kernel, by decide +kernel, by decide +kernel⟩
theorem m_X5_249 : MV "TrailMarkersModel" 249 yX5_begin cX5_begin 3 (Option.some Jvm.ClassFile.FieldType.int) 1 := ⟨q3465, q3467, qs107, q146, q3468, by decide +kernel, by decide +kernel, by decide +kernel⟩
theorem m_X5_243 : MV "TrailMarkersModel" 243 yX5_walk cX5_walk 4 (Option.none : Option Jvm.ClassFile.FieldType) 1 := ⟨q3469, q3471, qs108, q146, q3472, by decide +kernel, by decide +kernel, by decide +kernel⟩
theorem fa_X5_208 : FA "TrailMarkersModel" 208 4 32 := ⟨RX5, TX5, 53, "TrailMarkersModel", cf_X5, by decide, q3229, Or.inl rfl⟩
theorem m_X5_220 : MV "TrailMarkersModel" 220 yX5_begins cX5_begins 3 (Option.none : Option Jvm.ClassFile.FieldType) 1 := ⟨q3473, q3475, qs109, q146, q3476, by decide +kernel, by decide +kernel, by decide +kernel⟩
theorem fa_X5_199 : FA "TrailMarkersModel" 199 4 33 := ⟨RX5, TX5, 53, "TrailMarkersModel", cf_X5, by decide, q3230, Or.inl rfl⟩
theorem fa_X5_60 : FA "TrailMarkersModel" 60 4 31 := ⟨RX5, TX5, 53, "TrailMarkersModel", cf_X5, by decide, q3228, Or.inl rfl⟩
theorem fa_X5_42 : FA "TrailMarkersModel" 42 4 25 := ⟨RX5, TX5, 53, "TrailMarkersModel", cf_X5, by decide, q3222, Or.inl rfl⟩
theorem fp_X5_208 : FP "TrailMarkersModel" 208 4 32 (tyX5 32) false := ⟨RX5, TX5, 53, "TrailMarkersModel", cf_X5, by decide, q3229, Or.inl rfl, tyX5_ok 32 (by decide), rfl, fun h9 => nomatch h9⟩
theorem fp_X5_217 : FP "TrailMarkersModel" 217 4 37 (tyX5 37) false := ⟨RX5, TX5, 53, "TrailMarkersModel", cf_X5, by decide, q3234, Or.inl rfl, tyX5_ok 37 (by decide), rfl, fun h9 => nomatch h9⟩
theorem m_X5_224 : MV "TrailMarkersModel" 224 yX5_find cX5_find 8 (Option.none : Option Jvm.ClassFile.FieldType) 1 := ⟨q3477, q3479, qs110, q146, q3480, by decide +kernel, by decide +kernel, by decide +kernel⟩
theorem fa_X5_169 : FA "TrailMarkersModel" 169 4 18 := ⟨RX5, TX5, 53, "TrailMarkersModel", cf_X5, by decide, q3215, Or.inl rfl⟩
theorem fp_X5_214 : FP "TrailMarkersModel" 214 4 36 (tyX5 36) false := ⟨RX5, TX5, 53, "TrailMarkersModel", cf_X5, by decide, q3233, Or.inl rfl, tyX5_ok 36 (by decide), rfl, fun h9 => nomatch h9⟩
theorem fa_X5_211 : FA "TrailMarkersModel" 211 4 38 := ⟨RX5, TX5, 53, "TrailMarkersModel", cf_X5, by decide, q3235, Or.inl rfl⟩
theorem m_X5_172 : MV "TrailMarkersModel" 172 yX5_steps cX5_steps 1 (Option.some Jvm.ClassFile.FieldType.int) 0 := ⟨q3497, q3499, qs115, q146, q3500, by decide +kernel, by decide +kernel, by decide +kernel⟩
theorem fp_X5_211 : FP "TrailMarkersModel" 211 4 38 (tyX5 38) false := ⟨RX5, TX5, 53, "TrailMarkersModel", cf_X5, by decide, q3235, Or.inl rfl, tyX5_ok 38 (by decide), rfl, fun h9 => nomatch h9⟩
theorem fa_X5_175 : FA "TrailMarkersModel" 175 4 19 := ⟨RX5, TX5, 53, "TrailMarkersModel", cf_X5, by decide, q3216, Or.inl rfl⟩
theorem fa_X5_160 : FA "TrailMarkersModel" 160 4 20 := ⟨RX5, TX5, 53, "TrailMarkersModel", cf_X5, by decide, q3217, Or.inl rfl⟩
theorem m_X5_232 : MV "TrailMarkersModel" 232 yX5_goes cX5_goes 6 (Option.none : Option Jvm.ClassFile.FieldType) 3 := ⟨q3506, q3508, qs117, q146, q3509, by decide +kernel, by decide +kernel, by decide +kernel⟩
theorem fa_X5_163 : FA "TrailMarkersModel" 163 4 22 := ⟨RX5, TX5, 53, "TrailMarkersModel", cf_X5, by decide, q3219, Or.inl rfl⟩
theorem fa_X5_178 : FA "TrailMarkersModel" 178 4 21 := ⟨RX5, TX5, 53, "TrailMarkersModel", cf_X5, by decide, q3218, Or.inl rfl⟩
theorem fa_X5_166 : FA "TrailMarkersModel" 166 4 24 := ⟨RX5, TX5, 53, "TrailMarkersModel", cf_X5, by decide, q3221, Or.inl rfl⟩
theorem fa_X5_181 : FA "TrailMarkersModel" 181 4 23 := ⟨RX5, TX5, 53, "TrailMarkersModel", cf_X5, by decide, q3220, Or.inl rfl⟩
theorem fp_X5_199 : FP "TrailMarkersModel" 199 4 33 (tyX5 33) false := ⟨RX5, TX5, 53, "TrailMarkersModel", cf_X5, by decide, q3230, Or.inl rfl, tyX5_ok 33 (by decide), rfl, fun h9 => nomatch h9⟩
theorem fp_X5_202 : FP "TrailMarkersModel" 202 4 34 (tyX5 34) false := ⟨RX5, TX5, 53, "TrailMarkersModel", cf_X5, by decide, q3231, Or.inl rfl, tyX5_ok 34 (by decide), rfl, fun h9 => nomatch h9⟩
theorem fp_X5_205 : FP "TrailMarkersModel" 205 4 35 (tyX5 35) false := ⟨RX5, TX5, 53, "TrailMarkersModel", cf_X5, by decide, q3232, Or.inl rfl, tyX5_ok 35 (by decide), rfl, fun h9 => nomatch h9⟩
theorem fa_X5_45 : FA "TrailMarkersModel" 45 4 26 := ⟨RX5, TX5, 53, "TrailMarkersModel", cf_X5, by decide, q3223, Or.inl rfl⟩
theorem fp_X5_169 : FP "TrailMarkersModel" 169 4 18 (tyX5 18) false := ⟨RX5, TX5, 53, "TrailMarkersModel", cf_X5, by decide, q3215, Or.inl rfl, tyX5_ok 18 (by decide), rfl, fun h9 => nomatch h9⟩
theorem fp_X5_175 : FP "TrailMarkersModel" 175 4 19 (tyX5 19) false := ⟨RX5, TX5, 53, "TrailMarkersModel", cf_X5, by decide, q3216, Or.inl rfl, tyX5_ok 19 (by decide), rfl, fun h9 => nomatch h9⟩
theorem fp_X5_160 : FP "TrailMarkersModel" 160 4 20 (tyX5 20) false := ⟨RX5, TX5, 53, "TrailMarkersModel", cf_X5, by decide, q3217, Or.inl rfl, tyX5_ok 20 (by decide), rfl, fun h9 => nomatch h9⟩
theorem fp_X5_163 : FP "TrailMarkersModel" 163 4 22 (tyX5 22) false := ⟨RX5, TX5, 53, "TrailMarkersModel", cf_X5, by decide, q3219, Or.inl rfl, tyX5_ok 22 (by decide), rfl, fun h9 => nomatch h9⟩
theorem fp_X5_166 : FP "TrailMarkersModel" 166 4 24 (tyX5 24) false := ⟨RX5, TX5, 53, "TrailMarkersModel", cf_X5, by decide, q3221, Or.inl rfl, tyX5_ok 24 (by decide), rfl, fun h9 => nomatch h9⟩
theorem m_X5_184 : MV "TrailMarkersModel" 184 yX5_leg cX5_leg 8 (Option.none : Option Jvm.ClassFile.FieldType) 4 := ⟨q3481, q3483, qs111, q146, q3484, by decide +kernel, by decide +kernel, by decide +kernel⟩
theorem fa_X5_141 : FA "TrailMarkersModel" 141 4 16 := ⟨RX5, TX5, 53, "TrailMarkersModel", cf_X5, by decide, q3213, Or.inl rfl⟩
theorem fa_X5_144 : FA "TrailMarkersModel" 144 4 17 := ⟨RX5, TX5, 53, "TrailMarkersModel", cf_X5, by decide, q3214, Or.inl rfl⟩
theorem fa_X5_138 : FA "TrailMarkersModel" 138 4 15 := ⟨RX5, TX5, 53, "TrailMarkersModel", cf_X5, by decide, q3212, Or.inl rfl⟩
theorem m_X5_192 : MV "TrailMarkersModel" 192 yX5_turns cX5_turns 10 (Option.none : Option Jvm.ClassFile.FieldType) 7 := ⟨q3489, q3491, qs113, q146, q3492, by decide +kernel, by decide +kernel, by decide +kernel⟩
theorem m_X5_195 : MV "TrailMarkersModel" 195 yX5_twice cX5_twice 8 (Option.none : Option Jvm.ClassFile.FieldType) 5 := ⟨q3501, q3503, qs116, q146, q3504, by decide +kernel, by decide +kernel, by decide +kernel⟩
theorem fp_X5_138 : FP "TrailMarkersModel" 138 4 15 (tyX5 15) false := ⟨RX5, TX5, 53, "TrailMarkersModel", cf_X5, by decide, q3212, Or.inl rfl, tyX5_ok 15 (by decide), rfl, fun h9 => nomatch h9⟩
theorem fp_X5_141 : FP "TrailMarkersModel" 141 4 16 (tyX5 16) false := ⟨RX5, TX5, 53, "TrailMarkersModel", cf_X5, by decide, q3213, Or.inl rfl, tyX5_ok 16 (by decide), rfl, fun h9 => nomatch h9⟩
theorem fp_X5_144 : FP "TrailMarkersModel" 144 4 17 (tyX5 17) false := ⟨RX5, TX5, 53, "TrailMarkersModel", cf_X5, by decide, q3214, Or.inl rfl, tyX5_ok 17 (by decide), rfl, fun h9 => nomatch h9⟩
theorem m_X5_154 : MV "TrailMarkersModel" 154 yX5_isFree cX5_isFree 3 (Option.some Jvm.ClassFile.FieldType.boolean) 2 := ⟨q3485, q3487, qs112, q146, q3488, by decide +kernel, by decide +kernel, by decide +kernel⟩
theorem m_X5_188 : MV "TrailMarkersModel" 188 yX5_found cX5_found 8 (Option.none : Option Jvm.ClassFile.FieldType) 7 := ⟨q3493, q3495, qs114, q146, q3496, by decide +kernel, by decide +kernel, by decide +kernel⟩
theorem fp_X5_178 : FP "TrailMarkersModel" 178 4 21 (tyX5 21) false := ⟨RX5, TX5, 53, "TrailMarkersModel", cf_X5, by decide, q3218, Or.inl rfl, tyX5_ok 21 (by decide), rfl, fun h9 => nomatch h9⟩
theorem fp_X5_181 : FP "TrailMarkersModel" 181 4 23 (tyX5 23) false := ⟨RX5, TX5, 53, "TrailMarkersModel", cf_X5, by decide, q3220, Or.inl rfl, tyX5_ok 23 (by decide), rfl, fun h9 => nomatch h9⟩
theorem fa_X5_48 : FA "TrailMarkersModel" 48 4 27 := ⟨RX5, TX5, 53, "TrailMarkersModel", cf_X5, by decide, q3224, Or.inl rfl⟩
theorem fa_X5_202 : FA "TrailMarkersModel" 202 4 34 := ⟨RX5, TX5, 53, "TrailMarkersModel", cf_X5, by decide, q3231, Or.inl rfl⟩
theorem fa_X5_51 : FA "TrailMarkersModel" 51 4 28 := ⟨RX5, TX5, 53, "TrailMarkersModel", cf_X5, by decide, q3225, Or.inl rfl⟩
theorem fa_X5_57 : FA "TrailMarkersModel" 57 4 30 := ⟨RX5, TX5, 53, "TrailMarkersModel", cf_X5, by decide, q3227, Or.inl rfl⟩
theorem fa_X5_54 : FA "TrailMarkersModel" 54 4 29 := ⟨RX5, TX5, 53, "TrailMarkersModel", cf_X5, by decide, q3226, Or.inl rfl⟩
theorem fa_X5_205 : FA "TrailMarkersModel" 205 4 35 := ⟨RX5, TX5, 53, "TrailMarkersModel", cf_X5, by decide, q3232, Or.inl rfl⟩
theorem m_X5_432 : MV "TrailMarkersModel" 432 yX5_comers cX5_comers 4 (Option.some Jvm.ClassFile.FieldType.int) 1 := ⟨q3514, q3516, qs118, q146, q3517, by decide +kernel, by decide +kernel, by decide +kernel⟩
theorem m_X5_435 : MV "TrailMarkersModel" 435 yX5_cell cX5_cell 2 (Option.some Jvm.ClassFile.FieldType.int) 1 := ⟨q3518, q3520, qs119, q146, q3521, by decide +kernel, by decide +kernel, by decide +kernel⟩
theorem m_X5_438 : MV "TrailMarkersModel" 438 yX5_right cX5_right 5 (Option.some Jvm.ClassFile.FieldType.int) 1 := ⟨q3530, q3532, qs120, q146, q3533, by decide +kernel, by decide +kernel, by decide +kernel⟩
theorem m_X5_441 : MV "TrailMarkersModel" 441 yX5_routeOf cX5_routeOf 3 (Option.some Jvm.ClassFile.FieldType.int) 2 := ⟨q3542, q3544, qs121, q146, q3545, by decide +kernel, by decide +kernel, by decide +kernel⟩
theorem m_X5_246 : MV "TrailMarkersModel" 246 yX5_ofRoute cX5_ofRoute 2 (Option.some Jvm.ClassFile.FieldType.int) 1 := ⟨q3546, q3548, qs122, q146, q3549, by decide +kernel, by decide +kernel, by decide +kernel⟩
theorem m_X5_240 : MV "TrailMarkersModel" 240 yX5_loopSteps cX5_loopSteps 3 (Option.some Jvm.ClassFile.FieldType.int) 0 := ⟨q3550, q3552, qs123, q146, q3553, by decide +kernel, by decide +kernel, by decide +kernel⟩
theorem fa_X5_217 : FA "TrailMarkersModel" 217 4 37 := ⟨RX5, TX5, 53, "TrailMarkersModel", cf_X5, by decide, q3234, Or.inl rfl⟩
theorem fa_X5_214 : FA "TrailMarkersModel" 214 4 36 := ⟨RX5, TX5, 53, "TrailMarkersModel", cf_X5, by decide, q3233, Or.inl rfl⟩
theorem m_X5_444 : MV "TrailMarkersModel" 444 yX5_told cX5_told 4 (Option.some Jvm.ClassFile.FieldType.int) 3 := ⟨q3558, q3560, qs124, q146, q3561, by decide +kernel, by decide +kernel, by decide +kernel⟩
theorem fa_X5_75 : FA "TrailMarkersModel" 75 4 51 := ⟨RX5, TX5, 53, "TrailMarkersModel", cf_X5, by decide, q3248, Or.inl rfl⟩
theorem m_X5_448 : MV "TrailMarkersModel" 448 yX5_marks cX5_marks 4 (Option.none : Option Jvm.ClassFile.FieldType) 2 := ⟨q3574, q3576, qs125, q146, q3577, by decide +kernel, by decide +kernel, by decide +kernel⟩
theorem fa_X5_78 : FA "TrailMarkersModel" 78 4 52 := ⟨RX5, TX5, 53, "TrailMarkersModel", cf_X5, by decide, q3249, Or.inl rfl⟩
theorem m_X5_452 : MV "TrailMarkersModel" 452 yX5_stopped cX5_stopped 6 (Option.some Jvm.ClassFile.FieldType.int) 2 := ⟨q3582, q3584, qs126, q146, q3585, by decide +kernel, by decide +kernel, by decide +kernel⟩
theorem m_X5_455 : MV "TrailMarkersModel" 455 yX5_tryOut cX5_tryOut 1 (Option.none : Option Jvm.ClassFile.FieldType) 0 := ⟨q3590, q3592, qs127, q146, q3593, by decide +kernel, by decide +kernel, by decide +kernel⟩
theorem m_X5_458 : MV "TrailMarkersModel" 458 yX5_switches cX5_switches 2 (Option.none : Option Jvm.ClassFile.FieldType) 1 := ⟨q3594, q3596, qs128, q146, q3597, by decide +kernel, by decide +kernel, by decide +kernel⟩
theorem m_X5_461 : MV "TrailMarkersModel" 461 yX5_fromBegin cX5_fromBegin 4 (Option.some Jvm.ClassFile.FieldType.int) 2 := ⟨q3598, q3600, qs129, q146, q3601, by decide +kernel, by decide +kernel, by decide +kernel⟩
theorem m_X5_464 : MV "TrailMarkersModel" 464 yX5_laidBack cX5_laidBack 2 (Option.some Jvm.ClassFile.FieldType.int) 1 := ⟨q3602, q3604, qs130, q146, q3605, by decide +kernel, by decide +kernel, by decide +kernel⟩
theorem fa_X5_13 : FA "TrailMarkersModel" 13 4 1 := ⟨RX5, TX5, 53, "TrailMarkersModel", cf_X5, by decide, q3198, Or.inl rfl⟩
theorem m_X5_467 : MV "TrailMarkersModel" 467 yX5_extreme cX5_extreme 8 (Option.some Jvm.ClassFile.FieldType.int) 3 := ⟨q3614, q3616, qs131, q146, q3617, by decide +kernel, by decide +kernel, by decide +kernel⟩
theorem m_X5_488 : MV "TrailMarkersModel" 488 yX5_areSame cX5_areSame 3 (Option.some Jvm.ClassFile.FieldType.boolean) 2 := ⟨q3652, q3654, qs134, q146, q3655, by decide +kernel, by decide +kernel, by decide +kernel⟩
theorem fa_X5_32 : FA "TrailMarkersModel" 32 4 9 := ⟨RX5, TX5, 53, "TrailMarkersModel", cf_X5, by decide, q3206, Or.inl rfl⟩
theorem fa_X5_480 : FA "TrailMarkersModel" 480 4 11 := ⟨RX5, TX5, 53, "TrailMarkersModel", cf_X5, by decide, q3208, Or.inl rfl⟩
theorem fp_X5_480 : FP "TrailMarkersModel" 480 4 11 (tyX5 11) false := ⟨RX5, TX5, 53, "TrailMarkersModel", cf_X5, by decide, q3208, Or.inl rfl, tyX5_ok 11 (by decide), rfl, fun h9 => nomatch h9⟩
