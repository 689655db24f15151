set_option maxRecDepth 100000
abbrev cX1_lay : ByteArray := prog_1_method_6_code
def yX1_lay : MethodName := ⟨RX1, "lay", "([II)V"⟩
def dkwX1_lay_2 : List UInt8 := [177]
abbrev dktX1_lay_2 : List UInt8 := dkwX1_lay_2 ++ []
def dkwX1_lay_1 : List UInt8 := [46, 16, 100, 112, 28, 43, 29, 4, 96, 46, 3, 183, 0, 62, 182, 0, 65, 87, 132, 3, 2, 167, 255, 213]
abbrev dktX1_lay_1 : List UInt8 := dkwX1_lay_1 ++ dktX1_lay_2
def dkwX1_lay_0 : List UInt8 := [3, 62, 29, 43, 190, 162, 0, 43, 42, 180, 0, 14, 187, 0, 60, 89, 43, 29, 46, 16, 100, 108, 43, 29]
abbrev dktX1_lay_0 : List UInt8 := dkwX1_lay_0 ++ dktX1_lay_1
theorem dksX1_lay_0 : cX1_lay.data.toList.drop 0 = dktX1_lay_0 := by decide +kernel
theorem dksX1_lay_1 : cX1_lay.data.toList.drop 24 = dktX1_lay_1 := dk_seg dksX1_lay_0 24 rfl rfl
theorem dksX1_lay_2 : cX1_lay.data.toList.drop 48 = dktX1_lay_2 := dk_seg dksX1_lay_1 24 rfl rfl
theorem dX1_lay_0 : decode cX1_lay 0 = .ok (.iconst 0, 1) := dk_3 (dk_at dksX1_lay_0 0 rfl rfl)
theorem dX1_lay_1 : decode cX1_lay 1 = .ok (.istore_n 3, 1) := dk_62 (dk_at dksX1_lay_0 1 rfl rfl)
theorem dX1_lay_2 : decode cX1_lay 2 = .ok (.iload_n 3, 1) := dk_29 (dk_at dksX1_lay_0 2 rfl rfl)
theorem dX1_lay_3 : decode cX1_lay 3 = .ok (.aload_n 1, 1) := dk_43 (dk_at dksX1_lay_0 3 rfl rfl)
theorem dX1_lay_4 : decode cX1_lay 4 = .ok (.arraylength, 1) := dk_190 (dk_at dksX1_lay_0 4 rfl rfl)
theorem dX1_lay_5 : decode cX1_lay 5 = .ok (.if_icmp .ge 43, 3) := dk_162 0 43 (dk_at dksX1_lay_0 5 rfl rfl)
theorem dX1_lay_8 : decode cX1_lay 8 = .ok (.aload_n 0, 1) := dk_42 (dk_at dksX1_lay_0 8 rfl rfl)
theorem dX1_lay_9 : decode cX1_lay 9 = .ok (.getfield 14, 3) := dk_180 0 14 (dk_at dksX1_lay_0 9 rfl rfl)
theorem dX1_lay_12 : decode cX1_lay 12 = .ok (.new 60, 3) := dk_187 0 60 (dk_at dksX1_lay_0 12 rfl rfl)
theorem dX1_lay_15 : decode cX1_lay 15 = .ok (.dup, 1) := dk_89 (dk_at dksX1_lay_0 15 rfl rfl)
theorem dX1_lay_16 : decode cX1_lay 16 = .ok (.aload_n 1, 1) := dk_43 (dk_at dksX1_lay_0 16 rfl rfl)
theorem dX1_lay_17 : decode cX1_lay 17 = .ok (.iload_n 3, 1) := dk_29 (dk_at dksX1_lay_0 17 rfl rfl)
theorem dX1_lay_18 : decode cX1_lay 18 = .ok (.iaload, 1) := dk_46 (dk_at dksX1_lay_0 18 rfl rfl)
theorem dX1_lay_19 : decode cX1_lay 19 = .ok (.bipush 100, 2) := dk_16 100 (dk_at dksX1_lay_0 19 rfl rfl)
theorem dX1_lay_21 : decode cX1_lay 21 = .ok (.idiv, 1) := dk_108 (dk_at dksX1_lay_0 21 rfl rfl)
theorem dX1_lay_22 : decode cX1_lay 22 = .ok (.aload_n 1, 1) := dk_43 (dk_at dksX1_lay_0 22 rfl rfl)
theorem dX1_lay_23 : decode cX1_lay 23 = .ok (.iload_n 3, 1) := dk_29 (dk_at dksX1_lay_0 23 rfl rfl)
theorem dX1_lay_24 : decode cX1_lay 24 = .ok (.iaload, 1) := dk_46 (dk_at dksX1_lay_1 0 rfl rfl)
theorem dX1_lay_25 : decode cX1_lay 25 = .ok (.bipush 100, 2) := dk_16 100 (dk_at dksX1_lay_1 1 rfl rfl)
theorem dX1_lay_27 : decode cX1_lay 27 = .ok (.irem, 1) := dk_112 (dk_at dksX1_lay_1 3 rfl rfl)
theorem dX1_lay_28 : decode cX1_lay 28 = .ok (.iload_n 2, 1) := dk_28 (dk_at dksX1_lay_1 4 rfl rfl)
theorem dX1_lay_29 : decode cX1_lay 29 = .ok (.aload_n 1, 1) := dk_43 (dk_at dksX1_lay_1 5 rfl rfl)
theorem dX1_lay_30 : decode cX1_lay 30 = .ok (.iload_n 3, 1) := dk_29 (dk_at dksX1_lay_1 6 rfl rfl)
theorem dX1_lay_31 : decode cX1_lay 31 = .ok (.iconst 1, 1) := dk_4 (dk_at dksX1_lay_1 7 rfl rfl)
theorem dX1_lay_32 : decode cX1_lay 32 = .ok (.iadd, 1) := dk_96 (dk_at dksX1_lay_1 8 rfl rfl)
theorem dX1_lay_33 : decode cX1_lay 33 = .ok (.iaload, 1) := dk_46 (dk_at dksX1_lay_1 9 rfl rfl)
theorem dX1_lay_34 : decode cX1_lay 34 = .ok (.iconst 0, 1) := dk_3 (dk_at dksX1_lay_1 10 rfl rfl)
theorem dX1_lay_35 : decode cX1_lay 35 = .ok (.invokespecial 62, 3) := dk_183 0 62 (dk_at dksX1_lay_1 11 rfl rfl)
theorem dX1_lay_38 : decode cX1_lay 38 = .ok (.invokevirtual 65, 3) := dk_182 0 65 (dk_at dksX1_lay_1 14 rfl rfl)
theorem dX1_lay_41 : decode cX1_lay 41 = .ok (.pop, 1) := dk_87 (dk_at dksX1_lay_1 17 rfl rfl)
theorem dX1_lay_42 : decode cX1_lay 42 = .ok (.iinc 3 2, 3) := dk_132 3 2 (dk_at dksX1_lay_1 18 rfl rfl)
theorem dX1_lay_45 : decode cX1_lay 45 = .ok (.goto (-43), 3) := dk_167 255 213 (dk_at dksX1_lay_1 21 rfl rfl)
theorem dX1_lay_48 : decode cX1_lay 48 = .ok (.return_, 1) := dk_177 (dk_at dksX1_lay_2 0 rfl rfl)
abbrev cX1_init : ByteArray := prog_1_method_5_code
def yX1_init : MethodName := ⟨RX1, "<init>", "()V"⟩
def dkwX1_init_10 : List UInt8 := [18, 29, 181, 0, 31, 177]
abbrev dktX1_init_10 : List UInt8 := dkwX1_init_10 ++ []
def dkwX1_init_9 : List UInt8 := [180, 0, 14, 8, 3, 182, 0, 54, 42, 180, 0, 14, 5, 16, 6, 182, 0, 54, 167, 0, 10, 76, 42]
abbrev dktX1_init_9 : List UInt8 := dkwX1_init_9 ++ dktX1_init_10
def dkwX1_init_8 : List UInt8 := [42, 43, 3, 182, 0, 46, 42, 44, 4, 182, 0, 46, 42, 180, 0, 14, 5, 4, 182, 0, 50, 42]
abbrev dktX1_init_8 : List UInt8 := dkwX1_init_8 ++ dktX1_init_9
def dkwX1_init_7 : List UInt8 := [16, 8, 17, 0, 205, 79, 89, 16, 9, 4, 79, 89, 16, 10, 17, 1, 249, 79, 89, 16, 11, 7, 79, 77]
abbrev dktX1_init_7 : List UInt8 := dkwX1_init_7 ++ dktX1_init_8
def dkwX1_init_6 : List UInt8 := [6, 4, 79, 89, 7, 16, 107, 79, 89, 8, 3, 79, 89, 16, 6, 16, 105, 79, 89, 16, 7, 4, 79, 89]
abbrev dktX1_init_6 : List UInt8 := dkwX1_init_6 ++ dktX1_init_7
def dkwX1_init_5 : List UInt8 := [16, 9, 7, 79, 76, 16, 12, 188, 10, 89, 3, 16, 9, 79, 89, 4, 3, 79, 89, 5, 16, 7, 79, 89]
abbrev dktX1_init_5 : List UInt8 := dkwX1_init_5 ++ dktX1_init_6
def dkwX1_init_4 : List UInt8 := [89, 8, 4, 79, 89, 16, 6, 17, 2, 91, 79, 89, 16, 7, 5, 79, 89, 16, 8, 17, 2, 93, 79, 89]
abbrev dktX1_init_4 : List UInt8 := dkwX1_init_4 ++ dktX1_init_5
def dkwX1_init_3 : List UInt8 := [3, 16, 101, 79, 89, 4, 4, 79, 89, 5, 17, 1, 145, 79, 89, 6, 5, 79, 89, 7, 17, 1, 147, 79]
abbrev dktX1_init_3 : List UInt8 := dkwX1_init_3 ++ dktX1_init_4
def dkwX1_init_2 : List UInt8 := [42, 187, 0, 35, 89, 183, 0, 37, 181, 0, 38, 42, 5, 189, 0, 9, 181, 0, 42, 16, 10, 188, 10, 89]
abbrev dktX1_init_2 : List UInt8 := dkwX1_init_2 ++ dktX1_init_3
def dkwX1_init_1 : List UInt8 := [17, 2, 188, 188, 8, 181, 0, 18, 42, 2, 181, 0, 22, 42, 2, 181, 0, 26, 42, 18, 29, 181, 0, 31]
abbrev dktX1_init_1 : List UInt8 := dkwX1_init_1 ++ dktX1_init_2
def dkwX1_init_0 : List UInt8 := [42, 183, 0, 3, 42, 187, 0, 9, 89, 16, 12, 16, 10, 8, 4, 183, 0, 11, 181, 0, 14, 42]
abbrev dktX1_init_0 : List UInt8 := dkwX1_init_0 ++ dktX1_init_1
theorem dksX1_init_0 : cX1_init.data.toList.drop 0 = dktX1_init_0 := by decide +kernel
theorem dksX1_init_1 : cX1_init.data.toList.drop 22 = dktX1_init_1 := dk_seg dksX1_init_0 22 rfl rfl
theorem dksX1_init_2 : cX1_init.data.toList.drop 46 = dktX1_init_2 := dk_seg dksX1_init_1 24 rfl rfl
theorem dksX1_init_3 : cX1_init.data.toList.drop 70 = dktX1_init_3 := dk_seg dksX1_init_2 24 rfl rfl
theorem dksX1_init_4 : cX1_init.data.toList.drop 94 = dktX1_init_4 := dk_seg dksX1_init_3 24 rfl rfl
theorem dksX1_init_5 : cX1_init.data.toList.drop 118 = dktX1_init_5 := dk_seg dksX1_init_4 24 rfl rfl
theorem dksX1_init_6 : cX1_init.data.toList.drop 142 = dktX1_init_6 := dk_seg dksX1_init_5 24 rfl rfl
theorem dksX1_init_7 : cX1_init.data.toList.drop 166 = dktX1_init_7 := dk_seg dksX1_init_6 24 rfl rfl
theorem dksX1_init_8 : cX1_init.data.toList.drop 190 = dktX1_init_8 := dk_seg dksX1_init_7 24 rfl rfl
theorem dksX1_init_9 : cX1_init.data.toList.drop 212 = dktX1_init_9 := dk_seg dksX1_init_8 22 rfl rfl
theorem dksX1_init_10 : cX1_init.data.toList.drop 235 = dktX1_init_10 := dk_seg dksX1_init_9 23 rfl rfl
theorem dX1_init_0 : decode cX1_init 0 = .ok (.aload_n 0, 1) := dk_42 (dk_at dksX1_init_0 0 rfl rfl)
theorem dX1_init_1 : decode cX1_init 1 = .ok (.invokespecial 3, 3) := dk_183 0 3 (dk_at dksX1_init_0 1 rfl rfl)
theorem dX1_init_4 : decode cX1_init 4 = .ok (.aload_n 0, 1) := dk_42 (dk_at dksX1_init_0 4 rfl rfl)
theorem dX1_init_5 : decode cX1_init 5 = .ok (.new 9, 3) := dk_187 0 9 (dk_at dksX1_init_0 5 rfl rfl)
theorem dX1_init_8 : decode cX1_init 8 = .ok (.dup, 1) := dk_89 (dk_at dksX1_init_0 8 rfl rfl)
theorem dX1_init_9 : decode cX1_init 9 = .ok (.bipush 12, 2) := dk_16 12 (dk_at dksX1_init_0 9 rfl rfl)
theorem dX1_init_11 : decode cX1_init 11 = .ok (.bipush 10, 2) := dk_16 10 (dk_at dksX1_init_0 11 rfl rfl)
theorem dX1_init_13 : decode cX1_init 13 = .ok (.iconst 5, 1) := dk_8 (dk_at dksX1_init_0 13 rfl rfl)
theorem dX1_init_14 : decode cX1_init 14 = .ok (.iconst 1, 1) := dk_4 (dk_at dksX1_init_0 14 rfl rfl)
theorem dX1_init_15 : decode cX1_init 15 = .ok (.invokespecial 11, 3) := dk_183 0 11 (dk_at dksX1_init_0 15 rfl rfl)
theorem dX1_init_18 : decode cX1_init 18 = .ok (.putfield 14, 3) := dk_181 0 14 (dk_at dksX1_init_0 18 rfl rfl)
theorem dX1_init_21 : decode cX1_init 21 = .ok (.aload_n 0, 1) := dk_42 (dk_at dksX1_init_0 21 rfl rfl)
theorem dX1_init_22 : decode cX1_init 22 = .ok (.sipush 700, 3) := dk_17 2 188 (dk_at dksX1_init_1 0 rfl rfl)
theorem dX1_init_25 : decode cX1_init 25 = .ok (.newarray .byte, 2) := dk_188_8 (dk_at dksX1_init_1 3 rfl rfl)
theorem dX1_init_27 : decode cX1_init 27 = .ok (.putfield 18, 3) := dk_181 0 18 (dk_at dksX1_init_1 5 rfl rfl)
theorem dX1_init_30 : decode cX1_init 30 = .ok (.aload_n 0, 1) := dk_42 (dk_at dksX1_init_1 8 rfl rfl)
theorem dX1_init_31 : decode cX1_init 31 = .ok (.iconst (-1), 1) := dk_2 (dk_at dksX1_init_1 9 rfl rfl)
theorem dX1_init_32 : decode cX1_init 32 = .ok (.putfield 22, 3) := dk_181 0 22 (dk_at dksX1_init_1 10 rfl rfl)
theorem dX1_init_35 : decode cX1_init 35 = .ok (.aload_n 0, 1) := dk_42 (dk_at dksX1_init_1 13 rfl rfl)
theorem dX1_init_36 : decode cX1_init 36 = .ok (.iconst (-1), 1) := dk_2 (dk_at dksX1_init_1 14 rfl rfl)
theorem dX1_init_37 : decode cX1_init 37 = .ok (.putfield 26, 3) := dk_181 0 26 (dk_at dksX1_init_1 15 rfl rfl)
theorem dX1_init_40 : decode cX1_init 40 = .ok (.aload_n 0, 1) := dk_42 (dk_at dksX1_init_1 18 rfl rfl)
theorem dX1_init_41 : decode cX1_init 41 = .ok (.ldc 29, 2) := dk_18 29 (dk_at dksX1_init_1 19 rfl rfl)
theorem dX1_init_43 : decode cX1_init 43 = .ok (.putfield 31, 3) := dk_181 0 31 (dk_at dksX1_init_1 21 rfl rfl)
theorem dX1_init_46 : decode cX1_init 46 = .ok (.aload_n 0, 1) := dk_42 (dk_at dksX1_init_2 0 rfl rfl)
theorem dX1_init_47 : decode cX1_init 47 = .ok (.new 35, 3) := dk_187 0 35 (dk_at dksX1_init_2 1 rfl rfl)
theorem dX1_init_50 : decode cX1_init 50 = .ok (.dup, 1) := dk_89 (dk_at dksX1_init_2 4 rfl rfl)
theorem dX1_init_51 : decode cX1_init 51 = .ok (.invokespecial 37, 3) := dk_183 0 37 (dk_at dksX1_init_2 5 rfl rfl)
theorem dX1_init_54 : decode cX1_init 54 = .ok (.putfield 38, 3) := dk_181 0 38 (dk_at dksX1_init_2 8 rfl rfl)
theorem dX1_init_57 : decode cX1_init 57 = .ok (.aload_n 0, 1) := dk_42 (dk_at dksX1_init_2 11 rfl rfl)
theorem dX1_init_58 : decode cX1_init 58 = .ok (.iconst 2, 1) := dk_5 (dk_at dksX1_init_2 12 rfl rfl)
theorem dX1_init_59 : decode cX1_init 59 = .ok (.anewarray 9, 3) := dk_189 0 9 (dk_at dksX1_init_2 13 rfl rfl)
theorem dX1_init_62 : decode cX1_init 62 = .ok (.putfield 42, 3) := dk_181 0 42 (dk_at dksX1_init_2 16 rfl rfl)
theorem dX1_init_65 : decode cX1_init 65 = .ok (.bipush 10, 2) := dk_16 10 (dk_at dksX1_init_2 19 rfl rfl)
theorem dX1_init_67 : decode cX1_init 67 = .ok (.newarray .int, 2) := dk_188_10 (dk_at dksX1_init_2 21 rfl rfl)
theorem dX1_init_69 : decode cX1_init 69 = .ok (.dup, 1) := dk_89 (dk_at dksX1_init_2 23 rfl rfl)
theorem dX1_init_70 : decode cX1_init 70 = .ok (.iconst 0, 1) := dk_3 (dk_at dksX1_init_3 0 rfl rfl)
theorem dX1_init_71 : decode cX1_init 71 = .ok (.bipush 101, 2) := dk_16 101 (dk_at dksX1_init_3 1 rfl rfl)
theorem dX1_init_73 : decode cX1_init 73 = .ok (.iastore, 1) := dk_79 (dk_at dksX1_init_3 3 rfl rfl)
theorem dX1_init_74 : decode cX1_init 74 = .ok (.dup, 1) := dk_89 (dk_at dksX1_init_3 4 rfl rfl)
theorem dX1_init_75 : decode cX1_init 75 = .ok (.iconst 1, 1) := dk_4 (dk_at dksX1_init_3 5 rfl rfl)
theorem dX1_init_76 : decode cX1_init 76 = .ok (.iconst 1, 1) := dk_4 (dk_at dksX1_init_3 6 rfl rfl)
theorem dX1_init_77 : decode cX1_init 77 = .ok (.iastore, 1) := dk_79 (dk_at dksX1_init_3 7 rfl rfl)
theorem dX1_init_78 : decode cX1_init 78 = .ok (.dup, 1) := dk_89 (dk_at dksX1_init_3 8 rfl rfl)
theorem dX1_init_79 : decode cX1_init 79 = .ok (.iconst 2, 1) := dk_5 (dk_at dksX1_init_3 9 rfl rfl)
theorem dX1_init_80 : decode cX1_init 80 = .ok (.sipush 401, 3) := dk_17 1 145 (dk_at dksX1_init_3 10 rfl rfl)
theorem dX1_init_83 : decode cX1_init 83 = .ok (.iastore, 1) := dk_79 (dk_at dksX1_init_3 13 rfl rfl)
theorem dX1_init_84 : decode cX1_init 84 = .ok (.dup, 1) := dk_89 (dk_at dksX1_init_3 14 rfl rfl)
theorem dX1_init_85 : decode cX1_init 85 = .ok (.iconst 3, 1) := dk_6 (dk_at dksX1_init_3 15 rfl rfl)
theorem dX1_init_86 : decode cX1_init 86 = .ok (.iconst 2, 1) := dk_5 (dk_at dksX1_init_3 16 rfl rfl)
theorem dX1_init_87 : decode cX1_init 87 = .ok (.iastore, 1) := dk_79 (dk_at dksX1_init_3 17 rfl rfl)
theorem dX1_init_88 : decode cX1_init 88 = .ok (.dup, 1) := dk_89 (dk_at dksX1_init_3 18 rfl rfl)
theorem dX1_init_89 : decode cX1_init 89 = .ok (.iconst 4, 1) := dk_7 (dk_at dksX1_init_3 19 rfl rfl)
theorem dX1_init_90 : decode cX1_init 90 = .ok (.sipush 403, 3) := dk_17 1 147 (dk_at dksX1_init_3 20 rfl rfl)
theorem dX1_init_93 : decode cX1_init 93 = .ok (.iastore, 1) := dk_79 (dk_at dksX1_init_3 23 rfl rfl)
theorem dX1_init_94 : decode cX1_init 94 = .ok (.dup, 1) := dk_89 (dk_at dksX1_init_4 0 rfl rfl)
theorem dX1_init_95 : decode cX1_init 95 = .ok (.iconst 5, 1) := dk_8 (dk_at dksX1_init_4 1 rfl rfl)
theorem dX1_init_96 : decode cX1_init 96 = .ok (.iconst 1, 1) := dk_4 (dk_at dksX1_init_4 2 rfl rfl)
theorem dX1_init_97 : decode cX1_init 97 = .ok (.iastore, 1) := dk_79 (dk_at dksX1_init_4 3 rfl rfl)
theorem dX1_init_98 : decode cX1_init 98 = .ok (.dup, 1) := dk_89 (dk_at dksX1_init_4 4 rfl rfl)
theorem dX1_init_99 : decode cX1_init 99 = .ok (.bipush 6, 2) := dk_16 6 (dk_at dksX1_init_4 5 rfl rfl)
theorem dX1_init_101 : decode cX1_init 101 = .ok (.sipush 603, 3) := dk_17 2 91 (dk_at dksX1_init_4 7 rfl rfl)
theorem dX1_init_104 : decode cX1_init 104 = .ok (.iastore, 1) := dk_79 (dk_at dksX1_init_4 10 rfl rfl)
theorem dX1_init_105 : decode cX1_init 105 = .ok (.dup, 1) := dk_89 (dk_at dksX1_init_4 11 rfl rfl)
theorem dX1_init_106 : decode cX1_init 106 = .ok (.bipush 7, 2) := dk_16 7 (dk_at dksX1_init_4 12 rfl rfl)
theorem dX1_init_108 : decode cX1_init 108 = .ok (.iconst 2, 1) := dk_5 (dk_at dksX1_init_4 14 rfl rfl)
theorem dX1_init_109 : decode cX1_init 109 = .ok (.iastore, 1) := dk_79 (dk_at dksX1_init_4 15 rfl rfl)
theorem dX1_init_110 : decode cX1_init 110 = .ok (.dup, 1) := dk_89 (dk_at dksX1_init_4 16 rfl rfl)
theorem dX1_init_111 : decode cX1_init 111 = .ok (.bipush 8, 2) := dk_16 8 (dk_at dksX1_init_4 17 rfl rfl)
theorem dX1_init_113 : decode cX1_init 113 = .ok (.sipush 605, 3) := dk_17 2 93 (dk_at dksX1_init_4 19 rfl rfl)
theorem dX1_init_116 : decode cX1_init 116 = .ok (.iastore, 1) := dk_79 (dk_at dksX1_init_4 22 rfl rfl)
theorem dX1_init_117 : decode cX1_init 117 = .ok (.dup, 1) := dk_89 (dk_at dksX1_init_4 23 rfl rfl)
theorem dX1_init_118 : decode cX1_init 118 = .ok (.bipush 9, 2) := dk_16 9 (dk_at dksX1_init_5 0 rfl rfl)
theorem dX1_init_120 : decode cX1_init 120 = .ok (.iconst 4, 1) := dk_7 (dk_at dksX1_init_5 2 rfl rfl)
theorem dX1_init_121 : decode cX1_init 121 = .ok (.iastore, 1) := dk_79 (dk_at dksX1_init_5 3 rfl rfl)
theorem dX1_init_122 : decode cX1_init 122 = .ok (.astore_n 1, 1) := dk_76 (dk_at dksX1_init_5 4 rfl rfl)
theorem dX1_init_123 : decode cX1_init 123 = .ok (.bipush 12, 2) := dk_16 12 (dk_at dksX1_init_5 5 rfl rfl)
theorem dX1_init_125 : decode cX1_init 125 = .ok (.newarray .int, 2) := dk_188_10 (dk_at dksX1_init_5 7 rfl rfl)
theorem dX1_init_127 : decode cX1_init 127 = .ok (.dup, 1) := dk_89 (dk_at dksX1_init_5 9 rfl rfl)
theorem dX1_init_128 : decode cX1_init 128 = .ok (.iconst 0, 1) := dk_3 (dk_at dksX1_init_5 10 rfl rfl)
theorem dX1_init_129 : decode cX1_init 129 = .ok (.bipush 9, 2) := dk_16 9 (dk_at dksX1_init_5 11 rfl rfl)
theorem dX1_init_131 : decode cX1_init 131 = .ok (.iastore, 1) := dk_79 (dk_at dksX1_init_5 13 rfl rfl)
theorem dX1_init_132 : decode cX1_init 132 = .ok (.dup, 1) := dk_89 (dk_at dksX1_init_5 14 rfl rfl)
theorem dX1_init_133 : decode cX1_init 133 = .ok (.iconst 1, 1) := dk_4 (dk_at dksX1_init_5 15 rfl rfl)
theorem dX1_init_134 : decode cX1_init 134 = .ok (.iconst 0, 1) := dk_3 (dk_at dksX1_init_5 16 rfl rfl)
theorem dX1_init_135 : decode cX1_init 135 = .ok (.iastore, 1) := dk_79 (dk_at dksX1_init_5 17 rfl rfl)
theorem dX1_init_136 : decode cX1_init 136 = .ok (.dup, 1) := dk_89 (dk_at dksX1_init_5 18 rfl rfl)
theorem dX1_init_137 : decode cX1_init 137 = .ok (.iconst 2, 1) := dk_5 (dk_at dksX1_init_5 19 rfl rfl)
theorem dX1_init_138 : decode cX1_init 138 = .ok (.bipush 7, 2) := dk_16 7 (dk_at dksX1_init_5 20 rfl rfl)
theorem dX1_init_140 : decode cX1_init 140 = .ok (.iastore, 1) := dk_79 (dk_at dksX1_init_5 22 rfl rfl)
theorem dX1_init_141 : decode cX1_init 141 = .ok (.dup, 1) := dk_89 (dk_at dksX1_init_5 23 rfl rfl)
theorem dX1_init_142 : decode cX1_init 142 = .ok (.iconst 3, 1) := dk_6 (dk_at dksX1_init_6 0 rfl rfl)
theorem dX1_init_143 : decode cX1_init 143 = .ok (.iconst 1, 1) := dk_4 (dk_at dksX1_init_6 1 rfl rfl)
theorem dX1_init_144 : decode cX1_init 144 = .ok (.iastore, 1) := dk_79 (dk_at dksX1_init_6 2 rfl rfl)
theorem dX1_init_145 : decode cX1_init 145 = .ok (.dup, 1) := dk_89 (dk_at dksX1_init_6 3 rfl rfl)
theorem dX1_init_146 : decode cX1_init 146 = .ok (.iconst 4, 1) := dk_7 (dk_at dksX1_init_6 4 rfl rfl)
theorem dX1_init_147 : decode cX1_init 147 = .ok (.bipush 107, 2) := dk_16 107 (dk_at dksX1_init_6 5 rfl rfl)
theorem dX1_init_149 : decode cX1_init 149 = .ok (.iastore, 1) := dk_79 (dk_at dksX1_init_6 7 rfl rfl)
theorem dX1_init_150 : decode cX1_init 150 = .ok (.dup, 1) := dk_89 (dk_at dksX1_init_6 8 rfl rfl)
theorem dX1_init_151 : decode cX1_init 151 = .ok (.iconst 5, 1) := dk_8 (dk_at dksX1_init_6 9 rfl rfl)
theorem dX1_init_152 : decode cX1_init 152 = .ok (.iconst 0, 1) := dk_3 (dk_at dksX1_init_6 10 rfl rfl)
theorem dX1_init_153 : decode cX1_init 153 = .ok (.iastore, 1) := dk_79 (dk_at dksX1_init_6 11 rfl rfl)
theorem dX1_init_154 : decode cX1_init 154 = .ok (.dup, 1) := dk_89 (dk_at dksX1_init_6 12 rfl rfl)
theorem dX1_init_155 : decode cX1_init 155 = .ok (.bipush 6, 2) := dk_16 6 (dk_at dksX1_init_6 13 rfl rfl)
theorem dX1_init_157 : decode cX1_init 157 = .ok (.bipush 105, 2) := dk_16 105 (dk_at dksX1_init_6 15 rfl rfl)
theorem dX1_init_159 : decode cX1_init 159 = .ok (.iastore, 1) := dk_79 (dk_at dksX1_init_6 17 rfl rfl)
theorem dX1_init_160 : decode cX1_init 160 = .ok (.dup, 1) := dk_89 (dk_at dksX1_init_6 18 rfl rfl)
theorem dX1_init_161 : decode cX1_init 161 = .ok (.bipush 7, 2) := dk_16 7 (dk_at dksX1_init_6 19 rfl rfl)
theorem dX1_init_163 : decode cX1_init 163 = .ok (.iconst 1, 1) := dk_4 (dk_at dksX1_init_6 21 rfl rfl)
theorem dX1_init_164 : decode cX1_init 164 = .ok (.iastore, 1) := dk_79 (dk_at dksX1_init_6 22 rfl rfl)
theorem dX1_init_165 : decode cX1_init 165 = .ok (.dup, 1) := dk_89 (dk_at dksX1_init_6 23 rfl rfl)
theorem dX1_init_166 : decode cX1_init 166 = .ok (.bipush 8, 2) := dk_16 8 (dk_at dksX1_init_7 0 rfl rfl)
theorem dX1_init_168 : decode cX1_init 168 = .ok (.sipush 205, 3) := dk_17 0 205 (dk_at dksX1_init_7 2 rfl rfl)
theorem dX1_init_171 : decode cX1_init 171 = .ok (.iastore, 1) := dk_79 (dk_at dksX1_init_7 5 rfl rfl)
theorem dX1_init_172 : decode cX1_init 172 = .ok (.dup, 1) := dk_89 (dk_at dksX1_init_7 6 rfl rfl)
theorem dX1_init_173 : decode cX1_init 173 = .ok (.bipush 9, 2) := dk_16 9 (dk_at dksX1_init_7 7 rfl rfl)
theorem dX1_init_175 : decode cX1_init 175 = .ok (.iconst 1, 1) := dk_4 (dk_at dksX1_init_7 9 rfl rfl)
theorem dX1_init_176 : decode cX1_init 176 = .ok (.iastore, 1) := dk_79 (dk_at dksX1_init_7 10 rfl rfl)
theorem dX1_init_177 : decode cX1_init 177 = .ok (.dup, 1) := dk_89 (dk_at dksX1_init_7 11 rfl rfl)
theorem dX1_init_178 : decode cX1_init 178 = .ok (.bipush 10, 2) := dk_16 10 (dk_at dksX1_init_7 12 rfl rfl)
theorem dX1_init_180 : decode cX1_init 180 = .ok (.sipush 505, 3) := dk_17 1 249 (dk_at dksX1_init_7 14 rfl rfl)
theorem dX1_init_183 : decode cX1_init 183 = .ok (.iastore, 1) := dk_79 (dk_at dksX1_init_7 17 rfl rfl)
theorem dX1_init_184 : decode cX1_init 184 = .ok (.dup, 1) := dk_89 (dk_at dksX1_init_7 18 rfl rfl)
theorem dX1_init_185 : decode cX1_init 185 = .ok (.bipush 11, 2) := dk_16 11 (dk_at dksX1_init_7 19 rfl rfl)
theorem dX1_init_187 : decode cX1_init 187 = .ok (.iconst 4, 1) := dk_7 (dk_at dksX1_init_7 21 rfl rfl)
theorem dX1_init_188 : decode cX1_init 188 = .ok (.iastore, 1) := dk_79 (dk_at dksX1_init_7 22 rfl rfl)
theorem dX1_init_189 : decode cX1_init 189 = .ok (.astore_n 2, 1) := dk_77 (dk_at dksX1_init_7 23 rfl rfl)
theorem dX1_init_190 : decode cX1_init 190 = .ok (.aload_n 0, 1) := dk_42 (dk_at dksX1_init_8 0 rfl rfl)
theorem dX1_init_191 : decode cX1_init 191 = .ok (.aload_n 1, 1) := dk_43 (dk_at dksX1_init_8 1 rfl rfl)
theorem dX1_init_192 : decode cX1_init 192 = .ok (.iconst 0, 1) := dk_3 (dk_at dksX1_init_8 2 rfl rfl)
theorem dX1_init_193 : decode cX1_init 193 = .ok (.invokevirtual 46, 3) := dk_182 0 46 (dk_at dksX1_init_8 3 rfl rfl)
theorem dX1_init_196 : decode cX1_init 196 = .ok (.aload_n 0, 1) := dk_42 (dk_at dksX1_init_8 6 rfl rfl)
theorem dX1_init_197 : decode cX1_init 197 = .ok (.aload_n 2, 1) := dk_44 (dk_at dksX1_init_8 7 rfl rfl)
theorem dX1_init_198 : decode cX1_init 198 = .ok (.iconst 1, 1) := dk_4 (dk_at dksX1_init_8 8 rfl rfl)
theorem dX1_init_199 : decode cX1_init 199 = .ok (.invokevirtual 46, 3) := dk_182 0 46 (dk_at dksX1_init_8 9 rfl rfl)
theorem dX1_init_202 : decode cX1_init 202 = .ok (.aload_n 0, 1) := dk_42 (dk_at dksX1_init_8 12 rfl rfl)
theorem dX1_init_203 : decode cX1_init 203 = .ok (.getfield 14, 3) := dk_180 0 14 (dk_at dksX1_init_8 13 rfl rfl)
theorem dX1_init_206 : decode cX1_init 206 = .ok (.iconst 2, 1) := dk_5 (dk_at dksX1_init_8 16 rfl rfl)
theorem dX1_init_207 : decode cX1_init 207 = .ok (.iconst 1, 1) := dk_4 (dk_at dksX1_init_8 17 rfl rfl)
theorem dX1_init_208 : decode cX1_init 208 = .ok (.invokevirtual 50, 3) := dk_182 0 50 (dk_at dksX1_init_8 18 rfl rfl)
theorem dX1_init_211 : decode cX1_init 211 = .ok (.aload_n 0, 1) := dk_42 (dk_at dksX1_init_8 21 rfl rfl)
theorem dX1_init_212 : decode cX1_init 212 = .ok (.getfield 14, 3) := dk_180 0 14 (dk_at dksX1_init_9 0 rfl rfl)
theorem dX1_init_215 : decode cX1_init 215 = .ok (.iconst 5, 1) := dk_8 (dk_at dksX1_init_9 3 rfl rfl)
theorem dX1_init_216 : decode cX1_init 216 = .ok (.iconst 0, 1) := dk_3 (dk_at dksX1_init_9 4 rfl rfl)
theorem dX1_init_217 : decode cX1_init 217 = .ok (.invokevirtual 54, 3) := dk_182 0 54 (dk_at dksX1_init_9 5 rfl rfl)
theorem dX1_init_220 : decode cX1_init 220 = .ok (.aload_n 0, 1) := dk_42 (dk_at dksX1_init_9 8 rfl rfl)
theorem dX1_init_221 : decode cX1_init 221 = .ok (.getfield 14, 3) := dk_180 0 14 (dk_at dksX1_init_9 9 rfl rfl)
theorem dX1_init_224 : decode cX1_init 224 = .ok (.iconst 2, 1) := dk_5 (dk_at dksX1_init_9 12 rfl rfl)
theorem dX1_init_225 : decode cX1_init 225 = .ok (.bipush 6, 2) := dk_16 6 (dk_at dksX1_init_9 13 rfl rfl)
theorem dX1_init_227 : decode cX1_init 227 = .ok (.invokevirtual 54, 3) := dk_182 0 54 (dk_at dksX1_init_9 15 rfl rfl)
theorem dX1_init_230 : decode cX1_init 230 = .ok (.goto 10, 3) := dk_167 0 10 (dk_at dksX1_init_9 18 rfl rfl)
theorem dX1_init_233 : decode cX1_init 233 = .ok (.astore_n 1, 1) := dk_76 (dk_at dksX1_init_9 21 rfl rfl)
theorem dX1_init_234 : decode cX1_init 234 = .ok (.aload_n 0, 1) := dk_42 (dk_at dksX1_init_9 22 rfl rfl)
theorem dX1_init_235 : decode cX1_init 235 = .ok (.ldc 29, 2) := dk_18 29 (dk_at dksX1_init_10 0 rfl rfl)
theorem dX1_init_237 : decode cX1_init 237 = .ok (.putfield 31, 3) := dk_181 0 31 (dk_at dksX1_init_10 2 rfl rfl)
theorem dX1_init_240 : decode cX1_init 240 = .ok (.return_, 1) := dk_177 (dk_at dksX1_init_10 5 rfl rfl)
abbrev cX1_putBytes : ByteArray := prog_1_method_9_code
def yX1_putBytes : MethodName := ⟨RX1, "putBytes", "(I)V"⟩
def dkwX1_putBytes_1 : List UInt8 := [180, 0, 81, 4, 96, 181, 0, 81, 132, 2, 248, 167, 255, 226, 177]
abbrev dktX1_putBytes_1 : List UInt8 := dkwX1_putBytes_1 ++ []
def dkwX1_putBytes_0 : List UInt8 := [16, 24, 61, 28, 155, 0, 32, 42, 180, 0, 18, 42, 180, 0, 81, 27, 28, 122, 145, 84, 42, 89]
abbrev dktX1_putBytes_0 : List UInt8 := dkwX1_putBytes_0 ++ dktX1_putBytes_1
theorem dksX1_putBytes_0 : cX1_putBytes.data.toList.drop 0 = dktX1_putBytes_0 := by decide +kernel
theorem dksX1_putBytes_1 : cX1_putBytes.data.toList.drop 22 = dktX1_putBytes_1 := dk_seg dksX1_putBytes_0 22 rfl rfl
theorem dX1_putBytes_0 : decode cX1_putBytes 0 = .ok (.bipush 24, 2) := dk_16 24 (dk_at dksX1_putBytes_0 0 rfl rfl)
theorem dX1_putBytes_2 : decode cX1_putBytes 2 = .ok (.istore_n 2, 1) := dk_61 (dk_at dksX1_putBytes_0 2 rfl rfl)
theorem dX1_putBytes_3 : decode cX1_putBytes 3 = .ok (.iload_n 2, 1) := dk_28 (dk_at dksX1_putBytes_0 3 rfl rfl)
theorem dX1_putBytes_4 : decode cX1_putBytes 4 = .ok (.ifCond .lt 32, 3) := dk_155 0 32 (dk_at dksX1_putBytes_0 4 rfl rfl)
theorem dX1_putBytes_7 : decode cX1_putBytes 7 = .ok (.aload_n 0, 1) := dk_42 (dk_at dksX1_putBytes_0 7 rfl rfl)
theorem dX1_putBytes_8 : decode cX1_putBytes 8 = .ok (.getfield 18, 3) := dk_180 0 18 (dk_at dksX1_putBytes_0 8 rfl rfl)
theorem dX1_putBytes_11 : decode cX1_putBytes 11 = .ok (.aload_n 0, 1) := dk_42 (dk_at dksX1_putBytes_0 11 rfl rfl)
theorem dX1_putBytes_12 : decode cX1_putBytes 12 = .ok (.getfield 81, 3) := dk_180 0 81 (dk_at dksX1_putBytes_0 12 rfl rfl)
theorem dX1_putBytes_15 : decode cX1_putBytes 15 = .ok (.iload_n 1, 1) := dk_27 (dk_at dksX1_putBytes_0 15 rfl rfl)
theorem dX1_putBytes_16 : decode cX1_putBytes 16 = .ok (.iload_n 2, 1) := dk_28 (dk_at dksX1_putBytes_0 16 rfl rfl)
theorem dX1_putBytes_17 : decode cX1_putBytes 17 = .ok (.ishr, 1) := dk_122 (dk_at dksX1_putBytes_0 17 rfl rfl)
theorem dX1_putBytes_18 : decode cX1_putBytes 18 = .ok (.i2b, 1) := dk_145 (dk_at dksX1_putBytes_0 18 rfl rfl)
theorem dX1_putBytes_19 : decode cX1_putBytes 19 = .ok (.bastore, 1) := dk_84 (dk_at dksX1_putBytes_0 19 rfl rfl)
theorem dX1_putBytes_20 : decode cX1_putBytes 20 = .ok (.aload_n 0, 1) := dk_42 (dk_at dksX1_putBytes_0 20 rfl rfl)
theorem dX1_putBytes_21 : decode cX1_putBytes 21 = .ok (.dup, 1) := dk_89 (dk_at dksX1_putBytes_0 21 rfl rfl)
theorem dX1_putBytes_22 : decode cX1_putBytes 22 = .ok (.getfield 81, 3) := dk_180 0 81 (dk_at dksX1_putBytes_1 0 rfl rfl)
theorem dX1_putBytes_25 : decode cX1_putBytes 25 = .ok (.iconst 1, 1) := dk_4 (dk_at dksX1_putBytes_1 3 rfl rfl)
theorem dX1_putBytes_26 : decode cX1_putBytes 26 = .ok (.iadd, 1) := dk_96 (dk_at dksX1_putBytes_1 4 rfl rfl)
theorem dX1_putBytes_27 : decode cX1_putBytes 27 = .ok (.putfield 81, 3) := dk_181 0 81 (dk_at dksX1_putBytes_1 5 rfl rfl)
theorem dX1_putBytes_30 : decode cX1_putBytes 30 = .ok (.iinc 2 (-8), 3) := dk_132 2 248 (dk_at dksX1_putBytes_1 8 rfl rfl)
theorem dX1_putBytes_33 : decode cX1_putBytes 33 = .ok (.goto (-30), 3) := dk_167 255 226 (dk_at dksX1_putBytes_1 11 rfl rfl)
theorem dX1_putBytes_36 : decode cX1_putBytes 36 = .ok (.return_, 1) := dk_177 (dk_at dksX1_putBytes_1 14 rfl rfl)
abbrev cX1_append : ByteArray := prog_1_method_8_code
def yX1_append : MethodName := ⟨RX1, "append", "(IIIII)I"⟩
def dkwX1_append_2 : List UInt8 := [172]
abbrev dktX1_append_2 : List UInt8 := dkwX1_append_2 ++ []
def dkwX1_append_1 : List UInt8 := [182, 0, 84, 42, 29, 182, 0, 84, 42, 21, 4, 182, 0, 84, 42, 21, 5, 182, 0, 84, 42, 180, 0, 81]
abbrev dktX1_append_1 : List UInt8 := dkwX1_append_1 ++ dktX1_append_2
def dkwX1_append_0 : List UInt8 := [42, 180, 0, 81, 16, 20, 96, 17, 2, 188, 164, 0, 5, 2, 172, 42, 27, 182, 0, 84, 42, 28]
abbrev dktX1_append_0 : List UInt8 := dkwX1_append_0 ++ dktX1_append_1
theorem dksX1_append_0 : cX1_append.data.toList.drop 0 = dktX1_append_0 := by decide +kernel
theorem dksX1_append_1 : cX1_append.data.toList.drop 22 = dktX1_append_1 := dk_seg dksX1_append_0 22 rfl rfl
theorem dksX1_append_2 : cX1_append.data.toList.drop 46 = dktX1_append_2 := dk_seg dksX1_append_1 24 rfl rfl
theorem dX1_append_0 : decode cX1_append 0 = .ok (.aload_n 0, 1) := dk_42 (dk_at dksX1_append_0 0 rfl rfl)
theorem dX1_append_1 : decode cX1_append 1 = .ok (.getfield 81, 3) := dk_180 0 81 (dk_at dksX1_append_0 1 rfl rfl)
theorem dX1_append_4 : decode cX1_append 4 = .ok (.bipush 20, 2) := dk_16 20 (dk_at dksX1_append_0 4 rfl rfl)
theorem dX1_append_6 : decode cX1_append 6 = .ok (.iadd, 1) := dk_96 (dk_at dksX1_append_0 6 rfl rfl)
theorem dX1_append_7 : decode cX1_append 7 = .ok (.sipush 700, 3) := dk_17 2 188 (dk_at dksX1_append_0 7 rfl rfl)
theorem dX1_append_10 : decode cX1_append 10 = .ok (.if_icmp .le 5, 3) := dk_164 0 5 (dk_at dksX1_append_0 10 rfl rfl)
theorem dX1_append_13 : decode cX1_append 13 = .ok (.iconst (-1), 1) := dk_2 (dk_at dksX1_append_0 13 rfl rfl)
theorem dX1_append_14 : decode cX1_append 14 = .ok (.ireturn, 1) := dk_172 (dk_at dksX1_append_0 14 rfl rfl)
theorem dX1_append_15 : decode cX1_append 15 = .ok (.aload_n 0, 1) := dk_42 (dk_at dksX1_append_0 15 rfl rfl)
theorem dX1_append_16 : decode cX1_append 16 = .ok (.iload_n 1, 1) := dk_27 (dk_at dksX1_append_0 16 rfl rfl)
theorem dX1_append_17 : decode cX1_append 17 = .ok (.invokevirtual 84, 3) := dk_182 0 84 (dk_at dksX1_append_0 17 rfl rfl)
theorem dX1_append_20 : decode cX1_append 20 = .ok (.aload_n 0, 1) := dk_42 (dk_at dksX1_append_0 20 rfl rfl)
theorem dX1_append_21 : decode cX1_append 21 = .ok (.iload_n 2, 1) := dk_28 (dk_at dksX1_append_0 21 rfl rfl)
theorem dX1_append_22 : decode cX1_append 22 = .ok (.invokevirtual 84, 3) := dk_182 0 84 (dk_at dksX1_append_1 0 rfl rfl)
theorem dX1_append_25 : decode cX1_append 25 = .ok (.aload_n 0, 1) := dk_42 (dk_at dksX1_append_1 3 rfl rfl)
theorem dX1_append_26 : decode cX1_append 26 = .ok (.iload_n 3, 1) := dk_29 (dk_at dksX1_append_1 4 rfl rfl)
theorem dX1_append_27 : decode cX1_append 27 = .ok (.invokevirtual 84, 3) := dk_182 0 84 (dk_at dksX1_append_1 5 rfl rfl)
theorem dX1_append_30 : decode cX1_append 30 = .ok (.aload_n 0, 1) := dk_42 (dk_at dksX1_append_1 8 rfl rfl)
theorem dX1_append_31 : decode cX1_append 31 = .ok (.iload 4, 2) := dk_21 4 (dk_at dksX1_append_1 9 rfl rfl)
theorem dX1_append_33 : decode cX1_append 33 = .ok (.invokevirtual 84, 3) := dk_182 0 84 (dk_at dksX1_append_1 11 rfl rfl)
theorem dX1_append_36 : decode cX1_append 36 = .ok (.aload_n 0, 1) := dk_42 (dk_at dksX1_append_1 14 rfl rfl)
theorem dX1_append_37 : decode cX1_append 37 = .ok (.iload 5, 2) := dk_21 5 (dk_at dksX1_append_1 15 rfl rfl)
theorem dX1_append_39 : decode cX1_append 39 = .ok (.invokevirtual 84, 3) := dk_182 0 84 (dk_at dksX1_append_1 17 rfl rfl)
theorem dX1_append_42 : decode cX1_append 42 = .ok (.aload_n 0, 1) := dk_42 (dk_at dksX1_append_1 20 rfl rfl)
theorem dX1_append_43 : decode cX1_append 43 = .ok (.getfield 81, 3) := dk_180 0 81 (dk_at dksX1_append_1 21 rfl rfl)
theorem dX1_append_46 : decode cX1_append 46 = .ok (.ireturn, 1) := dk_172 (dk_at dksX1_append_2 0 rfl rfl)
abbrev cX1_become : ByteArray := prog_1_method_7_code
def yX1_become : MethodName := ⟨RX1, "become", "(LTrailMarkers$Trails;)V"⟩
def dkwX1_become_1 : List UInt8 := [42, 180, 0, 14, 182, 0, 77, 42, 43, 181, 0, 14, 177]
abbrev dktX1_become_1 : List UInt8 := dkwX1_become_1 ++ []
def dkwX1_become_0 : List UInt8 := [42, 180, 0, 38, 182, 0, 69, 16, 8, 160, 0, 11, 42, 180, 0, 38, 182, 0, 73, 87, 42, 180, 0, 38]
abbrev dktX1_become_0 : List UInt8 := dkwX1_become_0 ++ dktX1_become_1
theorem dksX1_become_0 : cX1_become.data.toList.drop 0 = dktX1_become_0 := by decide +kernel
theorem dksX1_become_1 : cX1_become.data.toList.drop 24 = dktX1_become_1 := dk_seg dksX1_become_0 24 rfl rfl
theorem dX1_become_0 : decode cX1_become 0 = .ok (.aload_n 0, 1) := dk_42 (dk_at dksX1_become_0 0 rfl rfl)
theorem dX1_become_1 : decode cX1_become 1 = .ok (.getfield 38, 3) := dk_180 0 38 (dk_at dksX1_become_0 1 rfl rfl)
theorem dX1_become_4 : decode cX1_become 4 = .ok (.invokevirtual 69, 3) := dk_182 0 69 (dk_at dksX1_become_0 4 rfl rfl)
theorem dX1_become_7 : decode cX1_become 7 = .ok (.bipush 8, 2) := dk_16 8 (dk_at dksX1_become_0 7 rfl rfl)
theorem dX1_become_9 : decode cX1_become 9 = .ok (.if_icmp .ne 11, 3) := dk_160 0 11 (dk_at dksX1_become_0 9 rfl rfl)
theorem dX1_become_12 : decode cX1_become 12 = .ok (.aload_n 0, 1) := dk_42 (dk_at dksX1_become_0 12 rfl rfl)
theorem dX1_become_13 : decode cX1_become 13 = .ok (.getfield 38, 3) := dk_180 0 38 (dk_at dksX1_become_0 13 rfl rfl)
theorem dX1_become_16 : decode cX1_become 16 = .ok (.invokevirtual 73, 3) := dk_182 0 73 (dk_at dksX1_become_0 16 rfl rfl)
theorem dX1_become_19 : decode cX1_become 19 = .ok (.pop, 1) := dk_87 (dk_at dksX1_become_0 19 rfl rfl)
theorem dX1_become_20 : decode cX1_become 20 = .ok (.aload_n 0, 1) := dk_42 (dk_at dksX1_become_0 20 rfl rfl)
theorem dX1_become_21 : decode cX1_become 21 = .ok (.getfield 38, 3) := dk_180 0 38 (dk_at dksX1_become_0 21 rfl rfl)
theorem dX1_become_24 : decode cX1_become 24 = .ok (.aload_n 0, 1) := dk_42 (dk_at dksX1_become_1 0 rfl rfl)
theorem dX1_become_25 : decode cX1_become 25 = .ok (.getfield 14, 3) := dk_180 0 14 (dk_at dksX1_become_1 1 rfl rfl)
theorem dX1_become_28 : decode cX1_become 28 = .ok (.invokevirtual 77, 3) := dk_182 0 77 (dk_at dksX1_become_1 4 rfl rfl)
theorem dX1_become_31 : decode cX1_become 31 = .ok (.aload_n 0, 1) := dk_42 (dk_at dksX1_become_1 7 rfl rfl)
theorem dX1_become_32 : decode cX1_become 32 = .ok (.aload_n 1, 1) := dk_43 (dk_at dksX1_become_1 8 rfl rfl)
theorem dX1_become_33 : decode cX1_become 33 = .ok (.putfield 14, 3) := dk_181 0 14 (dk_at dksX1_become_1 9 rfl rfl)
theorem dX1_become_36 : decode cX1_become 36 = .ok (.return_, 1) := dk_177 (dk_at dksX1_become_1 12 rfl rfl)
abbrev cX1_report : ByteArray := prog_1_method_13_code
def yX1_report : MethodName := ⟨RX1, "report", "(III)V"⟩
def dkwX1_report_0 : List UInt8 := [42, 27, 181, 0, 131, 42, 28, 181, 0, 22, 42, 29, 181, 0, 26, 177]
abbrev dktX1_report_0 : List UInt8 := dkwX1_report_0 ++ []
theorem dksX1_report_0 : cX1_report.data.toList.drop 0 = dktX1_report_0 := by decide +kernel
theorem dX1_report_0 : decode cX1_report 0 = .ok (.aload_n 0, 1) := dk_42 (dk_at dksX1_report_0 0 rfl rfl)
theorem dX1_report_1 : decode cX1_report 1 = .ok (.iload_n 1, 1) := dk_27 (dk_at dksX1_report_0 1 rfl rfl)
theorem dX1_report_2 : decode cX1_report 2 = .ok (.putfield 131, 3) := dk_181 0 131 (dk_at dksX1_report_0 2 rfl rfl)
theorem dX1_report_5 : decode cX1_report 5 = .ok (.aload_n 0, 1) := dk_42 (dk_at dksX1_report_0 5 rfl rfl)
theorem dX1_report_6 : decode cX1_report 6 = .ok (.iload_n 2, 1) := dk_28 (dk_at dksX1_report_0 6 rfl rfl)
theorem dX1_report_7 : decode cX1_report 7 = .ok (.putfield 22, 3) := dk_181 0 22 (dk_at dksX1_report_0 7 rfl rfl)
theorem dX1_report_10 : decode cX1_report 10 = .ok (.aload_n 0, 1) := dk_42 (dk_at dksX1_report_0 10 rfl rfl)
theorem dX1_report_11 : decode cX1_report 11 = .ok (.iload_n 3, 1) := dk_29 (dk_at dksX1_report_0 11 rfl rfl)
theorem dX1_report_12 : decode cX1_report 12 = .ok (.putfield 26, 3) := dk_181 0 26 (dk_at dksX1_report_0 12 rfl rfl)
theorem dX1_report_15 : decode cX1_report 15 = .ok (.return_, 1) := dk_177 (dk_at dksX1_report_0 15 rfl rfl)
abbrev cX1_load : ByteArray := prog_1_method_11_code
def yX1_load : MethodName := ⟨RX1, "load", "()I"⟩
def dkwX1_load_3 : List UInt8 := [172, 58, 4, 42, 3, 181, 0, 81, 25, 4, 191]
abbrev dktX1_load_3 : List UInt8 := dkwX1_load_3 ++ []
def dkwX1_load_2 : List UInt8 := [42, 43, 180, 0, 116, 43, 180, 0, 119, 43, 182, 0, 122, 182, 0, 104, 2, 61, 42, 3, 181, 0, 81, 28]
abbrev dktX1_load_2 : List UInt8 := dkwX1_load_2 ++ dktX1_load_3
def dkwX1_load_1 : List UInt8 := [182, 0, 104, 42, 44, 182, 0, 107, 42, 180, 0, 14, 180, 0, 111, 62, 42, 3, 181, 0, 81, 29, 172, 76]
abbrev dktX1_load_1 : List UInt8 := dkwX1_load_1 ++ dktX1_load_2
def dkwX1_load_0 : List UInt8 := [187, 0, 92, 89, 42, 1, 183, 0, 94, 76, 43, 182, 0, 97, 77, 43, 182, 0, 101, 87, 42, 3, 2, 2]
abbrev dktX1_load_0 : List UInt8 := dkwX1_load_0 ++ dktX1_load_1
theorem dksX1_load_0 : cX1_load.data.toList.drop 0 = dktX1_load_0 := by decide +kernel
theorem dksX1_load_1 : cX1_load.data.toList.drop 24 = dktX1_load_1 := dk_seg dksX1_load_0 24 rfl rfl
theorem dksX1_load_2 : cX1_load.data.toList.drop 48 = dktX1_load_2 := dk_seg dksX1_load_1 24 rfl rfl
theorem dksX1_load_3 : cX1_load.data.toList.drop 72 = dktX1_load_3 := dk_seg dksX1_load_2 24 rfl rfl
theorem dX1_load_0 : decode cX1_load 0 = .ok (.new 92, 3) := dk_187 0 92 (dk_at dksX1_load_0 0 rfl rfl)
theorem dX1_load_3 : decode cX1_load 3 = .ok (.dup, 1) := dk_89 (dk_at dksX1_load_0 3 rfl rfl)
theorem dX1_load_4 : decode cX1_load 4 = .ok (.aload_n 0, 1) := dk_42 (dk_at dksX1_load_0 4 rfl rfl)
theorem dX1_load_5 : decode cX1_load 5 = .ok (.aconst_null, 1) := dk_1 (dk_at dksX1_load_0 5 rfl rfl)
theorem dX1_load_6 : decode cX1_load 6 = .ok (.invokespecial 94, 3) := dk_183 0 94 (dk_at dksX1_load_0 6 rfl rfl)
theorem dX1_load_9 : decode cX1_load 9 = .ok (.astore_n 1, 1) := dk_76 (dk_at dksX1_load_0 9 rfl rfl)
theorem dX1_load_10 : decode cX1_load 10 = .ok (.aload_n 1, 1) := dk_43 (dk_at dksX1_load_0 10 rfl rfl)
theorem dX1_load_11 : decode cX1_load 11 = .ok (.invokevirtual 97, 3) := dk_182 0 97 (dk_at dksX1_load_0 11 rfl rfl)
theorem dX1_load_14 : decode cX1_load 14 = .ok (.astore_n 2, 1) := dk_77 (dk_at dksX1_load_0 14 rfl rfl)
theorem dX1_load_15 : decode cX1_load 15 = .ok (.aload_n 1, 1) := dk_43 (dk_at dksX1_load_0 15 rfl rfl)
theorem dX1_load_16 : decode cX1_load 16 = .ok (.invokevirtual 101, 3) := dk_182 0 101 (dk_at dksX1_load_0 16 rfl rfl)
theorem dX1_load_19 : decode cX1_load 19 = .ok (.pop, 1) := dk_87 (dk_at dksX1_load_0 19 rfl rfl)
theorem dX1_load_20 : decode cX1_load 20 = .ok (.aload_n 0, 1) := dk_42 (dk_at dksX1_load_0 20 rfl rfl)
theorem dX1_load_21 : decode cX1_load 21 = .ok (.iconst 0, 1) := dk_3 (dk_at dksX1_load_0 21 rfl rfl)
theorem dX1_load_22 : decode cX1_load 22 = .ok (.iconst (-1), 1) := dk_2 (dk_at dksX1_load_0 22 rfl rfl)
theorem dX1_load_23 : decode cX1_load 23 = .ok (.iconst (-1), 1) := dk_2 (dk_at dksX1_load_0 23 rfl rfl)
theorem dX1_load_24 : decode cX1_load 24 = .ok (.invokevirtual 104, 3) := dk_182 0 104 (dk_at dksX1_load_1 0 rfl rfl)
theorem dX1_load_27 : decode cX1_load 27 = .ok (.aload_n 0, 1) := dk_42 (dk_at dksX1_load_1 3 rfl rfl)
theorem dX1_load_28 : decode cX1_load 28 = .ok (.aload_n 2, 1) := dk_44 (dk_at dksX1_load_1 4 rfl rfl)
theorem dX1_load_29 : decode cX1_load 29 = .ok (.invokevirtual 107, 3) := dk_182 0 107 (dk_at dksX1_load_1 5 rfl rfl)
theorem dX1_load_32 : decode cX1_load 32 = .ok (.aload_n 0, 1) := dk_42 (dk_at dksX1_load_1 8 rfl rfl)
theorem dX1_load_33 : decode cX1_load 33 = .ok (.getfield 14, 3) := dk_180 0 14 (dk_at dksX1_load_1 9 rfl rfl)
theorem dX1_load_36 : decode cX1_load 36 = .ok (.getfield 111, 3) := dk_180 0 111 (dk_at dksX1_load_1 12 rfl rfl)
theorem dX1_load_39 : decode cX1_load 39 = .ok (.istore_n 3, 1) := dk_62 (dk_at dksX1_load_1 15 rfl rfl)
theorem dX1_load_40 : decode cX1_load 40 = .ok (.aload_n 0, 1) := dk_42 (dk_at dksX1_load_1 16 rfl rfl)
theorem dX1_load_41 : decode cX1_load 41 = .ok (.iconst 0, 1) := dk_3 (dk_at dksX1_load_1 17 rfl rfl)
theorem dX1_load_42 : decode cX1_load 42 = .ok (.putfield 81, 3) := dk_181 0 81 (dk_at dksX1_load_1 18 rfl rfl)
theorem dX1_load_45 : decode cX1_load 45 = .ok (.iload_n 3, 1) := dk_29 (dk_at dksX1_load_1 21 rfl rfl)
theorem dX1_load_46 : decode cX1_load 46 = .ok (.ireturn, 1) := dk_172 (dk_at dksX1_load_1 22 rfl rfl)
theorem dX1_load_47 : decode cX1_load 47 = .ok (.astore_n 1, 1) := dk_76 (dk_at dksX1_load_1 23 rfl rfl)
theorem dX1_load_48 : decode cX1_load 48 = .ok (.aload_n 0, 1) := dk_42 (dk_at dksX1_load_2 0 rfl rfl)
theorem dX1_load_49 : decode cX1_load 49 = .ok (.aload_n 1, 1) := dk_43 (dk_at dksX1_load_2 1 rfl rfl)
theorem dX1_load_50 : decode cX1_load 50 = .ok (.getfield 116, 3) := dk_180 0 116 (dk_at dksX1_load_2 2 rfl rfl)
theorem dX1_load_53 : decode cX1_load 53 = .ok (.aload_n 1, 1) := dk_43 (dk_at dksX1_load_2 5 rfl rfl)
theorem dX1_load_54 : decode cX1_load 54 = .ok (.getfield 119, 3) := dk_180 0 119 (dk_at dksX1_load_2 6 rfl rfl)
theorem dX1_load_57 : decode cX1_load 57 = .ok (.aload_n 1, 1) := dk_43 (dk_at dksX1_load_2 9 rfl rfl)
theorem dX1_load_58 : decode cX1_load 58 = .ok (.invokevirtual 122, 3) := dk_182 0 122 (dk_at dksX1_load_2 10 rfl rfl)
theorem dX1_load_61 : decode cX1_load 61 = .ok (.invokevirtual 104, 3) := dk_182 0 104 (dk_at dksX1_load_2 13 rfl rfl)
theorem dX1_load_64 : decode cX1_load 64 = .ok (.iconst (-1), 1) := dk_2 (dk_at dksX1_load_2 16 rfl rfl)
theorem dX1_load_65 : decode cX1_load 65 = .ok (.istore_n 2, 1) := dk_61 (dk_at dksX1_load_2 17 rfl rfl)
theorem dX1_load_66 : decode cX1_load 66 = .ok (.aload_n 0, 1) := dk_42 (dk_at dksX1_load_2 18 rfl rfl)
theorem dX1_load_67 : decode cX1_load 67 = .ok (.iconst 0, 1) := dk_3 (dk_at dksX1_load_2 19 rfl rfl)
theorem dX1_load_68 : decode cX1_load 68 = .ok (.putfield 81, 3) := dk_181 0 81 (dk_at dksX1_load_2 20 rfl rfl)
theorem dX1_load_71 : decode cX1_load 71 = .ok (.iload_n 2, 1) := dk_28 (dk_at dksX1_load_2 23 rfl rfl)
theorem dX1_load_72 : decode cX1_load 72 = .ok (.ireturn, 1) := dk_172 (dk_at dksX1_load_3 0 rfl rfl)
theorem dX1_load_73 : decode cX1_load 73 = .ok (.astore 4, 2) := dk_58 4 (dk_at dksX1_load_3 1 rfl rfl)
theorem dX1_load_75 : decode cX1_load 75 = .ok (.aload_n 0, 1) := dk_42 (dk_at dksX1_load_3 3 rfl rfl)
theorem dX1_load_76 : decode cX1_load 76 = .ok (.iconst 0, 1) := dk_3 (dk_at dksX1_load_3 4 rfl rfl)
theorem dX1_load_77 : decode cX1_load 77 = .ok (.putfield 81, 3) := dk_181 0 81 (dk_at dksX1_load_3 5 rfl rfl)
theorem dX1_load_80 : decode cX1_load 80 = .ok (.aload 4, 2) := dk_25 4 (dk_at dksX1_load_3 8 rfl rfl)
theorem dX1_load_82 : decode cX1_load 82 = .ok (.athrow, 1) := dk_191 (dk_at dksX1_load_3 10 rfl rfl)
abbrev cX1_play : ByteArray := prog_1_method_12_code
def yX1_play : MethodName := ⟨RX1, "play", "()I"⟩
def dkwX1_play_3 : List UInt8 := [181, 0, 81, 29, 172, 58, 5, 42, 3, 181, 0, 81, 25, 5, 191]
abbrev dktX1_play_3 : List UInt8 := dkwX1_play_3 ++ []
def dkwX1_play_2 : List UInt8 := [21, 4, 172, 77, 42, 44, 180, 0, 116, 44, 180, 0, 119, 44, 182, 0, 122, 182, 0, 104, 2, 62, 42, 3]
abbrev dktX1_play_2 : List UInt8 := dkwX1_play_2 ++ dktX1_play_3
def dkwX1_play_1 : List UInt8 := [182, 0, 101, 62, 42, 3, 2, 2, 182, 0, 104, 42, 43, 182, 0, 107, 29, 54, 4, 42, 3, 181, 0, 81]
abbrev dktX1_play_1 : List UInt8 := dkwX1_play_1 ++ dktX1_play_2
def dkwX1_play_0 : List UInt8 := [42, 180, 0, 14, 182, 0, 125, 76, 187, 0, 92, 89, 42, 43, 183, 0, 94, 77, 44, 182, 0, 128, 44]
abbrev dktX1_play_0 : List UInt8 := dkwX1_play_0 ++ dktX1_play_1
theorem dksX1_play_0 : cX1_play.data.toList.drop 0 = dktX1_play_0 := by decide +kernel
theorem dksX1_play_1 : cX1_play.data.toList.drop 23 = dktX1_play_1 := dk_seg dksX1_play_0 23 rfl rfl
theorem dksX1_play_2 : cX1_play.data.toList.drop 47 = dktX1_play_2 := dk_seg dksX1_play_1 24 rfl rfl
theorem dksX1_play_3 : cX1_play.data.toList.drop 71 = dktX1_play_3 := dk_seg dksX1_play_2 24 rfl rfl
theorem dX1_play_0 : decode cX1_play 0 = .ok (.aload_n 0, 1) := dk_42 (dk_at dksX1_play_0 0 rfl rfl)
theorem dX1_play_1 : decode cX1_play 1 = .ok (.getfield 14, 3) := dk_180 0 14 (dk_at dksX1_play_0 1 rfl rfl)
theorem dX1_play_4 : decode cX1_play 4 = .ok (.invokevirtual 125, 3) := dk_182 0 125 (dk_at dksX1_play_0 4 rfl rfl)
theorem dX1_play_7 : decode cX1_play 7 = .ok (.astore_n 1, 1) := dk_76 (dk_at dksX1_play_0 7 rfl rfl)
theorem dX1_play_8 : decode cX1_play 8 = .ok (.new 92, 3) := dk_187 0 92 (dk_at dksX1_play_0 8 rfl rfl)
theorem dX1_play_11 : decode cX1_play 11 = .ok (.dup, 1) := dk_89 (dk_at dksX1_play_0 11 rfl rfl)
theorem dX1_play_12 : decode cX1_play 12 = .ok (.aload_n 0, 1) := dk_42 (dk_at dksX1_play_0 12 rfl rfl)
theorem dX1_play_13 : decode cX1_play 13 = .ok (.aload_n 1, 1) := dk_43 (dk_at dksX1_play_0 13 rfl rfl)
theorem dX1_play_14 : decode cX1_play 14 = .ok (.invokespecial 94, 3) := dk_183 0 94 (dk_at dksX1_play_0 14 rfl rfl)
theorem dX1_play_17 : decode cX1_play 17 = .ok (.astore_n 2, 1) := dk_77 (dk_at dksX1_play_0 17 rfl rfl)
theorem dX1_play_18 : decode cX1_play 18 = .ok (.aload_n 2, 1) := dk_44 (dk_at dksX1_play_0 18 rfl rfl)
theorem dX1_play_19 : decode cX1_play 19 = .ok (.invokevirtual 128, 3) := dk_182 0 128 (dk_at dksX1_play_0 19 rfl rfl)
theorem dX1_play_22 : decode cX1_play 22 = .ok (.aload_n 2, 1) := dk_44 (dk_at dksX1_play_0 22 rfl rfl)
theorem dX1_play_23 : decode cX1_play 23 = .ok (.invokevirtual 101, 3) := dk_182 0 101 (dk_at dksX1_play_1 0 rfl rfl)
theorem dX1_play_26 : decode cX1_play 26 = .ok (.istore_n 3, 1) := dk_62 (dk_at dksX1_play_1 3 rfl rfl)
theorem dX1_play_27 : decode cX1_play 27 = .ok (.aload_n 0, 1) := dk_42 (dk_at dksX1_play_1 4 rfl rfl)
theorem dX1_play_28 : decode cX1_play 28 = .ok (.iconst 0, 1) := dk_3 (dk_at dksX1_play_1 5 rfl rfl)
theorem dX1_play_29 : decode cX1_play 29 = .ok (.iconst (-1), 1) := dk_2 (dk_at dksX1_play_1 6 rfl rfl)
theorem dX1_play_30 : decode cX1_play 30 = .ok (.iconst (-1), 1) := dk_2 (dk_at dksX1_play_1 7 rfl rfl)
theorem dX1_play_31 : decode cX1_play 31 = .ok (.invokevirtual 104, 3) := dk_182 0 104 (dk_at dksX1_play_1 8 rfl rfl)
theorem dX1_play_34 : decode cX1_play 34 = .ok (.aload_n 0, 1) := dk_42 (dk_at dksX1_play_1 11 rfl rfl)
theorem dX1_play_35 : decode cX1_play 35 = .ok (.aload_n 1, 1) := dk_43 (dk_at dksX1_play_1 12 rfl rfl)
theorem dX1_play_36 : decode cX1_play 36 = .ok (.invokevirtual 107, 3) := dk_182 0 107 (dk_at dksX1_play_1 13 rfl rfl)
theorem dX1_play_39 : decode cX1_play 39 = .ok (.iload_n 3, 1) := dk_29 (dk_at dksX1_play_1 16 rfl rfl)
theorem dX1_play_40 : decode cX1_play 40 = .ok (.istore 4, 2) := dk_54 4 (dk_at dksX1_play_1 17 rfl rfl)
theorem dX1_play_42 : decode cX1_play 42 = .ok (.aload_n 0, 1) := dk_42 (dk_at dksX1_play_1 19 rfl rfl)
theorem dX1_play_43 : decode cX1_play 43 = .ok (.iconst 0, 1) := dk_3 (dk_at dksX1_play_1 20 rfl rfl)
theorem dX1_play_44 : decode cX1_play 44 = .ok (.putfield 81, 3) := dk_181 0 81 (dk_at dksX1_play_1 21 rfl rfl)
theorem dX1_play_47 : decode cX1_play 47 = .ok (.iload 4, 2) := dk_21 4 (dk_at dksX1_play_2 0 rfl rfl)
theorem dX1_play_49 : decode cX1_play 49 = .ok (.ireturn, 1) := dk_172 (dk_at dksX1_play_2 2 rfl rfl)
theorem dX1_play_50 : decode cX1_play 50 = .ok (.astore_n 2, 1) := dk_77 (dk_at dksX1_play_2 3 rfl rfl)
theorem dX1_play_51 : decode cX1_play 51 = .ok (.aload_n 0, 1) := dk_42 (dk_at dksX1_play_2 4 rfl rfl)
theorem dX1_play_52 : decode cX1_play 52 = .ok (.aload_n 2, 1) := dk_44 (dk_at dksX1_play_2 5 rfl rfl)
theorem dX1_play_53 : decode cX1_play 53 = .ok (.getfield 116, 3) := dk_180 0 116 (dk_at dksX1_play_2 6 rfl rfl)
theorem dX1_play_56 : decode cX1_play 56 = .ok (.aload_n 2, 1) := dk_44 (dk_at dksX1_play_2 9 rfl rfl)
theorem dX1_play_57 : decode cX1_play 57 = .ok (.getfield 119, 3) := dk_180 0 119 (dk_at dksX1_play_2 10 rfl rfl)
theorem dX1_play_60 : decode cX1_play 60 = .ok (.aload_n 2, 1) := dk_44 (dk_at dksX1_play_2 13 rfl rfl)
theorem dX1_play_61 : decode cX1_play 61 = .ok (.invokevirtual 122, 3) := dk_182 0 122 (dk_at dksX1_play_2 14 rfl rfl)
theorem dX1_play_64 : decode cX1_play 64 = .ok (.invokevirtual 104, 3) := dk_182 0 104 (dk_at dksX1_play_2 17 rfl rfl)
theorem dX1_play_67 : decode cX1_play 67 = .ok (.iconst (-1), 1) := dk_2 (dk_at dksX1_play_2 20 rfl rfl)
theorem dX1_play_68 : decode cX1_play 68 = .ok (.istore_n 3, 1) := dk_62 (dk_at dksX1_play_2 21 rfl rfl)
theorem dX1_play_69 : decode cX1_play 69 = .ok (.aload_n 0, 1) := dk_42 (dk_at dksX1_play_2 22 rfl rfl)
theorem dX1_play_70 : decode cX1_play 70 = .ok (.iconst 0, 1) := dk_3 (dk_at dksX1_play_2 23 rfl rfl)
theorem dX1_play_71 : decode cX1_play 71 = .ok (.putfield 81, 3) := dk_181 0 81 (dk_at dksX1_play_3 0 rfl rfl)
theorem dX1_play_74 : decode cX1_play 74 = .ok (.iload_n 3, 1) := dk_29 (dk_at dksX1_play_3 3 rfl rfl)
theorem dX1_play_75 : decode cX1_play 75 = .ok (.ireturn, 1) := dk_172 (dk_at dksX1_play_3 4 rfl rfl)
theorem dX1_play_76 : decode cX1_play 76 = .ok (.astore 5, 2) := dk_58 5 (dk_at dksX1_play_3 5 rfl rfl)
theorem dX1_play_78 : decode cX1_play 78 = .ok (.aload_n 0, 1) := dk_42 (dk_at dksX1_play_3 7 rfl rfl)
theorem dX1_play_79 : decode cX1_play 79 = .ok (.iconst 0, 1) := dk_3 (dk_at dksX1_play_3 8 rfl rfl)
theorem dX1_play_80 : decode cX1_play 80 = .ok (.putfield 81, 3) := dk_181 0 81 (dk_at dksX1_play_3 9 rfl rfl)
theorem dX1_play_83 : decode cX1_play 83 = .ok (.aload 5, 2) := dk_25 5 (dk_at dksX1_play_3 12 rfl rfl)
theorem dX1_play_85 : decode cX1_play 85 = .ok (.athrow, 1) := dk_191 (dk_at dksX1_play_3 14 rfl rfl)
abbrev cX1_faults : ByteArray := prog_1_method_58_code
def yX1_faults : MethodName := ⟨RX1, "faults", "(LTrailMarkers$Guide;)I"⟩
def dkwX1_faults_3 : List UInt8 := [159, 0, 13, 21, 5, 16, 100, 159, 0, 6, 132, 2, 1, 132, 3, 1, 167, 255, 174, 28, 172]
abbrev dktX1_faults_3 : List UInt8 := dkwX1_faults_3 ++ []
def dkwX1_faults_2 : List UInt8 := [167, 0, 17, 21, 4, 43, 180, 1, 44, 29, 4, 100, 46, 100, 184, 1, 124, 54, 5, 21, 5, 4]
abbrev dktX1_faults_2 : List UInt8 := dkwX1_faults_2 ++ dktX1_faults_3
def dkwX1_faults_1 : List UInt8 := [21, 4, 16, 100, 108, 21, 4, 16, 100, 112, 182, 0, 183, 153, 0, 6, 132, 2, 1, 29, 154, 0, 7, 4]
abbrev dktX1_faults_1 : List UInt8 := dkwX1_faults_1 ++ dktX1_faults_2
def dkwX1_faults_0 : List UInt8 := [3, 61, 3, 62, 29, 43, 180, 1, 41, 162, 0, 80, 43, 180, 1, 44, 29, 46, 54, 4, 42, 180, 0, 14]
abbrev dktX1_faults_0 : List UInt8 := dkwX1_faults_0 ++ dktX1_faults_1
theorem dksX1_faults_0 : cX1_faults.data.toList.drop 0 = dktX1_faults_0 := by decide +kernel
theorem dksX1_faults_1 : cX1_faults.data.toList.drop 24 = dktX1_faults_1 := dk_seg dksX1_faults_0 24 rfl rfl
theorem dksX1_faults_2 : cX1_faults.data.toList.drop 48 = dktX1_faults_2 := dk_seg dksX1_faults_1 24 rfl rfl
theorem dksX1_faults_3 : cX1_faults.data.toList.drop 70 = dktX1_faults_3 := dk_seg dksX1_faults_2 22 rfl rfl
theorem dX1_faults_0 : decode cX1_faults 0 = .ok (.iconst 0, 1) := dk_3 (dk_at dksX1_faults_0 0 rfl rfl)
theorem dX1_faults_1 : decode cX1_faults 1 = .ok (.istore_n 2, 1) := dk_61 (dk_at dksX1_faults_0 1 rfl rfl)
theorem dX1_faults_2 : decode cX1_faults 2 = .ok (.iconst 0, 1) := dk_3 (dk_at dksX1_faults_0 2 rfl rfl)
theorem dX1_faults_3 : decode cX1_faults 3 = .ok (.istore_n 3, 1) := dk_62 (dk_at dksX1_faults_0 3 rfl rfl)
theorem dX1_faults_4 : decode cX1_faults 4 = .ok (.iload_n 3, 1) := dk_29 (dk_at dksX1_faults_0 4 rfl rfl)
theorem dX1_faults_5 : decode cX1_faults 5 = .ok (.aload_n 1, 1) := dk_43 (dk_at dksX1_faults_0 5 rfl rfl)
theorem dX1_faults_6 : decode cX1_faults 6 = .ok (.getfield 297, 3) := dk_180 1 41 (dk_at dksX1_faults_0 6 rfl rfl)
theorem dX1_faults_9 : decode cX1_faults 9 = .ok (.if_icmp .ge 80, 3) := dk_162 0 80 (dk_at dksX1_faults_0 9 rfl rfl)
theorem dX1_faults_12 : decode cX1_faults 12 = .ok (.aload_n 1, 1) := dk_43 (dk_at dksX1_faults_0 12 rfl rfl)
theorem dX1_faults_13 : decode cX1_faults 13 = .ok (.getfield 300, 3) := dk_180 1 44 (dk_at dksX1_faults_0 13 rfl rfl)
theorem dX1_faults_16 : decode cX1_faults 16 = .ok (.iload_n 3, 1) := dk_29 (dk_at dksX1_faults_0 16 rfl rfl)
theorem dX1_faults_17 : decode cX1_faults 17 = .ok (.iaload, 1) := dk_46 (dk_at dksX1_faults_0 17 rfl rfl)
theorem dX1_faults_18 : decode cX1_faults 18 = .ok (.istore 4, 2) := dk_54 4 (dk_at dksX1_faults_0 18 rfl rfl)
theorem dX1_faults_20 : decode cX1_faults 20 = .ok (.aload_n 0, 1) := dk_42 (dk_at dksX1_faults_0 20 rfl rfl)
theorem dX1_faults_21 : decode cX1_faults 21 = .ok (.getfield 14, 3) := dk_180 0 14 (dk_at dksX1_faults_0 21 rfl rfl)
theorem dX1_faults_24 : decode cX1_faults 24 = .ok (.iload 4, 2) := dk_21 4 (dk_at dksX1_faults_1 0 rfl rfl)
theorem dX1_faults_26 : decode cX1_faults 26 = .ok (.bipush 100, 2) := dk_16 100 (dk_at dksX1_faults_1 2 rfl rfl)
theorem dX1_faults_28 : decode cX1_faults 28 = .ok (.idiv, 1) := dk_108 (dk_at dksX1_faults_1 4 rfl rfl)
theorem dX1_faults_29 : decode cX1_faults 29 = .ok (.iload 4, 2) := dk_21 4 (dk_at dksX1_faults_1 5 rfl rfl)
theorem dX1_faults_31 : decode cX1_faults 31 = .ok (.bipush 100, 2) := dk_16 100 (dk_at dksX1_faults_1 7 rfl rfl)
theorem dX1_faults_33 : decode cX1_faults 33 = .ok (.irem, 1) := dk_112 (dk_at dksX1_faults_1 9 rfl rfl)
theorem dX1_faults_34 : decode cX1_faults 34 = .ok (.invokevirtual 183, 3) := dk_182 0 183 (dk_at dksX1_faults_1 10 rfl rfl)
theorem dX1_faults_37 : decode cX1_faults 37 = .ok (.ifCond .eq 6, 3) := dk_153 0 6 (dk_at dksX1_faults_1 13 rfl rfl)
theorem dX1_faults_40 : decode cX1_faults 40 = .ok (.iinc 2 1, 3) := dk_132 2 1 (dk_at dksX1_faults_1 16 rfl rfl)
theorem dX1_faults_43 : decode cX1_faults 43 = .ok (.iload_n 3, 1) := dk_29 (dk_at dksX1_faults_1 19 rfl rfl)
theorem dX1_faults_44 : decode cX1_faults 44 = .ok (.ifCond .ne 7, 3) := dk_154 0 7 (dk_at dksX1_faults_1 20 rfl rfl)
theorem dX1_faults_47 : decode cX1_faults 47 = .ok (.iconst 1, 1) := dk_4 (dk_at dksX1_faults_1 23 rfl rfl)
theorem dX1_faults_48 : decode cX1_faults 48 = .ok (.goto 17, 3) := dk_167 0 17 (dk_at dksX1_faults_2 0 rfl rfl)
theorem dX1_faults_51 : decode cX1_faults 51 = .ok (.iload 4, 2) := dk_21 4 (dk_at dksX1_faults_2 3 rfl rfl)
theorem dX1_faults_53 : decode cX1_faults 53 = .ok (.aload_n 1, 1) := dk_43 (dk_at dksX1_faults_2 5 rfl rfl)
theorem dX1_faults_54 : decode cX1_faults 54 = .ok (.getfield 300, 3) := dk_180 1 44 (dk_at dksX1_faults_2 6 rfl rfl)
theorem dX1_faults_57 : decode cX1_faults 57 = .ok (.iload_n 3, 1) := dk_29 (dk_at dksX1_faults_2 9 rfl rfl)
theorem dX1_faults_58 : decode cX1_faults 58 = .ok (.iconst 1, 1) := dk_4 (dk_at dksX1_faults_2 10 rfl rfl)
theorem dX1_faults_59 : decode cX1_faults 59 = .ok (.isub, 1) := dk_100 (dk_at dksX1_faults_2 11 rfl rfl)
theorem dX1_faults_60 : decode cX1_faults 60 = .ok (.iaload, 1) := dk_46 (dk_at dksX1_faults_2 12 rfl rfl)
theorem dX1_faults_61 : decode cX1_faults 61 = .ok (.isub, 1) := dk_100 (dk_at dksX1_faults_2 13 rfl rfl)
theorem dX1_faults_62 : decode cX1_faults 62 = .ok (.invokestatic 380, 3) := dk_184 1 124 (dk_at dksX1_faults_2 14 rfl rfl)
theorem dX1_faults_65 : decode cX1_faults 65 = .ok (.istore 5, 2) := dk_54 5 (dk_at dksX1_faults_2 17 rfl rfl)
theorem dX1_faults_67 : decode cX1_faults 67 = .ok (.iload 5, 2) := dk_21 5 (dk_at dksX1_faults_2 19 rfl rfl)
theorem dX1_faults_69 : decode cX1_faults 69 = .ok (.iconst 1, 1) := dk_4 (dk_at dksX1_faults_2 21 rfl rfl)
theorem dX1_faults_70 : decode cX1_faults 70 = .ok (.if_icmp .eq 13, 3) := dk_159 0 13 (dk_at dksX1_faults_3 0 rfl rfl)
theorem dX1_faults_73 : decode cX1_faults 73 = .ok (.iload 5, 2) := dk_21 5 (dk_at dksX1_faults_3 3 rfl rfl)
theorem dX1_faults_75 : decode cX1_faults 75 = .ok (.bipush 100, 2) := dk_16 100 (dk_at dksX1_faults_3 5 rfl rfl)
theorem dX1_faults_77 : decode cX1_faults 77 = .ok (.if_icmp .eq 6, 3) := dk_159 0 6 (dk_at dksX1_faults_3 7 rfl rfl)
theorem dX1_faults_80 : decode cX1_faults 80 = .ok (.iinc 2 1, 3) := dk_132 2 1 (dk_at dksX1_faults_3 10 rfl rfl)
theorem dX1_faults_83 : decode cX1_faults 83 = .ok (.iinc 3 1, 3) := dk_132 3 1 (dk_at dksX1_faults_3 13 rfl rfl)
theorem dX1_faults_86 : decode cX1_faults 86 = .ok (.goto (-82), 3) := dk_167 255 174 (dk_at dksX1_faults_3 16 rfl rfl)
theorem dX1_faults_89 : decode cX1_faults 89 = .ok (.iload_n 2, 1) := dk_28 (dk_at dksX1_faults_3 19 rfl rfl)
theorem dX1_faults_90 : decode cX1_faults 90 = .ok (.ireturn, 1) := dk_172 (dk_at dksX1_faults_3 20 rfl rfl)
abbrev cX1_gap : ByteArray := prog_1_method_57_code
def yX1_gap : MethodName := ⟨RX1, "gap", "()I"⟩
def dkwX1_gap_4 : List UInt8 := [180, 1, 41, 100, 184, 1, 124, 42, 43, 182, 1, 129, 96, 96, 61, 132, 3, 1, 167, 255, 161, 28, 172]
abbrev dktX1_gap_4 : List UInt8 := dkwX1_gap_4 ++ []
def dkwX1_gap_3 : List UInt8 := [180, 1, 117, 21, 5, 50, 180, 1, 121, 96, 54, 4, 132, 5, 1, 167, 255, 229, 28, 21, 4, 4, 96, 43]
abbrev dktX1_gap_3 : List UInt8 := dkwX1_gap_3 ++ dktX1_gap_4
def dkwX1_gap_2 : List UInt8 := [182, 1, 28, 87, 3, 54, 4, 3, 54, 5, 21, 5, 43, 180, 1, 114, 162, 0, 24, 21, 4, 43]
abbrev dktX1_gap_2 : List UInt8 := dkwX1_gap_2 ++ dktX1_gap_3
def dkwX1_gap_1 : List UInt8 := [162, 0, 90, 42, 180, 0, 14, 180, 0, 146, 29, 50, 180, 0, 227, 153, 0, 6, 167, 0, 66, 43, 29]
abbrev dktX1_gap_1 : List UInt8 := dkwX1_gap_1 ++ dktX1_gap_2
def dkwX1_gap_0 : List UInt8 := [187, 0, 216, 89, 42, 180, 0, 14, 183, 0, 218, 76, 3, 61, 3, 62, 29, 42, 180, 0, 14, 180, 0, 111]
abbrev dktX1_gap_0 : List UInt8 := dkwX1_gap_0 ++ dktX1_gap_1
theorem dksX1_gap_0 : cX1_gap.data.toList.drop 0 = dktX1_gap_0 := by decide +kernel
theorem dksX1_gap_1 : cX1_gap.data.toList.drop 24 = dktX1_gap_1 := dk_seg dksX1_gap_0 24 rfl rfl
theorem dksX1_gap_2 : cX1_gap.data.toList.drop 47 = dktX1_gap_2 := dk_seg dksX1_gap_1 23 rfl rfl
theorem dksX1_gap_3 : cX1_gap.data.toList.drop 69 = dktX1_gap_3 := dk_seg dksX1_gap_2 22 rfl rfl
theorem dksX1_gap_4 : cX1_gap.data.toList.drop 93 = dktX1_gap_4 := dk_seg dksX1_gap_3 24 rfl rfl
theorem dX1_gap_0 : decode cX1_gap 0 = .ok (.new 216, 3) := dk_187 0 216 (dk_at dksX1_gap_0 0 rfl rfl)
theorem dX1_gap_3 : decode cX1_gap 3 = .ok (.dup, 1) := dk_89 (dk_at dksX1_gap_0 3 rfl rfl)
theorem dX1_gap_4 : decode cX1_gap 4 = .ok (.aload_n 0, 1) := dk_42 (dk_at dksX1_gap_0 4 rfl rfl)
theorem dX1_gap_5 : decode cX1_gap 5 = .ok (.getfield 14, 3) := dk_180 0 14 (dk_at dksX1_gap_0 5 rfl rfl)
theorem dX1_gap_8 : decode cX1_gap 8 = .ok (.invokespecial 218, 3) := dk_183 0 218 (dk_at dksX1_gap_0 8 rfl rfl)
theorem dX1_gap_11 : decode cX1_gap 11 = .ok (.astore_n 1, 1) := dk_76 (dk_at dksX1_gap_0 11 rfl rfl)
theorem dX1_gap_12 : decode cX1_gap 12 = .ok (.iconst 0, 1) := dk_3 (dk_at dksX1_gap_0 12 rfl rfl)
theorem dX1_gap_13 : decode cX1_gap 13 = .ok (.istore_n 2, 1) := dk_61 (dk_at dksX1_gap_0 13 rfl rfl)
theorem dX1_gap_14 : decode cX1_gap 14 = .ok (.iconst 0, 1) := dk_3 (dk_at dksX1_gap_0 14 rfl rfl)
theorem dX1_gap_15 : decode cX1_gap 15 = .ok (.istore_n 3, 1) := dk_62 (dk_at dksX1_gap_0 15 rfl rfl)
theorem dX1_gap_16 : decode cX1_gap 16 = .ok (.iload_n 3, 1) := dk_29 (dk_at dksX1_gap_0 16 rfl rfl)
theorem dX1_gap_17 : decode cX1_gap 17 = .ok (.aload_n 0, 1) := dk_42 (dk_at dksX1_gap_0 17 rfl rfl)
theorem dX1_gap_18 : decode cX1_gap 18 = .ok (.getfield 14, 3) := dk_180 0 14 (dk_at dksX1_gap_0 18 rfl rfl)
theorem dX1_gap_21 : decode cX1_gap 21 = .ok (.getfield 111, 3) := dk_180 0 111 (dk_at dksX1_gap_0 21 rfl rfl)
theorem dX1_gap_24 : decode cX1_gap 24 = .ok (.if_icmp .ge 90, 3) := dk_162 0 90 (dk_at dksX1_gap_1 0 rfl rfl)
theorem dX1_gap_27 : decode cX1_gap 27 = .ok (.aload_n 0, 1) := dk_42 (dk_at dksX1_gap_1 3 rfl rfl)
theorem dX1_gap_28 : decode cX1_gap 28 = .ok (.getfield 14, 3) := dk_180 0 14 (dk_at dksX1_gap_1 4 rfl rfl)
theorem dX1_gap_31 : decode cX1_gap 31 = .ok (.getfield 146, 3) := dk_180 0 146 (dk_at dksX1_gap_1 7 rfl rfl)
theorem dX1_gap_34 : decode cX1_gap 34 = .ok (.iload_n 3, 1) := dk_29 (dk_at dksX1_gap_1 10 rfl rfl)
theorem dX1_gap_35 : decode cX1_gap 35 = .ok (.aaload, 1) := dk_50 (dk_at dksX1_gap_1 11 rfl rfl)
theorem dX1_gap_36 : decode cX1_gap 36 = .ok (.getfield 227, 3) := dk_180 0 227 (dk_at dksX1_gap_1 12 rfl rfl)
theorem dX1_gap_39 : decode cX1_gap 39 = .ok (.ifCond .eq 6, 3) := dk_153 0 6 (dk_at dksX1_gap_1 15 rfl rfl)
theorem dX1_gap_42 : decode cX1_gap 42 = .ok (.goto 66, 3) := dk_167 0 66 (dk_at dksX1_gap_1 18 rfl rfl)
theorem dX1_gap_45 : decode cX1_gap 45 = .ok (.aload_n 1, 1) := dk_43 (dk_at dksX1_gap_1 21 rfl rfl)
theorem dX1_gap_46 : decode cX1_gap 46 = .ok (.iload_n 3, 1) := dk_29 (dk_at dksX1_gap_1 22 rfl rfl)
theorem dX1_gap_47 : decode cX1_gap 47 = .ok (.invokevirtual 284, 3) := dk_182 1 28 (dk_at dksX1_gap_2 0 rfl rfl)
theorem dX1_gap_50 : decode cX1_gap 50 = .ok (.pop, 1) := dk_87 (dk_at dksX1_gap_2 3 rfl rfl)
theorem dX1_gap_51 : decode cX1_gap 51 = .ok (.iconst 0, 1) := dk_3 (dk_at dksX1_gap_2 4 rfl rfl)
theorem dX1_gap_52 : decode cX1_gap 52 = .ok (.istore 4, 2) := dk_54 4 (dk_at dksX1_gap_2 5 rfl rfl)
theorem dX1_gap_54 : decode cX1_gap 54 = .ok (.iconst 0, 1) := dk_3 (dk_at dksX1_gap_2 7 rfl rfl)
theorem dX1_gap_55 : decode cX1_gap 55 = .ok (.istore 5, 2) := dk_54 5 (dk_at dksX1_gap_2 8 rfl rfl)
theorem dX1_gap_57 : decode cX1_gap 57 = .ok (.iload 5, 2) := dk_21 5 (dk_at dksX1_gap_2 10 rfl rfl)
theorem dX1_gap_59 : decode cX1_gap 59 = .ok (.aload_n 1, 1) := dk_43 (dk_at dksX1_gap_2 12 rfl rfl)
theorem dX1_gap_60 : decode cX1_gap 60 = .ok (.getfield 370, 3) := dk_180 1 114 (dk_at dksX1_gap_2 13 rfl rfl)
theorem dX1_gap_63 : decode cX1_gap 63 = .ok (.if_icmp .ge 24, 3) := dk_162 0 24 (dk_at dksX1_gap_2 16 rfl rfl)
theorem dX1_gap_66 : decode cX1_gap 66 = .ok (.iload 4, 2) := dk_21 4 (dk_at dksX1_gap_2 19 rfl rfl)
theorem dX1_gap_68 : decode cX1_gap 68 = .ok (.aload_n 1, 1) := dk_43 (dk_at dksX1_gap_2 21 rfl rfl)
theorem dX1_gap_69 : decode cX1_gap 69 = .ok (.getfield 373, 3) := dk_180 1 117 (dk_at dksX1_gap_3 0 rfl rfl)
theorem dX1_gap_72 : decode cX1_gap 72 = .ok (.iload 5, 2) := dk_21 5 (dk_at dksX1_gap_3 3 rfl rfl)
theorem dX1_gap_74 : decode cX1_gap 74 = .ok (.aaload, 1) := dk_50 (dk_at dksX1_gap_3 5 rfl rfl)
theorem dX1_gap_75 : decode cX1_gap 75 = .ok (.getfield 377, 3) := dk_180 1 121 (dk_at dksX1_gap_3 6 rfl rfl)
theorem dX1_gap_78 : decode cX1_gap 78 = .ok (.iadd, 1) := dk_96 (dk_at dksX1_gap_3 9 rfl rfl)
theorem dX1_gap_79 : decode cX1_gap 79 = .ok (.istore 4, 2) := dk_54 4 (dk_at dksX1_gap_3 10 rfl rfl)
theorem dX1_gap_81 : decode cX1_gap 81 = .ok (.iinc 5 1, 3) := dk_132 5 1 (dk_at dksX1_gap_3 12 rfl rfl)
theorem dX1_gap_84 : decode cX1_gap 84 = .ok (.goto (-27), 3) := dk_167 255 229 (dk_at dksX1_gap_3 15 rfl rfl)
theorem dX1_gap_87 : decode cX1_gap 87 = .ok (.iload_n 2, 1) := dk_28 (dk_at dksX1_gap_3 18 rfl rfl)
theorem dX1_gap_88 : decode cX1_gap 88 = .ok (.iload 4, 2) := dk_21 4 (dk_at dksX1_gap_3 19 rfl rfl)
theorem dX1_gap_90 : decode cX1_gap 90 = .ok (.iconst 1, 1) := dk_4 (dk_at dksX1_gap_3 21 rfl rfl)
theorem dX1_gap_91 : decode cX1_gap 91 = .ok (.iadd, 1) := dk_96 (dk_at dksX1_gap_3 22 rfl rfl)
theorem dX1_gap_92 : decode cX1_gap 92 = .ok (.aload_n 1, 1) := dk_43 (dk_at dksX1_gap_3 23 rfl rfl)
theorem dX1_gap_93 : decode cX1_gap 93 = .ok (.getfield 297, 3) := dk_180 1 41 (dk_at dksX1_gap_4 0 rfl rfl)
theorem dX1_gap_96 : decode cX1_gap 96 = .ok (.isub, 1) := dk_100 (dk_at dksX1_gap_4 3 rfl rfl)
theorem dX1_gap_97 : decode cX1_gap 97 = .ok (.invokestatic 380, 3) := dk_184 1 124 (dk_at dksX1_gap_4 4 rfl rfl)
theorem dX1_gap_100 : decode cX1_gap 100 = .ok (.aload_n 0, 1) := dk_42 (dk_at dksX1_gap_4 7 rfl rfl)
theorem dX1_gap_101 : decode cX1_gap 101 = .ok (.aload_n 1, 1) := dk_43 (dk_at dksX1_gap_4 8 rfl rfl)
theorem dX1_gap_102 : decode cX1_gap 102 = .ok (.invokevirtual 385, 3) := dk_182 1 129 (dk_at dksX1_gap_4 9 rfl rfl)
theorem dX1_gap_105 : decode cX1_gap 105 = .ok (.iadd, 1) := dk_96 (dk_at dksX1_gap_4 12 rfl rfl)
theorem dX1_gap_106 : decode cX1_gap 106 = .ok (.iadd, 1) := dk_96 (dk_at dksX1_gap_4 13 rfl rfl)
theorem dX1_gap_107 : decode cX1_gap 107 = .ok (.istore_n 2, 1) := dk_61 (dk_at dksX1_gap_4 14 rfl rfl)
theorem dX1_gap_108 : decode cX1_gap 108 = .ok (.iinc 3 1, 3) := dk_132 3 1 (dk_at dksX1_gap_4 15 rfl rfl)
theorem dX1_gap_111 : decode cX1_gap 111 = .ok (.goto (-95), 3) := dk_167 255 161 (dk_at dksX1_gap_4 18 rfl rfl)
theorem dX1_gap_114 : decode cX1_gap 114 = .ok (.iload_n 2, 1) := dk_28 (dk_at dksX1_gap_4 21 rfl rfl)
theorem dX1_gap_115 : decode cX1_gap 115 = .ok (.ireturn, 1) := dk_172 (dk_at dksX1_gap_4 22 rfl rfl)
abbrev cX1_allStanding : ByteArray := prog_1_method_31_code
def yX1_allStanding : MethodName := ⟨RX1, "allStanding", "()I"⟩
def dkwX1_allStanding_1 : List UInt8 := [167, 255, 237, 27, 172]
abbrev dktX1_allStanding_1 : List UInt8 := dkwX1_allStanding_1 ++ []
def dkwX1_allStanding_0 : List UInt8 := [3, 60, 3, 61, 28, 7, 162, 0, 20, 27, 42, 180, 0, 14, 28, 182, 0, 175, 96, 60, 132, 2, 1]
abbrev dktX1_allStanding_0 : List UInt8 := dkwX1_allStanding_0 ++ dktX1_allStanding_1
theorem dksX1_allStanding_0 : cX1_allStanding.data.toList.drop 0 = dktX1_allStanding_0 := by decide +kernel
theorem dksX1_allStanding_1 : cX1_allStanding.data.toList.drop 23 = dktX1_allStanding_1 := dk_seg dksX1_allStanding_0 23 rfl rfl
theorem dX1_allStanding_0 : decode cX1_allStanding 0 = .ok (.iconst 0, 1) := dk_3 (dk_at dksX1_allStanding_0 0 rfl rfl)
theorem dX1_allStanding_1 : decode cX1_allStanding 1 = .ok (.istore_n 1, 1) := dk_60 (dk_at dksX1_allStanding_0 1 rfl rfl)
theorem dX1_allStanding_2 : decode cX1_allStanding 2 = .ok (.iconst 0, 1) := dk_3 (dk_at dksX1_allStanding_0 2 rfl rfl)
theorem dX1_allStanding_3 : decode cX1_allStanding 3 = .ok (.istore_n 2, 1) := dk_61 (dk_at dksX1_allStanding_0 3 rfl rfl)
theorem dX1_allStanding_4 : decode cX1_allStanding 4 = .ok (.iload_n 2, 1) := dk_28 (dk_at dksX1_allStanding_0 4 rfl rfl)
theorem dX1_allStanding_5 : decode cX1_allStanding 5 = .ok (.iconst 4, 1) := dk_7 (dk_at dksX1_allStanding_0 5 rfl rfl)
theorem dX1_allStanding_6 : decode cX1_allStanding 6 = .ok (.if_icmp .ge 20, 3) := dk_162 0 20 (dk_at dksX1_allStanding_0 6 rfl rfl)
theorem dX1_allStanding_9 : decode cX1_allStanding 9 = .ok (.iload_n 1, 1) := dk_27 (dk_at dksX1_allStanding_0 9 rfl rfl)
theorem dX1_allStanding_10 : decode cX1_allStanding 10 = .ok (.aload_n 0, 1) := dk_42 (dk_at dksX1_allStanding_0 10 rfl rfl)
theorem dX1_allStanding_11 : decode cX1_allStanding 11 = .ok (.getfield 14, 3) := dk_180 0 14 (dk_at dksX1_allStanding_0 11 rfl rfl)
theorem dX1_allStanding_14 : decode cX1_allStanding 14 = .ok (.iload_n 2, 1) := dk_28 (dk_at dksX1_allStanding_0 14 rfl rfl)
theorem dX1_allStanding_15 : decode cX1_allStanding 15 = .ok (.invokevirtual 175, 3) := dk_182 0 175 (dk_at dksX1_allStanding_0 15 rfl rfl)
theorem dX1_allStanding_18 : decode cX1_allStanding 18 = .ok (.iadd, 1) := dk_96 (dk_at dksX1_allStanding_0 18 rfl rfl)
theorem dX1_allStanding_19 : decode cX1_allStanding 19 = .ok (.istore_n 1, 1) := dk_60 (dk_at dksX1_allStanding_0 19 rfl rfl)
theorem dX1_allStanding_20 : decode cX1_allStanding 20 = .ok (.iinc 2 1, 3) := dk_132 2 1 (dk_at dksX1_allStanding_0 20 rfl rfl)
theorem dX1_allStanding_23 : decode cX1_allStanding 23 = .ok (.goto (-19), 3) := dk_167 255 237 (dk_at dksX1_allStanding_1 0 rfl rfl)
theorem dX1_allStanding_26 : decode cX1_allStanding 26 = .ok (.iload_n 1, 1) := dk_27 (dk_at dksX1_allStanding_1 3 rfl rfl)
theorem dX1_allStanding_27 : decode cX1_allStanding 27 = .ok (.ireturn, 1) := dk_172 (dk_at dksX1_allStanding_1 4 rfl rfl)
abbrev cX1_reached : ByteArray := prog_1_method_60_code
def yX1_reached : MethodName := ⟨RX1, "reached", "()D"⟩
def dkwX1_reached_2 : List UInt8 := [167, 0, 8, 29, 135, 27, 135, 111, 175]
abbrev dktX1_reached_2 : List UInt8 := dkwX1_reached_2 ++ []
def dkwX1_reached_1 : List UInt8 := [7, 162, 0, 18, 29, 44, 21, 4, 182, 1, 3, 96, 62, 132, 4, 1, 167, 255, 238, 27, 154, 0, 7, 15]
abbrev dktX1_reached_1 : List UInt8 := dkwX1_reached_1 ++ dktX1_reached_2
def dkwX1_reached_0 : List UInt8 := [42, 182, 0, 210, 60, 187, 0, 216, 89, 42, 180, 0, 14, 183, 0, 218, 77, 3, 62, 3, 54, 4, 21, 4]
abbrev dktX1_reached_0 : List UInt8 := dkwX1_reached_0 ++ dktX1_reached_1
theorem dksX1_reached_0 : cX1_reached.data.toList.drop 0 = dktX1_reached_0 := by decide +kernel
theorem dksX1_reached_1 : cX1_reached.data.toList.drop 24 = dktX1_reached_1 := dk_seg dksX1_reached_0 24 rfl rfl
theorem dksX1_reached_2 : cX1_reached.data.toList.drop 48 = dktX1_reached_2 := dk_seg dksX1_reached_1 24 rfl rfl
theorem dX1_reached_0 : decode cX1_reached 0 = .ok (.aload_n 0, 1) := dk_42 (dk_at dksX1_reached_0 0 rfl rfl)
theorem dX1_reached_1 : decode cX1_reached 1 = .ok (.invokevirtual 210, 3) := dk_182 0 210 (dk_at dksX1_reached_0 1 rfl rfl)
theorem dX1_reached_4 : decode cX1_reached 4 = .ok (.istore_n 1, 1) := dk_60 (dk_at dksX1_reached_0 4 rfl rfl)
theorem dX1_reached_5 : decode cX1_reached 5 = .ok (.new 216, 3) := dk_187 0 216 (dk_at dksX1_reached_0 5 rfl rfl)
theorem dX1_reached_8 : decode cX1_reached 8 = .ok (.dup, 1) := dk_89 (dk_at dksX1_reached_0 8 rfl rfl)
theorem dX1_reached_9 : decode cX1_reached 9 = .ok (.aload_n 0, 1) := dk_42 (dk_at dksX1_reached_0 9 rfl rfl)
theorem dX1_reached_10 : decode cX1_reached 10 = .ok (.getfield 14, 3) := dk_180 0 14 (dk_at dksX1_reached_0 10 rfl rfl)
theorem dX1_reached_13 : decode cX1_reached 13 = .ok (.invokespecial 218, 3) := dk_183 0 218 (dk_at dksX1_reached_0 13 rfl rfl)
theorem dX1_reached_16 : decode cX1_reached 16 = .ok (.astore_n 2, 1) := dk_77 (dk_at dksX1_reached_0 16 rfl rfl)
theorem dX1_reached_17 : decode cX1_reached 17 = .ok (.iconst 0, 1) := dk_3 (dk_at dksX1_reached_0 17 rfl rfl)
theorem dX1_reached_18 : decode cX1_reached 18 = .ok (.istore_n 3, 1) := dk_62 (dk_at dksX1_reached_0 18 rfl rfl)
theorem dX1_reached_19 : decode cX1_reached 19 = .ok (.iconst 0, 1) := dk_3 (dk_at dksX1_reached_0 19 rfl rfl)
theorem dX1_reached_20 : decode cX1_reached 20 = .ok (.istore 4, 2) := dk_54 4 (dk_at dksX1_reached_0 20 rfl rfl)
theorem dX1_reached_22 : decode cX1_reached 22 = .ok (.iload 4, 2) := dk_21 4 (dk_at dksX1_reached_0 22 rfl rfl)
theorem dX1_reached_24 : decode cX1_reached 24 = .ok (.iconst 4, 1) := dk_7 (dk_at dksX1_reached_1 0 rfl rfl)
theorem dX1_reached_25 : decode cX1_reached 25 = .ok (.if_icmp .ge 18, 3) := dk_162 0 18 (dk_at dksX1_reached_1 1 rfl rfl)
theorem dX1_reached_28 : decode cX1_reached 28 = .ok (.iload_n 3, 1) := dk_29 (dk_at dksX1_reached_1 4 rfl rfl)
theorem dX1_reached_29 : decode cX1_reached 29 = .ok (.aload_n 2, 1) := dk_44 (dk_at dksX1_reached_1 5 rfl rfl)
theorem dX1_reached_30 : decode cX1_reached 30 = .ok (.iload 4, 2) := dk_21 4 (dk_at dksX1_reached_1 6 rfl rfl)
theorem dX1_reached_32 : decode cX1_reached 32 = .ok (.invokevirtual 259, 3) := dk_182 1 3 (dk_at dksX1_reached_1 8 rfl rfl)
theorem dX1_reached_35 : decode cX1_reached 35 = .ok (.iadd, 1) := dk_96 (dk_at dksX1_reached_1 11 rfl rfl)
theorem dX1_reached_36 : decode cX1_reached 36 = .ok (.istore_n 3, 1) := dk_62 (dk_at dksX1_reached_1 12 rfl rfl)
theorem dX1_reached_37 : decode cX1_reached 37 = .ok (.iinc 4 1, 3) := dk_132 4 1 (dk_at dksX1_reached_1 13 rfl rfl)
theorem dX1_reached_40 : decode cX1_reached 40 = .ok (.goto (-18), 3) := dk_167 255 238 (dk_at dksX1_reached_1 16 rfl rfl)
theorem dX1_reached_43 : decode cX1_reached 43 = .ok (.iload_n 1, 1) := dk_27 (dk_at dksX1_reached_1 19 rfl rfl)
theorem dX1_reached_44 : decode cX1_reached 44 = .ok (.ifCond .ne 7, 3) := dk_154 0 7 (dk_at dksX1_reached_1 20 rfl rfl)
theorem dX1_reached_47 : decode cX1_reached 47 = .ok (.dconst 1, 1) := dk_15 (dk_at dksX1_reached_1 23 rfl rfl)
theorem dX1_reached_48 : decode cX1_reached 48 = .ok (.goto 8, 3) := dk_167 0 8 (dk_at dksX1_reached_2 0 rfl rfl)
theorem dX1_reached_51 : decode cX1_reached 51 = .ok (.iload_n 3, 1) := dk_29 (dk_at dksX1_reached_2 3 rfl rfl)
theorem dX1_reached_52 : decode cX1_reached 52 = .ok (.i2d, 1) := dk_135 (dk_at dksX1_reached_2 4 rfl rfl)
theorem dX1_reached_53 : decode cX1_reached 53 = .ok (.iload_n 1, 1) := dk_27 (dk_at dksX1_reached_2 5 rfl rfl)
theorem dX1_reached_54 : decode cX1_reached 54 = .ok (.i2d, 1) := dk_135 (dk_at dksX1_reached_2 6 rfl rfl)
theorem dX1_reached_55 : decode cX1_reached 55 = .ok (.ddiv, 1) := dk_111 (dk_at dksX1_reached_2 7 rfl rfl)
theorem dX1_reached_56 : decode cX1_reached 56 = .ok (.dreturn, 1) := dk_175 (dk_at dksX1_reached_2 8 rfl rfl)
abbrev cX1_outputByte : ByteArray := prog_1_method_67_code
def yX1_outputByte : MethodName := ⟨RX1, "outputByte", "(I)I"⟩
def dkwX1_outputByte_1 : List UInt8 := [182, 1, 206, 172]
abbrev dktX1_outputByte_1 : List UInt8 := dkwX1_outputByte_1 ++ []
def dkwX1_outputByte_0 : List UInt8 := [27, 155, 0, 14, 27, 42, 180, 0, 31, 182, 1, 150, 161, 0, 7, 2, 167, 0, 11, 42, 180, 0, 31, 27]
abbrev dktX1_outputByte_0 : List UInt8 := dkwX1_outputByte_0 ++ dktX1_outputByte_1
theorem dksX1_outputByte_0 : cX1_outputByte.data.toList.drop 0 = dktX1_outputByte_0 := by decide +kernel
theorem dksX1_outputByte_1 : cX1_outputByte.data.toList.drop 24 = dktX1_outputByte_1 := dk_seg dksX1_outputByte_0 24 rfl rfl
theorem dX1_outputByte_0 : decode cX1_outputByte 0 = .ok (.iload_n 1, 1) := dk_27 (dk_at dksX1_outputByte_0 0 rfl rfl)
theorem dX1_outputByte_1 : decode cX1_outputByte 1 = .ok (.ifCond .lt 14, 3) := dk_155 0 14 (dk_at dksX1_outputByte_0 1 rfl rfl)
theorem dX1_outputByte_4 : decode cX1_outputByte 4 = .ok (.iload_n 1, 1) := dk_27 (dk_at dksX1_outputByte_0 4 rfl rfl)
theorem dX1_outputByte_5 : decode cX1_outputByte 5 = .ok (.aload_n 0, 1) := dk_42 (dk_at dksX1_outputByte_0 5 rfl rfl)
theorem dX1_outputByte_6 : decode cX1_outputByte 6 = .ok (.getfield 31, 3) := dk_180 0 31 (dk_at dksX1_outputByte_0 6 rfl rfl)
theorem dX1_outputByte_9 : decode cX1_outputByte 9 = .ok (.invokevirtual 406, 3) := dk_182 1 150 (dk_at dksX1_outputByte_0 9 rfl rfl)
theorem dX1_outputByte_12 : decode cX1_outputByte 12 = .ok (.if_icmp .lt 7, 3) := dk_161 0 7 (dk_at dksX1_outputByte_0 12 rfl rfl)
theorem dX1_outputByte_15 : decode cX1_outputByte 15 = .ok (.iconst (-1), 1) := dk_2 (dk_at dksX1_outputByte_0 15 rfl rfl)
theorem dX1_outputByte_16 : decode cX1_outputByte 16 = .ok (.goto 11, 3) := dk_167 0 11 (dk_at dksX1_outputByte_0 16 rfl rfl)
theorem dX1_outputByte_19 : decode cX1_outputByte 19 = .ok (.aload_n 0, 1) := dk_42 (dk_at dksX1_outputByte_0 19 rfl rfl)
theorem dX1_outputByte_20 : decode cX1_outputByte 20 = .ok (.getfield 31, 3) := dk_180 0 31 (dk_at dksX1_outputByte_0 20 rfl rfl)
theorem dX1_outputByte_23 : decode cX1_outputByte 23 = .ok (.iload_n 1, 1) := dk_27 (dk_at dksX1_outputByte_0 23 rfl rfl)
theorem dX1_outputByte_24 : decode cX1_outputByte 24 = .ok (.invokevirtual 462, 3) := dk_182 1 206 (dk_at dksX1_outputByte_1 0 rfl rfl)
theorem dX1_outputByte_27 : decode cX1_outputByte 27 = .ok (.ireturn, 1) := dk_172 (dk_at dksX1_outputByte_1 3 rfl rfl)
abbrev cX1_need : ByteArray := prog_1_method_15_code
def yX1_need : MethodName := ⟨RX1, "need", "(III)V"⟩
def dkwX1_need_0 : List UInt8 := [27, 28, 161, 0, 8, 27, 29, 164, 0, 11, 187, 0, 134, 89, 183, 0, 136, 191, 177]
abbrev dktX1_need_0 : List UInt8 := dkwX1_need_0 ++ []
theorem dksX1_need_0 : cX1_need.data.toList.drop 0 = dktX1_need_0 := by decide +kernel
theorem dX1_need_0 : decode cX1_need 0 = .ok (.iload_n 1, 1) := dk_27 (dk_at dksX1_need_0 0 rfl rfl)
theorem dX1_need_1 : decode cX1_need 1 = .ok (.iload_n 2, 1) := dk_28 (dk_at dksX1_need_0 1 rfl rfl)
theorem dX1_need_2 : decode cX1_need 2 = .ok (.if_icmp .lt 8, 3) := dk_161 0 8 (dk_at dksX1_need_0 2 rfl rfl)
theorem dX1_need_5 : decode cX1_need 5 = .ok (.iload_n 1, 1) := dk_27 (dk_at dksX1_need_0 5 rfl rfl)
theorem dX1_need_6 : decode cX1_need 6 = .ok (.iload_n 3, 1) := dk_29 (dk_at dksX1_need_0 6 rfl rfl)
theorem dX1_need_7 : decode cX1_need 7 = .ok (.if_icmp .le 11, 3) := dk_164 0 11 (dk_at dksX1_need_0 7 rfl rfl)
theorem dX1_need_10 : decode cX1_need 10 = .ok (.new 134, 3) := dk_187 0 134 (dk_at dksX1_need_0 10 rfl rfl)
theorem dX1_need_13 : decode cX1_need 13 = .ok (.dup, 1) := dk_89 (dk_at dksX1_need_0 13 rfl rfl)
theorem dX1_need_14 : decode cX1_need 14 = .ok (.invokespecial 136, 3) := dk_183 0 136 (dk_at dksX1_need_0 14 rfl rfl)
theorem dX1_need_17 : decode cX1_need 17 = .ok (.athrow, 1) := dk_191 (dk_at dksX1_need_0 17 rfl rfl)
theorem dX1_need_18 : decode cX1_need 18 = .ok (.return_, 1) := dk_177 (dk_at dksX1_need_0 18 rfl rfl)
abbrev cX1_truncate : ByteArray := prog_1_method_10_code
def yX1_truncate : MethodName := ⟨RX1, "truncate", "(I)I"⟩
def dkwX1_truncate_0 : List UInt8 := [42, 27, 3, 42, 180, 0, 81, 182, 0, 88, 42, 27, 181, 0, 81, 42, 180, 0, 81, 172]
abbrev dktX1_truncate_0 : List UInt8 := dkwX1_truncate_0 ++ []
theorem dksX1_truncate_0 : cX1_truncate.data.toList.drop 0 = dktX1_truncate_0 := by decide +kernel
theorem dX1_truncate_0 : decode cX1_truncate 0 = .ok (.aload_n 0, 1) := dk_42 (dk_at dksX1_truncate_0 0 rfl rfl)
theorem dX1_truncate_1 : decode cX1_truncate 1 = .ok (.iload_n 1, 1) := dk_27 (dk_at dksX1_truncate_0 1 rfl rfl)
theorem dX1_truncate_2 : decode cX1_truncate 2 = .ok (.iconst 0, 1) := dk_3 (dk_at dksX1_truncate_0 2 rfl rfl)
theorem dX1_truncate_3 : decode cX1_truncate 3 = .ok (.aload_n 0, 1) := dk_42 (dk_at dksX1_truncate_0 3 rfl rfl)
theorem dX1_truncate_4 : decode cX1_truncate 4 = .ok (.getfield 81, 3) := dk_180 0 81 (dk_at dksX1_truncate_0 4 rfl rfl)
theorem dX1_truncate_7 : decode cX1_truncate 7 = .ok (.invokevirtual 88, 3) := dk_182 0 88 (dk_at dksX1_truncate_0 7 rfl rfl)
theorem dX1_truncate_10 : decode cX1_truncate 10 = .ok (.aload_n 0, 1) := dk_42 (dk_at dksX1_truncate_0 10 rfl rfl)
theorem dX1_truncate_11 : decode cX1_truncate 11 = .ok (.iload_n 1, 1) := dk_27 (dk_at dksX1_truncate_0 11 rfl rfl)
theorem dX1_truncate_12 : decode cX1_truncate 12 = .ok (.putfield 81, 3) := dk_181 0 81 (dk_at dksX1_truncate_0 12 rfl rfl)
theorem dX1_truncate_15 : decode cX1_truncate 15 = .ok (.aload_n 0, 1) := dk_42 (dk_at dksX1_truncate_0 15 rfl rfl)
theorem dX1_truncate_16 : decode cX1_truncate 16 = .ok (.getfield 81, 3) := dk_180 0 81 (dk_at dksX1_truncate_0 16 rfl rfl)
theorem dX1_truncate_19 : decode cX1_truncate 19 = .ok (.ireturn, 1) := dk_172 (dk_at dksX1_truncate_0 19 rfl rfl)
abbrev cX1_error : ByteArray := prog_1_method_14_code
def yX1_error : MethodName := ⟨RX1, "error", "(I)I"⟩
def dkwX1_error_1 : List UInt8 := [180, 0, 22, 167, 0, 7, 42, 180, 0, 26, 172]
abbrev dktX1_error_1 : List UInt8 := dkwX1_error_1 ++ []
def dkwX1_error_0 : List UInt8 := [42, 27, 3, 5, 182, 0, 88, 27, 154, 0, 10, 42, 180, 0, 131, 167, 0, 19, 27, 4, 160, 0, 10, 42]
abbrev dktX1_error_0 : List UInt8 := dkwX1_error_0 ++ dktX1_error_1
theorem dksX1_error_0 : cX1_error.data.toList.drop 0 = dktX1_error_0 := by decide +kernel
theorem dksX1_error_1 : cX1_error.data.toList.drop 24 = dktX1_error_1 := dk_seg dksX1_error_0 24 rfl rfl
theorem dX1_error_0 : decode cX1_error 0 = .ok (.aload_n 0, 1) := dk_42 (dk_at dksX1_error_0 0 rfl rfl)
theorem dX1_error_1 : decode cX1_error 1 = .ok (.iload_n 1, 1) := dk_27 (dk_at dksX1_error_0 1 rfl rfl)
theorem dX1_error_2 : decode cX1_error 2 = .ok (.iconst 0, 1) := dk_3 (dk_at dksX1_error_0 2 rfl rfl)
theorem dX1_error_3 : decode cX1_error 3 = .ok (.iconst 2, 1) := dk_5 (dk_at dksX1_error_0 3 rfl rfl)
theorem dX1_error_4 : decode cX1_error 4 = .ok (.invokevirtual 88, 3) := dk_182 0 88 (dk_at dksX1_error_0 4 rfl rfl)
theorem dX1_error_7 : decode cX1_error 7 = .ok (.iload_n 1, 1) := dk_27 (dk_at dksX1_error_0 7 rfl rfl)
theorem dX1_error_8 : decode cX1_error 8 = .ok (.ifCond .ne 10, 3) := dk_154 0 10 (dk_at dksX1_error_0 8 rfl rfl)
theorem dX1_error_11 : decode cX1_error 11 = .ok (.aload_n 0, 1) := dk_42 (dk_at dksX1_error_0 11 rfl rfl)
theorem dX1_error_12 : decode cX1_error 12 = .ok (.getfield 131, 3) := dk_180 0 131 (dk_at dksX1_error_0 12 rfl rfl)
theorem dX1_error_15 : decode cX1_error 15 = .ok (.goto 19, 3) := dk_167 0 19 (dk_at dksX1_error_0 15 rfl rfl)
theorem dX1_error_18 : decode cX1_error 18 = .ok (.iload_n 1, 1) := dk_27 (dk_at dksX1_error_0 18 rfl rfl)
theorem dX1_error_19 : decode cX1_error 19 = .ok (.iconst 1, 1) := dk_4 (dk_at dksX1_error_0 19 rfl rfl)
theorem dX1_error_20 : decode cX1_error 20 = .ok (.if_icmp .ne 10, 3) := dk_160 0 10 (dk_at dksX1_error_0 20 rfl rfl)
theorem dX1_error_23 : decode cX1_error 23 = .ok (.aload_n 0, 1) := dk_42 (dk_at dksX1_error_0 23 rfl rfl)
theorem dX1_error_24 : decode cX1_error 24 = .ok (.getfield 22, 3) := dk_180 0 22 (dk_at dksX1_error_1 0 rfl rfl)
theorem dX1_error_27 : decode cX1_error 27 = .ok (.goto 7, 3) := dk_167 0 7 (dk_at dksX1_error_1 3 rfl rfl)
theorem dX1_error_30 : decode cX1_error 30 = .ok (.aload_n 0, 1) := dk_42 (dk_at dksX1_error_1 6 rfl rfl)
theorem dX1_error_31 : decode cX1_error 31 = .ok (.getfield 26, 3) := dk_180 0 26 (dk_at dksX1_error_1 7 rfl rfl)
theorem dX1_error_34 : decode cX1_error 34 = .ok (.ireturn, 1) := dk_172 (dk_at dksX1_error_1 10 rfl rfl)
abbrev cX1_needCell : ByteArray := prog_1_method_16_code
def yX1_needCell : MethodName := ⟨RX1, "needCell", "(II)V"⟩
def dkwX1_needCell_1 : List UInt8 := [180, 0, 140, 4, 100, 182, 0, 88, 177]
abbrev dktX1_needCell_1 : List UInt8 := dkwX1_needCell_1 ++ []
def dkwX1_needCell_0 : List UInt8 := [42, 27, 3, 42, 180, 0, 14, 180, 0, 137, 4, 100, 182, 0, 88, 42, 28, 3, 42, 180, 0, 14]
abbrev dktX1_needCell_0 : List UInt8 := dkwX1_needCell_0 ++ dktX1_needCell_1
theorem dksX1_needCell_0 : cX1_needCell.data.toList.drop 0 = dktX1_needCell_0 := by decide +kernel
theorem dksX1_needCell_1 : cX1_needCell.data.toList.drop 22 = dktX1_needCell_1 := dk_seg dksX1_needCell_0 22 rfl rfl
theorem dX1_needCell_0 : decode cX1_needCell 0 = .ok (.aload_n 0, 1) := dk_42 (dk_at dksX1_needCell_0 0 rfl rfl)
theorem dX1_needCell_1 : decode cX1_needCell 1 = .ok (.iload_n 1, 1) := dk_27 (dk_at dksX1_needCell_0 1 rfl rfl)
theorem dX1_needCell_2 : decode cX1_needCell 2 = .ok (.iconst 0, 1) := dk_3 (dk_at dksX1_needCell_0 2 rfl rfl)
theorem dX1_needCell_3 : decode cX1_needCell 3 = .ok (.aload_n 0, 1) := dk_42 (dk_at dksX1_needCell_0 3 rfl rfl)
theorem dX1_needCell_4 : decode cX1_needCell 4 = .ok (.getfield 14, 3) := dk_180 0 14 (dk_at dksX1_needCell_0 4 rfl rfl)
theorem dX1_needCell_7 : decode cX1_needCell 7 = .ok (.getfield 137, 3) := dk_180 0 137 (dk_at dksX1_needCell_0 7 rfl rfl)
theorem dX1_needCell_10 : decode cX1_needCell 10 = .ok (.iconst 1, 1) := dk_4 (dk_at dksX1_needCell_0 10 rfl rfl)
theorem dX1_needCell_11 : decode cX1_needCell 11 = .ok (.isub, 1) := dk_100 (dk_at dksX1_needCell_0 11 rfl rfl)
theorem dX1_needCell_12 : decode cX1_needCell 12 = .ok (.invokevirtual 88, 3) := dk_182 0 88 (dk_at dksX1_needCell_0 12 rfl rfl)
theorem dX1_needCell_15 : decode cX1_needCell 15 = .ok (.aload_n 0, 1) := dk_42 (dk_at dksX1_needCell_0 15 rfl rfl)
theorem dX1_needCell_16 : decode cX1_needCell 16 = .ok (.iload_n 2, 1) := dk_28 (dk_at dksX1_needCell_0 16 rfl rfl)
theorem dX1_needCell_17 : decode cX1_needCell 17 = .ok (.iconst 0, 1) := dk_3 (dk_at dksX1_needCell_0 17 rfl rfl)
theorem dX1_needCell_18 : decode cX1_needCell 18 = .ok (.aload_n 0, 1) := dk_42 (dk_at dksX1_needCell_0 18 rfl rfl)
theorem dX1_needCell_19 : decode cX1_needCell 19 = .ok (.getfield 14, 3) := dk_180 0 14 (dk_at dksX1_needCell_0 19 rfl rfl)
theorem dX1_needCell_22 : decode cX1_needCell 22 = .ok (.getfield 140, 3) := dk_180 0 140 (dk_at dksX1_needCell_1 0 rfl rfl)
theorem dX1_needCell_25 : decode cX1_needCell 25 = .ok (.iconst 1, 1) := dk_4 (dk_at dksX1_needCell_1 3 rfl rfl)
theorem dX1_needCell_26 : decode cX1_needCell 26 = .ok (.isub, 1) := dk_100 (dk_at dksX1_needCell_1 4 rfl rfl)
theorem dX1_needCell_27 : decode cX1_needCell 27 = .ok (.invokevirtual 88, 3) := dk_182 0 88 (dk_at dksX1_needCell_1 5 rfl rfl)
theorem dX1_needCell_30 : decode cX1_needCell 30 = .ok (.return_, 1) := dk_177 (dk_at dksX1_needCell_1 8 rfl rfl)
abbrev cX1_needColour : ByteArray := prog_1_method_18_code
def yX1_needColour : MethodName := ⟨RX1, "needColour", "(I)V"⟩
def dkwX1_needColour_0 : List UInt8 := [27, 155, 0, 8, 27, 7, 161, 0, 11, 187, 0, 143, 89, 183, 0, 145, 191, 177]
abbrev dktX1_needColour_0 : List UInt8 := dkwX1_needColour_0 ++ []
theorem dksX1_needColour_0 : cX1_needColour.data.toList.drop 0 = dktX1_needColour_0 := by decide +kernel
theorem dX1_needColour_0 : decode cX1_needColour 0 = .ok (.iload_n 1, 1) := dk_27 (dk_at dksX1_needColour_0 0 rfl rfl)
theorem dX1_needColour_1 : decode cX1_needColour 1 = .ok (.ifCond .lt 8, 3) := dk_155 0 8 (dk_at dksX1_needColour_0 1 rfl rfl)
theorem dX1_needColour_4 : decode cX1_needColour 4 = .ok (.iload_n 1, 1) := dk_27 (dk_at dksX1_needColour_0 4 rfl rfl)
theorem dX1_needColour_5 : decode cX1_needColour 5 = .ok (.iconst 4, 1) := dk_7 (dk_at dksX1_needColour_0 5 rfl rfl)
theorem dX1_needColour_6 : decode cX1_needColour 6 = .ok (.if_icmp .lt 11, 3) := dk_161 0 11 (dk_at dksX1_needColour_0 6 rfl rfl)
theorem dX1_needColour_9 : decode cX1_needColour 9 = .ok (.new 143, 3) := dk_187 0 143 (dk_at dksX1_needColour_0 9 rfl rfl)
theorem dX1_needColour_12 : decode cX1_needColour 12 = .ok (.dup, 1) := dk_89 (dk_at dksX1_needColour_0 12 rfl rfl)
theorem dX1_needColour_13 : decode cX1_needColour 13 = .ok (.invokespecial 145, 3) := dk_183 0 145 (dk_at dksX1_needColour_0 13 rfl rfl)
theorem dX1_needColour_16 : decode cX1_needColour 16 = .ok (.athrow, 1) := dk_191 (dk_at dksX1_needColour_0 16 rfl rfl)
theorem dX1_needColour_17 : decode cX1_needColour 17 = .ok (.return_, 1) := dk_177 (dk_at dksX1_needColour_0 17 rfl rfl)
abbrev cX1_addPost : ByteArray := prog_1_method_19_code
def yX1_addPost : MethodName := ⟨RX1, "addPost", "(IIII)I"⟩
def dkwX1_addPost_2 : List UInt8 := [54, 6, 42, 25, 5, 182, 0, 107, 21, 6, 172, 58, 6, 187, 0, 156, 89, 183, 0, 158, 191]
abbrev dktX1_addPost_2 : List UInt8 := dkwX1_addPost_2 ++ []
def dkwX1_addPost_1 : List UInt8 := [182, 0, 125, 58, 5, 25, 5, 187, 0, 60, 89, 27, 28, 29, 21, 4, 3, 183, 0, 62, 182, 0, 65]
abbrev dktX1_addPost_1 : List UInt8 := dkwX1_addPost_1 ++ dktX1_addPost_2
def dkwX1_addPost_0 : List UInt8 := [42, 29, 182, 0, 150, 42, 27, 28, 182, 0, 153, 42, 21, 4, 3, 7, 182, 0, 88, 42, 180, 0, 14]
abbrev dktX1_addPost_0 : List UInt8 := dkwX1_addPost_0 ++ dktX1_addPost_1
theorem dksX1_addPost_0 : cX1_addPost.data.toList.drop 0 = dktX1_addPost_0 := by decide +kernel
theorem dksX1_addPost_1 : cX1_addPost.data.toList.drop 23 = dktX1_addPost_1 := dk_seg dksX1_addPost_0 23 rfl rfl
theorem dksX1_addPost_2 : cX1_addPost.data.toList.drop 46 = dktX1_addPost_2 := dk_seg dksX1_addPost_1 23 rfl rfl
theorem dX1_addPost_0 : decode cX1_addPost 0 = .ok (.aload_n 0, 1) := dk_42 (dk_at dksX1_addPost_0 0 rfl rfl)
theorem dX1_addPost_1 : decode cX1_addPost 1 = .ok (.iload_n 3, 1) := dk_29 (dk_at dksX1_addPost_0 1 rfl rfl)
theorem dX1_addPost_2 : decode cX1_addPost 2 = .ok (.invokevirtual 150, 3) := dk_182 0 150 (dk_at dksX1_addPost_0 2 rfl rfl)
theorem dX1_addPost_5 : decode cX1_addPost 5 = .ok (.aload_n 0, 1) := dk_42 (dk_at dksX1_addPost_0 5 rfl rfl)
theorem dX1_addPost_6 : decode cX1_addPost 6 = .ok (.iload_n 1, 1) := dk_27 (dk_at dksX1_addPost_0 6 rfl rfl)
theorem dX1_addPost_7 : decode cX1_addPost 7 = .ok (.iload_n 2, 1) := dk_28 (dk_at dksX1_addPost_0 7 rfl rfl)
theorem dX1_addPost_8 : decode cX1_addPost 8 = .ok (.invokevirtual 153, 3) := dk_182 0 153 (dk_at dksX1_addPost_0 8 rfl rfl)
theorem dX1_addPost_11 : decode cX1_addPost 11 = .ok (.aload_n 0, 1) := dk_42 (dk_at dksX1_addPost_0 11 rfl rfl)
theorem dX1_addPost_12 : decode cX1_addPost 12 = .ok (.iload 4, 2) := dk_21 4 (dk_at dksX1_addPost_0 12 rfl rfl)
theorem dX1_addPost_14 : decode cX1_addPost 14 = .ok (.iconst 0, 1) := dk_3 (dk_at dksX1_addPost_0 14 rfl rfl)
theorem dX1_addPost_15 : decode cX1_addPost 15 = .ok (.iconst 4, 1) := dk_7 (dk_at dksX1_addPost_0 15 rfl rfl)
theorem dX1_addPost_16 : decode cX1_addPost 16 = .ok (.invokevirtual 88, 3) := dk_182 0 88 (dk_at dksX1_addPost_0 16 rfl rfl)
theorem dX1_addPost_19 : decode cX1_addPost 19 = .ok (.aload_n 0, 1) := dk_42 (dk_at dksX1_addPost_0 19 rfl rfl)
theorem dX1_addPost_20 : decode cX1_addPost 20 = .ok (.getfield 14, 3) := dk_180 0 14 (dk_at dksX1_addPost_0 20 rfl rfl)
theorem dX1_addPost_23 : decode cX1_addPost 23 = .ok (.invokevirtual 125, 3) := dk_182 0 125 (dk_at dksX1_addPost_1 0 rfl rfl)
theorem dX1_addPost_26 : decode cX1_addPost 26 = .ok (.astore 5, 2) := dk_58 5 (dk_at dksX1_addPost_1 3 rfl rfl)
theorem dX1_addPost_28 : decode cX1_addPost 28 = .ok (.aload 5, 2) := dk_25 5 (dk_at dksX1_addPost_1 5 rfl rfl)
theorem dX1_addPost_30 : decode cX1_addPost 30 = .ok (.new 60, 3) := dk_187 0 60 (dk_at dksX1_addPost_1 7 rfl rfl)
theorem dX1_addPost_33 : decode cX1_addPost 33 = .ok (.dup, 1) := dk_89 (dk_at dksX1_addPost_1 10 rfl rfl)
theorem dX1_addPost_34 : decode cX1_addPost 34 = .ok (.iload_n 1, 1) := dk_27 (dk_at dksX1_addPost_1 11 rfl rfl)
theorem dX1_addPost_35 : decode cX1_addPost 35 = .ok (.iload_n 2, 1) := dk_28 (dk_at dksX1_addPost_1 12 rfl rfl)
theorem dX1_addPost_36 : decode cX1_addPost 36 = .ok (.iload_n 3, 1) := dk_29 (dk_at dksX1_addPost_1 13 rfl rfl)
theorem dX1_addPost_37 : decode cX1_addPost 37 = .ok (.iload 4, 2) := dk_21 4 (dk_at dksX1_addPost_1 14 rfl rfl)
theorem dX1_addPost_39 : decode cX1_addPost 39 = .ok (.iconst 0, 1) := dk_3 (dk_at dksX1_addPost_1 16 rfl rfl)
theorem dX1_addPost_40 : decode cX1_addPost 40 = .ok (.invokespecial 62, 3) := dk_183 0 62 (dk_at dksX1_addPost_1 17 rfl rfl)
theorem dX1_addPost_43 : decode cX1_addPost 43 = .ok (.invokevirtual 65, 3) := dk_182 0 65 (dk_at dksX1_addPost_1 20 rfl rfl)
theorem dX1_addPost_46 : decode cX1_addPost 46 = .ok (.istore 6, 2) := dk_54 6 (dk_at dksX1_addPost_2 0 rfl rfl)
theorem dX1_addPost_48 : decode cX1_addPost 48 = .ok (.aload_n 0, 1) := dk_42 (dk_at dksX1_addPost_2 2 rfl rfl)
theorem dX1_addPost_49 : decode cX1_addPost 49 = .ok (.aload 5, 2) := dk_25 5 (dk_at dksX1_addPost_2 3 rfl rfl)
theorem dX1_addPost_51 : decode cX1_addPost 51 = .ok (.invokevirtual 107, 3) := dk_182 0 107 (dk_at dksX1_addPost_2 5 rfl rfl)
theorem dX1_addPost_54 : decode cX1_addPost 54 = .ok (.iload 6, 2) := dk_21 6 (dk_at dksX1_addPost_2 8 rfl rfl)
theorem dX1_addPost_56 : decode cX1_addPost 56 = .ok (.ireturn, 1) := dk_172 (dk_at dksX1_addPost_2 10 rfl rfl)
theorem dX1_addPost_57 : decode cX1_addPost 57 = .ok (.astore 6, 2) := dk_58 6 (dk_at dksX1_addPost_2 11 rfl rfl)
theorem dX1_addPost_59 : decode cX1_addPost 59 = .ok (.new 156, 3) := dk_187 0 156 (dk_at dksX1_addPost_2 13 rfl rfl)
theorem dX1_addPost_62 : decode cX1_addPost 62 = .ok (.dup, 1) := dk_89 (dk_at dksX1_addPost_2 16 rfl rfl)
theorem dX1_addPost_63 : decode cX1_addPost 63 = .ok (.invokespecial 158, 3) := dk_183 0 158 (dk_at dksX1_addPost_2 17 rfl rfl)
theorem dX1_addPost_66 : decode cX1_addPost 66 = .ok (.athrow, 1) := dk_191 (dk_at dksX1_addPost_2 20 rfl rfl)
abbrev cX1_needPost : ByteArray := prog_1_method_17_code
def yX1_needPost : MethodName := ⟨RX1, "needPost", "(I)LTrailMarkers$Post;"⟩
def dkwX1_needPost_1 : List UInt8 := [180, 0, 14, 180, 0, 146, 27, 50, 176]
abbrev dktX1_needPost_1 : List UInt8 := dkwX1_needPost_1 ++ []
def dkwX1_needPost_0 : List UInt8 := [27, 155, 0, 14, 27, 42, 180, 0, 14, 180, 0, 111, 161, 0, 11, 187, 0, 143, 89, 183, 0, 145, 191, 42]
abbrev dktX1_needPost_0 : List UInt8 := dkwX1_needPost_0 ++ dktX1_needPost_1
theorem dksX1_needPost_0 : cX1_needPost.data.toList.drop 0 = dktX1_needPost_0 := by decide +kernel
theorem dksX1_needPost_1 : cX1_needPost.data.toList.drop 24 = dktX1_needPost_1 := dk_seg dksX1_needPost_0 24 rfl rfl
theorem dX1_needPost_0 : decode cX1_needPost 0 = .ok (.iload_n 1, 1) := dk_27 (dk_at dksX1_needPost_0 0 rfl rfl)
theorem dX1_needPost_1 : decode cX1_needPost 1 = .ok (.ifCond .lt 14, 3) := dk_155 0 14 (dk_at dksX1_needPost_0 1 rfl rfl)
theorem dX1_needPost_4 : decode cX1_needPost 4 = .ok (.iload_n 1, 1) := dk_27 (dk_at dksX1_needPost_0 4 rfl rfl)
theorem dX1_needPost_5 : decode cX1_needPost 5 = .ok (.aload_n 0, 1) := dk_42 (dk_at dksX1_needPost_0 5 rfl rfl)
theorem dX1_needPost_6 : decode cX1_needPost 6 = .ok (.getfield 14, 3) := dk_180 0 14 (dk_at dksX1_needPost_0 6 rfl rfl)
theorem dX1_needPost_9 : decode cX1_needPost 9 = .ok (.getfield 111, 3) := dk_180 0 111 (dk_at dksX1_needPost_0 9 rfl rfl)
theorem dX1_needPost_12 : decode cX1_needPost 12 = .ok (.if_icmp .lt 11, 3) := dk_161 0 11 (dk_at dksX1_needPost_0 12 rfl rfl)
theorem dX1_needPost_15 : decode cX1_needPost 15 = .ok (.new 143, 3) := dk_187 0 143 (dk_at dksX1_needPost_0 15 rfl rfl)
theorem dX1_needPost_18 : decode cX1_needPost 18 = .ok (.dup, 1) := dk_89 (dk_at dksX1_needPost_0 18 rfl rfl)
theorem dX1_needPost_19 : decode cX1_needPost 19 = .ok (.invokespecial 145, 3) := dk_183 0 145 (dk_at dksX1_needPost_0 19 rfl rfl)
theorem dX1_needPost_22 : decode cX1_needPost 22 = .ok (.athrow, 1) := dk_191 (dk_at dksX1_needPost_0 22 rfl rfl)
theorem dX1_needPost_23 : decode cX1_needPost 23 = .ok (.aload_n 0, 1) := dk_42 (dk_at dksX1_needPost_0 23 rfl rfl)
theorem dX1_needPost_24 : decode cX1_needPost 24 = .ok (.getfield 14, 3) := dk_180 0 14 (dk_at dksX1_needPost_1 0 rfl rfl)
theorem dX1_needPost_27 : decode cX1_needPost 27 = .ok (.getfield 146, 3) := dk_180 0 146 (dk_at dksX1_needPost_1 3 rfl rfl)
theorem dX1_needPost_30 : decode cX1_needPost 30 = .ok (.iload_n 1, 1) := dk_27 (dk_at dksX1_needPost_1 6 rfl rfl)
theorem dX1_needPost_31 : decode cX1_needPost 31 = .ok (.aaload, 1) := dk_50 (dk_at dksX1_needPost_1 7 rfl rfl)
theorem dX1_needPost_32 : decode cX1_needPost 32 = .ok (.areturn, 1) := dk_176 (dk_at dksX1_needPost_1 8 rfl rfl)
abbrev cX1_dropPost : ByteArray := prog_1_method_20_code
def yX1_dropPost : MethodName := ⟨RX1, "dropPost", "(I)I"⟩
def dkwX1_dropPost_1 : List UInt8 := [182, 0, 163, 42, 180, 0, 14, 180, 0, 111, 172]
abbrev dktX1_dropPost_1 : List UInt8 := dkwX1_dropPost_1 ++ []
def dkwX1_dropPost_0 : List UInt8 := [42, 27, 182, 0, 159, 87, 42, 42, 180, 0, 14, 182, 0, 125, 182, 0, 107, 42, 180, 0, 14, 27]
abbrev dktX1_dropPost_0 : List UInt8 := dkwX1_dropPost_0 ++ dktX1_dropPost_1
theorem dksX1_dropPost_0 : cX1_dropPost.data.toList.drop 0 = dktX1_dropPost_0 := by decide +kernel
theorem dksX1_dropPost_1 : cX1_dropPost.data.toList.drop 22 = dktX1_dropPost_1 := dk_seg dksX1_dropPost_0 22 rfl rfl
theorem dX1_dropPost_0 : decode cX1_dropPost 0 = .ok (.aload_n 0, 1) := dk_42 (dk_at dksX1_dropPost_0 0 rfl rfl)
theorem dX1_dropPost_1 : decode cX1_dropPost 1 = .ok (.iload_n 1, 1) := dk_27 (dk_at dksX1_dropPost_0 1 rfl rfl)
theorem dX1_dropPost_2 : decode cX1_dropPost 2 = .ok (.invokevirtual 159, 3) := dk_182 0 159 (dk_at dksX1_dropPost_0 2 rfl rfl)
theorem dX1_dropPost_5 : decode cX1_dropPost 5 = .ok (.pop, 1) := dk_87 (dk_at dksX1_dropPost_0 5 rfl rfl)
theorem dX1_dropPost_6 : decode cX1_dropPost 6 = .ok (.aload_n 0, 1) := dk_42 (dk_at dksX1_dropPost_0 6 rfl rfl)
theorem dX1_dropPost_7 : decode cX1_dropPost 7 = .ok (.aload_n 0, 1) := dk_42 (dk_at dksX1_dropPost_0 7 rfl rfl)
theorem dX1_dropPost_8 : decode cX1_dropPost 8 = .ok (.getfield 14, 3) := dk_180 0 14 (dk_at dksX1_dropPost_0 8 rfl rfl)
theorem dX1_dropPost_11 : decode cX1_dropPost 11 = .ok (.invokevirtual 125, 3) := dk_182 0 125 (dk_at dksX1_dropPost_0 11 rfl rfl)
theorem dX1_dropPost_14 : decode cX1_dropPost 14 = .ok (.invokevirtual 107, 3) := dk_182 0 107 (dk_at dksX1_dropPost_0 14 rfl rfl)
theorem dX1_dropPost_17 : decode cX1_dropPost 17 = .ok (.aload_n 0, 1) := dk_42 (dk_at dksX1_dropPost_0 17 rfl rfl)
theorem dX1_dropPost_18 : decode cX1_dropPost 18 = .ok (.getfield 14, 3) := dk_180 0 14 (dk_at dksX1_dropPost_0 18 rfl rfl)
theorem dX1_dropPost_21 : decode cX1_dropPost 21 = .ok (.iload_n 1, 1) := dk_27 (dk_at dksX1_dropPost_0 21 rfl rfl)
theorem dX1_dropPost_22 : decode cX1_dropPost 22 = .ok (.invokevirtual 163, 3) := dk_182 0 163 (dk_at dksX1_dropPost_1 0 rfl rfl)
theorem dX1_dropPost_25 : decode cX1_dropPost 25 = .ok (.aload_n 0, 1) := dk_42 (dk_at dksX1_dropPost_1 3 rfl rfl)
theorem dX1_dropPost_26 : decode cX1_dropPost 26 = .ok (.getfield 14, 3) := dk_180 0 14 (dk_at dksX1_dropPost_1 4 rfl rfl)
theorem dX1_dropPost_29 : decode cX1_dropPost 29 = .ok (.getfield 111, 3) := dk_180 0 111 (dk_at dksX1_dropPost_1 7 rfl rfl)
theorem dX1_dropPost_32 : decode cX1_dropPost 32 = .ok (.ireturn, 1) := dk_172 (dk_at dksX1_dropPost_1 10 rfl rfl)
abbrev cX1_turn : ByteArray := prog_1_method_21_code
def yX1_turn : MethodName := ⟨RX1, "turn", "(II)I"⟩
def dkwX1_turn_1 : List UInt8 := [42, 180, 0, 14, 180, 0, 146, 27, 45, 28, 182, 0, 166, 83, 45, 180, 0, 169, 172]
abbrev dktX1_turn_1 : List UInt8 := dkwX1_turn_1 ++ []
def dkwX1_turn_0 : List UInt8 := [42, 27, 182, 0, 159, 78, 42, 28, 3, 7, 182, 0, 88, 42, 42, 180, 0, 14, 182, 0, 125, 182, 0, 107]
abbrev dktX1_turn_0 : List UInt8 := dkwX1_turn_0 ++ dktX1_turn_1
theorem dksX1_turn_0 : cX1_turn.data.toList.drop 0 = dktX1_turn_0 := by decide +kernel
theorem dksX1_turn_1 : cX1_turn.data.toList.drop 24 = dktX1_turn_1 := dk_seg dksX1_turn_0 24 rfl rfl
theorem dX1_turn_0 : decode cX1_turn 0 = .ok (.aload_n 0, 1) := dk_42 (dk_at dksX1_turn_0 0 rfl rfl)
theorem dX1_turn_1 : decode cX1_turn 1 = .ok (.iload_n 1, 1) := dk_27 (dk_at dksX1_turn_0 1 rfl rfl)
theorem dX1_turn_2 : decode cX1_turn 2 = .ok (.invokevirtual 159, 3) := dk_182 0 159 (dk_at dksX1_turn_0 2 rfl rfl)
theorem dX1_turn_5 : decode cX1_turn 5 = .ok (.astore_n 3, 1) := dk_78 (dk_at dksX1_turn_0 5 rfl rfl)
theorem dX1_turn_6 : decode cX1_turn 6 = .ok (.aload_n 0, 1) := dk_42 (dk_at dksX1_turn_0 6 rfl rfl)
theorem dX1_turn_7 : decode cX1_turn 7 = .ok (.iload_n 2, 1) := dk_28 (dk_at dksX1_turn_0 7 rfl rfl)
theorem dX1_turn_8 : decode cX1_turn 8 = .ok (.iconst 0, 1) := dk_3 (dk_at dksX1_turn_0 8 rfl rfl)
theorem dX1_turn_9 : decode cX1_turn 9 = .ok (.iconst 4, 1) := dk_7 (dk_at dksX1_turn_0 9 rfl rfl)
theorem dX1_turn_10 : decode cX1_turn 10 = .ok (.invokevirtual 88, 3) := dk_182 0 88 (dk_at dksX1_turn_0 10 rfl rfl)
theorem dX1_turn_13 : decode cX1_turn 13 = .ok (.aload_n 0, 1) := dk_42 (dk_at dksX1_turn_0 13 rfl rfl)
theorem dX1_turn_14 : decode cX1_turn 14 = .ok (.aload_n 0, 1) := dk_42 (dk_at dksX1_turn_0 14 rfl rfl)
theorem dX1_turn_15 : decode cX1_turn 15 = .ok (.getfield 14, 3) := dk_180 0 14 (dk_at dksX1_turn_0 15 rfl rfl)
theorem dX1_turn_18 : decode cX1_turn 18 = .ok (.invokevirtual 125, 3) := dk_182 0 125 (dk_at dksX1_turn_0 18 rfl rfl)
theorem dX1_turn_21 : decode cX1_turn 21 = .ok (.invokevirtual 107, 3) := dk_182 0 107 (dk_at dksX1_turn_0 21 rfl rfl)
theorem dX1_turn_24 : decode cX1_turn 24 = .ok (.aload_n 0, 1) := dk_42 (dk_at dksX1_turn_1 0 rfl rfl)
theorem dX1_turn_25 : decode cX1_turn 25 = .ok (.getfield 14, 3) := dk_180 0 14 (dk_at dksX1_turn_1 1 rfl rfl)
theorem dX1_turn_28 : decode cX1_turn 28 = .ok (.getfield 146, 3) := dk_180 0 146 (dk_at dksX1_turn_1 4 rfl rfl)
theorem dX1_turn_31 : decode cX1_turn 31 = .ok (.iload_n 1, 1) := dk_27 (dk_at dksX1_turn_1 7 rfl rfl)
theorem dX1_turn_32 : decode cX1_turn 32 = .ok (.aload_n 3, 1) := dk_45 (dk_at dksX1_turn_1 8 rfl rfl)
theorem dX1_turn_33 : decode cX1_turn 33 = .ok (.iload_n 2, 1) := dk_28 (dk_at dksX1_turn_1 9 rfl rfl)
theorem dX1_turn_34 : decode cX1_turn 34 = .ok (.invokevirtual 166, 3) := dk_182 0 166 (dk_at dksX1_turn_1 10 rfl rfl)
theorem dX1_turn_37 : decode cX1_turn 37 = .ok (.aastore, 1) := dk_83 (dk_at dksX1_turn_1 13 rfl rfl)
theorem dX1_turn_38 : decode cX1_turn 38 = .ok (.aload_n 3, 1) := dk_45 (dk_at dksX1_turn_1 14 rfl rfl)
theorem dX1_turn_39 : decode cX1_turn 39 = .ok (.getfield 169, 3) := dk_180 0 169 (dk_at dksX1_turn_1 15 rfl rfl)
theorem dX1_turn_42 : decode cX1_turn 42 = .ok (.ireturn, 1) := dk_172 (dk_at dksX1_turn_1 18 rfl rfl)
abbrev cX1_changeState : ByteArray := prog_1_method_22_code
def yX1_changeState : MethodName := ⟨RX1, "changeState", "(IZ)I"⟩
def dkwX1_changeState_2 : List UInt8 := [183, 0, 158, 191]
abbrev dktX1_changeState_2 : List UInt8 := dkwX1_changeState_2 ++ []
def dkwX1_changeState_1 : List UInt8 := [182, 0, 50, 42, 25, 4, 182, 0, 107, 42, 180, 0, 14, 29, 182, 0, 175, 172, 58, 5, 187, 0, 156, 89]
abbrev dktX1_changeState_1 : List UInt8 := dkwX1_changeState_1 ++ dktX1_changeState_2
def dkwX1_changeState_0 : List UInt8 := [42, 27, 182, 0, 159, 180, 0, 172, 62, 42, 180, 0, 14, 182, 0, 125, 58, 4, 25, 4, 27, 28]
abbrev dktX1_changeState_0 : List UInt8 := dkwX1_changeState_0 ++ dktX1_changeState_1
theorem dksX1_changeState_0 : cX1_changeState.data.toList.drop 0 = dktX1_changeState_0 := by decide +kernel
theorem dksX1_changeState_1 : cX1_changeState.data.toList.drop 22 = dktX1_changeState_1 := dk_seg dksX1_changeState_0 22 rfl rfl
theorem dksX1_changeState_2 : cX1_changeState.data.toList.drop 46 = dktX1_changeState_2 := dk_seg dksX1_changeState_1 24 rfl rfl
theorem dX1_changeState_0 : decode cX1_changeState 0 = .ok (.aload_n 0, 1) := dk_42 (dk_at dksX1_changeState_0 0 rfl rfl)
theorem dX1_changeState_1 : decode cX1_changeState 1 = .ok (.iload_n 1, 1) := dk_27 (dk_at dksX1_changeState_0 1 rfl rfl)
theorem dX1_changeState_2 : decode cX1_changeState 2 = .ok (.invokevirtual 159, 3) := dk_182 0 159 (dk_at dksX1_changeState_0 2 rfl rfl)
theorem dX1_changeState_5 : decode cX1_changeState 5 = .ok (.getfield 172, 3) := dk_180 0 172 (dk_at dksX1_changeState_0 5 rfl rfl)
theorem dX1_changeState_8 : decode cX1_changeState 8 = .ok (.istore_n 3, 1) := dk_62 (dk_at dksX1_changeState_0 8 rfl rfl)
theorem dX1_changeState_9 : decode cX1_changeState 9 = .ok (.aload_n 0, 1) := dk_42 (dk_at dksX1_changeState_0 9 rfl rfl)
theorem dX1_changeState_10 : decode cX1_changeState 10 = .ok (.getfield 14, 3) := dk_180 0 14 (dk_at dksX1_changeState_0 10 rfl rfl)
theorem dX1_changeState_13 : decode cX1_changeState 13 = .ok (.invokevirtual 125, 3) := dk_182 0 125 (dk_at dksX1_changeState_0 13 rfl rfl)
theorem dX1_changeState_16 : decode cX1_changeState 16 = .ok (.astore 4, 2) := dk_58 4 (dk_at dksX1_changeState_0 16 rfl rfl)
theorem dX1_changeState_18 : decode cX1_changeState 18 = .ok (.aload 4, 2) := dk_25 4 (dk_at dksX1_changeState_0 18 rfl rfl)
theorem dX1_changeState_20 : decode cX1_changeState 20 = .ok (.iload_n 1, 1) := dk_27 (dk_at dksX1_changeState_0 20 rfl rfl)
theorem dX1_changeState_21 : decode cX1_changeState 21 = .ok (.iload_n 2, 1) := dk_28 (dk_at dksX1_changeState_0 21 rfl rfl)
theorem dX1_changeState_22 : decode cX1_changeState 22 = .ok (.invokevirtual 50, 3) := dk_182 0 50 (dk_at dksX1_changeState_1 0 rfl rfl)
theorem dX1_changeState_25 : decode cX1_changeState 25 = .ok (.aload_n 0, 1) := dk_42 (dk_at dksX1_changeState_1 3 rfl rfl)
theorem dX1_changeState_26 : decode cX1_changeState 26 = .ok (.aload 4, 2) := dk_25 4 (dk_at dksX1_changeState_1 4 rfl rfl)
theorem dX1_changeState_28 : decode cX1_changeState 28 = .ok (.invokevirtual 107, 3) := dk_182 0 107 (dk_at dksX1_changeState_1 6 rfl rfl)
theorem dX1_changeState_31 : decode cX1_changeState 31 = .ok (.aload_n 0, 1) := dk_42 (dk_at dksX1_changeState_1 9 rfl rfl)
theorem dX1_changeState_32 : decode cX1_changeState 32 = .ok (.getfield 14, 3) := dk_180 0 14 (dk_at dksX1_changeState_1 10 rfl rfl)
theorem dX1_changeState_35 : decode cX1_changeState 35 = .ok (.iload_n 3, 1) := dk_29 (dk_at dksX1_changeState_1 13 rfl rfl)
theorem dX1_changeState_36 : decode cX1_changeState 36 = .ok (.invokevirtual 175, 3) := dk_182 0 175 (dk_at dksX1_changeState_1 14 rfl rfl)
theorem dX1_changeState_39 : decode cX1_changeState 39 = .ok (.ireturn, 1) := dk_172 (dk_at dksX1_changeState_1 17 rfl rfl)
theorem dX1_changeState_40 : decode cX1_changeState 40 = .ok (.astore 5, 2) := dk_58 5 (dk_at dksX1_changeState_1 18 rfl rfl)
theorem dX1_changeState_42 : decode cX1_changeState 42 = .ok (.new 156, 3) := dk_187 0 156 (dk_at dksX1_changeState_1 20 rfl rfl)
theorem dX1_changeState_45 : decode cX1_changeState 45 = .ok (.dup, 1) := dk_89 (dk_at dksX1_changeState_1 23 rfl rfl)
theorem dX1_changeState_46 : decode cX1_changeState 46 = .ok (.invokespecial 158, 3) := dk_183 0 158 (dk_at dksX1_changeState_2 0 rfl rfl)
theorem dX1_changeState_49 : decode cX1_changeState 49 = .ok (.athrow, 1) := dk_191 (dk_at dksX1_changeState_2 3 rfl rfl)
abbrev cX1_lose : ByteArray := prog_1_method_23_code
def yX1_lose : MethodName := ⟨RX1, "lose", "(I)I"⟩
def dkwX1_lose_0 : List UInt8 := [42, 27, 4, 182, 0, 179, 172]
abbrev dktX1_lose_0 : List UInt8 := dkwX1_lose_0 ++ []
theorem dksX1_lose_0 : cX1_lose.data.toList.drop 0 = dktX1_lose_0 := by decide +kernel
theorem dX1_lose_0 : decode cX1_lose 0 = .ok (.aload_n 0, 1) := dk_42 (dk_at dksX1_lose_0 0 rfl rfl)
theorem dX1_lose_1 : decode cX1_lose 1 = .ok (.iload_n 1, 1) := dk_27 (dk_at dksX1_lose_0 1 rfl rfl)
theorem dX1_lose_2 : decode cX1_lose 2 = .ok (.iconst 1, 1) := dk_4 (dk_at dksX1_lose_0 2 rfl rfl)
theorem dX1_lose_3 : decode cX1_lose 3 = .ok (.invokevirtual 179, 3) := dk_182 0 179 (dk_at dksX1_lose_0 3 rfl rfl)
theorem dX1_lose_6 : decode cX1_lose 6 = .ok (.ireturn, 1) := dk_172 (dk_at dksX1_lose_0 6 rfl rfl)
abbrev cX1_mend : ByteArray := prog_1_method_24_code
def yX1_mend : MethodName := ⟨RX1, "mend", "(I)I"⟩
def dkwX1_mend_0 : List UInt8 := [42, 27, 3, 182, 0, 179, 172]
abbrev dktX1_mend_0 : List UInt8 := dkwX1_mend_0 ++ []
theorem dksX1_mend_0 : cX1_mend.data.toList.drop 0 = dktX1_mend_0 := by decide +kernel
theorem dX1_mend_0 : decode cX1_mend 0 = .ok (.aload_n 0, 1) := dk_42 (dk_at dksX1_mend_0 0 rfl rfl)
theorem dX1_mend_1 : decode cX1_mend 1 = .ok (.iload_n 1, 1) := dk_27 (dk_at dksX1_mend_0 1 rfl rfl)
theorem dX1_mend_2 : decode cX1_mend 2 = .ok (.iconst 0, 1) := dk_3 (dk_at dksX1_mend_0 2 rfl rfl)
theorem dX1_mend_3 : decode cX1_mend 3 = .ok (.invokevirtual 179, 3) := dk_182 0 179 (dk_at dksX1_mend_0 3 rfl rfl)
theorem dX1_mend_6 : decode cX1_mend 6 = .ok (.ireturn, 1) := dk_172 (dk_at dksX1_mend_0 6 rfl rfl)
abbrev cX1_setBlock : ByteArray := prog_1_method_25_code
def yX1_setBlock : MethodName := ⟨RX1, "setBlock", "(IIZ)I"⟩
def dkwX1_setBlock_3 : List UInt8 := [42, 25, 4, 182, 0, 107, 42, 180, 0, 14, 180, 0, 190, 172]
abbrev dktX1_setBlock_3 : List UInt8 := dkwX1_setBlock_3 ++ []
def dkwX1_setBlock_2 : List UInt8 := [167, 0, 11, 187, 0, 156, 89, 183, 0, 158, 191, 167, 0, 13, 58, 5, 187, 0, 156, 89, 183, 0, 158, 191]
abbrev dktX1_setBlock_2 : List UInt8 := dkwX1_setBlock_2 ++ dktX1_setBlock_3
def dkwX1_setBlock_1 : List UInt8 := [182, 0, 54, 167, 0, 31, 25, 4, 27, 28, 182, 0, 183, 153, 0, 13, 25, 4, 27, 28, 182, 0, 187]
abbrev dktX1_setBlock_1 : List UInt8 := dkwX1_setBlock_1 ++ dktX1_setBlock_2
def dkwX1_setBlock_0 : List UInt8 := [42, 27, 28, 182, 0, 153, 42, 180, 0, 14, 182, 0, 125, 58, 4, 29, 153, 0, 13, 25, 4, 27, 28]
abbrev dktX1_setBlock_0 : List UInt8 := dkwX1_setBlock_0 ++ dktX1_setBlock_1
theorem dksX1_setBlock_0 : cX1_setBlock.data.toList.drop 0 = dktX1_setBlock_0 := by decide +kernel
theorem dksX1_setBlock_1 : cX1_setBlock.data.toList.drop 23 = dktX1_setBlock_1 := dk_seg dksX1_setBlock_0 23 rfl rfl
theorem dksX1_setBlock_2 : cX1_setBlock.data.toList.drop 46 = dktX1_setBlock_2 := dk_seg dksX1_setBlock_1 23 rfl rfl
theorem dksX1_setBlock_3 : cX1_setBlock.data.toList.drop 70 = dktX1_setBlock_3 := dk_seg dksX1_setBlock_2 24 rfl rfl
theorem dX1_setBlock_0 : decode cX1_setBlock 0 = .ok (.aload_n 0, 1) := dk_42 (dk_at dksX1_setBlock_0 0 rfl rfl)
theorem dX1_setBlock_1 : decode cX1_setBlock 1 = .ok (.iload_n 1, 1) := dk_27 (dk_at dksX1_setBlock_0 1 rfl rfl)
theorem dX1_setBlock_2 : decode cX1_setBlock 2 = .ok (.iload_n 2, 1) := dk_28 (dk_at dksX1_setBlock_0 2 rfl rfl)
theorem dX1_setBlock_3 : decode cX1_setBlock 3 = .ok (.invokevirtual 153, 3) := dk_182 0 153 (dk_at dksX1_setBlock_0 3 rfl rfl)
theorem dX1_setBlock_6 : decode cX1_setBlock 6 = .ok (.aload_n 0, 1) := dk_42 (dk_at dksX1_setBlock_0 6 rfl rfl)
theorem dX1_setBlock_7 : decode cX1_setBlock 7 = .ok (.getfield 14, 3) := dk_180 0 14 (dk_at dksX1_setBlock_0 7 rfl rfl)
theorem dX1_setBlock_10 : decode cX1_setBlock 10 = .ok (.invokevirtual 125, 3) := dk_182 0 125 (dk_at dksX1_setBlock_0 10 rfl rfl)
theorem dX1_setBlock_13 : decode cX1_setBlock 13 = .ok (.astore 4, 2) := dk_58 4 (dk_at dksX1_setBlock_0 13 rfl rfl)
theorem dX1_setBlock_15 : decode cX1_setBlock 15 = .ok (.iload_n 3, 1) := dk_29 (dk_at dksX1_setBlock_0 15 rfl rfl)
theorem dX1_setBlock_16 : decode cX1_setBlock 16 = .ok (.ifCond .eq 13, 3) := dk_153 0 13 (dk_at dksX1_setBlock_0 16 rfl rfl)
theorem dX1_setBlock_19 : decode cX1_setBlock 19 = .ok (.aload 4, 2) := dk_25 4 (dk_at dksX1_setBlock_0 19 rfl rfl)
theorem dX1_setBlock_21 : decode cX1_setBlock 21 = .ok (.iload_n 1, 1) := dk_27 (dk_at dksX1_setBlock_0 21 rfl rfl)
theorem dX1_setBlock_22 : decode cX1_setBlock 22 = .ok (.iload_n 2, 1) := dk_28 (dk_at dksX1_setBlock_0 22 rfl rfl)
theorem dX1_setBlock_23 : decode cX1_setBlock 23 = .ok (.invokevirtual 54, 3) := dk_182 0 54 (dk_at dksX1_setBlock_1 0 rfl rfl)
theorem dX1_setBlock_26 : decode cX1_setBlock 26 = .ok (.goto 31, 3) := dk_167 0 31 (dk_at dksX1_setBlock_1 3 rfl rfl)
theorem dX1_setBlock_29 : decode cX1_setBlock 29 = .ok (.aload 4, 2) := dk_25 4 (dk_at dksX1_setBlock_1 6 rfl rfl)
theorem dX1_setBlock_31 : decode cX1_setBlock 31 = .ok (.iload_n 1, 1) := dk_27 (dk_at dksX1_setBlock_1 8 rfl rfl)
theorem dX1_setBlock_32 : decode cX1_setBlock 32 = .ok (.iload_n 2, 1) := dk_28 (dk_at dksX1_setBlock_1 9 rfl rfl)
theorem dX1_setBlock_33 : decode cX1_setBlock 33 = .ok (.invokevirtual 183, 3) := dk_182 0 183 (dk_at dksX1_setBlock_1 10 rfl rfl)
theorem dX1_setBlock_36 : decode cX1_setBlock 36 = .ok (.ifCond .eq 13, 3) := dk_153 0 13 (dk_at dksX1_setBlock_1 13 rfl rfl)
theorem dX1_setBlock_39 : decode cX1_setBlock 39 = .ok (.aload 4, 2) := dk_25 4 (dk_at dksX1_setBlock_1 16 rfl rfl)
theorem dX1_setBlock_41 : decode cX1_setBlock 41 = .ok (.iload_n 1, 1) := dk_27 (dk_at dksX1_setBlock_1 18 rfl rfl)
theorem dX1_setBlock_42 : decode cX1_setBlock 42 = .ok (.iload_n 2, 1) := dk_28 (dk_at dksX1_setBlock_1 19 rfl rfl)
theorem dX1_setBlock_43 : decode cX1_setBlock 43 = .ok (.invokevirtual 187, 3) := dk_182 0 187 (dk_at dksX1_setBlock_1 20 rfl rfl)
theorem dX1_setBlock_46 : decode cX1_setBlock 46 = .ok (.goto 11, 3) := dk_167 0 11 (dk_at dksX1_setBlock_2 0 rfl rfl)
theorem dX1_setBlock_49 : decode cX1_setBlock 49 = .ok (.new 156, 3) := dk_187 0 156 (dk_at dksX1_setBlock_2 3 rfl rfl)
theorem dX1_setBlock_52 : decode cX1_setBlock 52 = .ok (.dup, 1) := dk_89 (dk_at dksX1_setBlock_2 6 rfl rfl)
theorem dX1_setBlock_53 : decode cX1_setBlock 53 = .ok (.invokespecial 158, 3) := dk_183 0 158 (dk_at dksX1_setBlock_2 7 rfl rfl)
theorem dX1_setBlock_56 : decode cX1_setBlock 56 = .ok (.athrow, 1) := dk_191 (dk_at dksX1_setBlock_2 10 rfl rfl)
theorem dX1_setBlock_57 : decode cX1_setBlock 57 = .ok (.goto 13, 3) := dk_167 0 13 (dk_at dksX1_setBlock_2 11 rfl rfl)
theorem dX1_setBlock_60 : decode cX1_setBlock 60 = .ok (.astore 5, 2) := dk_58 5 (dk_at dksX1_setBlock_2 14 rfl rfl)
theorem dX1_setBlock_62 : decode cX1_setBlock 62 = .ok (.new 156, 3) := dk_187 0 156 (dk_at dksX1_setBlock_2 16 rfl rfl)
theorem dX1_setBlock_65 : decode cX1_setBlock 65 = .ok (.dup, 1) := dk_89 (dk_at dksX1_setBlock_2 19 rfl rfl)
theorem dX1_setBlock_66 : decode cX1_setBlock 66 = .ok (.invokespecial 158, 3) := dk_183 0 158 (dk_at dksX1_setBlock_2 20 rfl rfl)
theorem dX1_setBlock_69 : decode cX1_setBlock 69 = .ok (.athrow, 1) := dk_191 (dk_at dksX1_setBlock_2 23 rfl rfl)
theorem dX1_setBlock_70 : decode cX1_setBlock 70 = .ok (.aload_n 0, 1) := dk_42 (dk_at dksX1_setBlock_3 0 rfl rfl)
theorem dX1_setBlock_71 : decode cX1_setBlock 71 = .ok (.aload 4, 2) := dk_25 4 (dk_at dksX1_setBlock_3 1 rfl rfl)
theorem dX1_setBlock_73 : decode cX1_setBlock 73 = .ok (.invokevirtual 107, 3) := dk_182 0 107 (dk_at dksX1_setBlock_3 3 rfl rfl)
theorem dX1_setBlock_76 : decode cX1_setBlock 76 = .ok (.aload_n 0, 1) := dk_42 (dk_at dksX1_setBlock_3 6 rfl rfl)
theorem dX1_setBlock_77 : decode cX1_setBlock 77 = .ok (.getfield 14, 3) := dk_180 0 14 (dk_at dksX1_setBlock_3 7 rfl rfl)
theorem dX1_setBlock_80 : decode cX1_setBlock 80 = .ok (.getfield 190, 3) := dk_180 0 190 (dk_at dksX1_setBlock_3 10 rfl rfl)
theorem dX1_setBlock_83 : decode cX1_setBlock 83 = .ok (.ireturn, 1) := dk_172 (dk_at dksX1_setBlock_3 13 rfl rfl)
abbrev cX1_leastOf : ByteArray := prog_1_method_4_code
def yX1_leastOf : MethodName := ⟨RX1, "leastOf", "(I)I"⟩
def dkwX1_leastOf_0 : List UInt8 := [26, 154, 0, 7, 4, 167, 0, 4, 3, 172]
abbrev dktX1_leastOf_0 : List UInt8 := dkwX1_leastOf_0 ++ []
theorem dksX1_leastOf_0 : cX1_leastOf.data.toList.drop 0 = dktX1_leastOf_0 := by decide +kernel
theorem dX1_leastOf_0 : decode cX1_leastOf 0 = .ok (.iload_n 0, 1) := dk_26 (dk_at dksX1_leastOf_0 0 rfl rfl)
theorem dX1_leastOf_1 : decode cX1_leastOf 1 = .ok (.ifCond .ne 7, 3) := dk_154 0 7 (dk_at dksX1_leastOf_0 1 rfl rfl)
theorem dX1_leastOf_4 : decode cX1_leastOf 4 = .ok (.iconst 1, 1) := dk_4 (dk_at dksX1_leastOf_0 4 rfl rfl)
theorem dX1_leastOf_5 : decode cX1_leastOf 5 = .ok (.goto 4, 3) := dk_167 0 4 (dk_at dksX1_leastOf_0 5 rfl rfl)
theorem dX1_leastOf_8 : decode cX1_leastOf 8 = .ok (.iconst 0, 1) := dk_3 (dk_at dksX1_leastOf_0 8 rfl rfl)
theorem dX1_leastOf_9 : decode cX1_leastOf 9 = .ok (.ireturn, 1) := dk_172 (dk_at dksX1_leastOf_0 9 rfl rfl)
abbrev cX1_mostOf : ByteArray := prog_1_method_3_code
def yX1_mostOf : MethodName := ⟨RX1, "mostOf", "(I)I"⟩
def dkwX1_mostOf_0 : List UInt8 := [26, 154, 0, 8, 16, 12, 167, 0, 4, 5, 172]
abbrev dktX1_mostOf_0 : List UInt8 := dkwX1_mostOf_0 ++ []
theorem dksX1_mostOf_0 : cX1_mostOf.data.toList.drop 0 = dktX1_mostOf_0 := by decide +kernel
theorem dX1_mostOf_0 : decode cX1_mostOf 0 = .ok (.iload_n 0, 1) := dk_26 (dk_at dksX1_mostOf_0 0 rfl rfl)
theorem dX1_mostOf_1 : decode cX1_mostOf 1 = .ok (.ifCond .ne 8, 3) := dk_154 0 8 (dk_at dksX1_mostOf_0 1 rfl rfl)
theorem dX1_mostOf_4 : decode cX1_mostOf 4 = .ok (.bipush 12, 2) := dk_16 12 (dk_at dksX1_mostOf_0 4 rfl rfl)
theorem dX1_mostOf_6 : decode cX1_mostOf 6 = .ok (.goto 4, 3) := dk_167 0 4 (dk_at dksX1_mostOf_0 6 rfl rfl)
theorem dX1_mostOf_9 : decode cX1_mostOf 9 = .ok (.iconst 2, 1) := dk_5 (dk_at dksX1_mostOf_0 9 rfl rfl)
theorem dX1_mostOf_10 : decode cX1_mostOf 10 = .ok (.ireturn, 1) := dk_172 (dk_at dksX1_mostOf_0 10 rfl rfl)
abbrev cX1_set : ByteArray := prog_1_method_26_code
def yX1_set : MethodName := ⟨RX1, "set", "(II)I"⟩
def dkwX1_set_2 : List UInt8 := [180, 0, 199, 27, 28, 79, 29, 172]
abbrev dktX1_set_2 : List UInt8 := dkwX1_set_2 ++ []
def dkwX1_set_1 : List UInt8 := [180, 0, 14, 182, 0, 125, 182, 0, 107, 42, 180, 0, 14, 180, 0, 199, 27, 46, 62, 42, 180, 0, 14]
abbrev dktX1_set_1 : List UInt8 := dkwX1_set_1 ++ dktX1_set_2
def dkwX1_set_0 : List UInt8 := [42, 27, 3, 4, 182, 0, 88, 42, 28, 27, 184, 0, 193, 27, 184, 0, 196, 182, 0, 88, 42, 42]
abbrev dktX1_set_0 : List UInt8 := dkwX1_set_0 ++ dktX1_set_1
theorem dksX1_set_0 : cX1_set.data.toList.drop 0 = dktX1_set_0 := by decide +kernel
theorem dksX1_set_1 : cX1_set.data.toList.drop 22 = dktX1_set_1 := dk_seg dksX1_set_0 22 rfl rfl
theorem dksX1_set_2 : cX1_set.data.toList.drop 45 = dktX1_set_2 := dk_seg dksX1_set_1 23 rfl rfl
theorem dX1_set_0 : decode cX1_set 0 = .ok (.aload_n 0, 1) := dk_42 (dk_at dksX1_set_0 0 rfl rfl)
theorem dX1_set_1 : decode cX1_set 1 = .ok (.iload_n 1, 1) := dk_27 (dk_at dksX1_set_0 1 rfl rfl)
theorem dX1_set_2 : decode cX1_set 2 = .ok (.iconst 0, 1) := dk_3 (dk_at dksX1_set_0 2 rfl rfl)
theorem dX1_set_3 : decode cX1_set 3 = .ok (.iconst 1, 1) := dk_4 (dk_at dksX1_set_0 3 rfl rfl)
theorem dX1_set_4 : decode cX1_set 4 = .ok (.invokevirtual 88, 3) := dk_182 0 88 (dk_at dksX1_set_0 4 rfl rfl)
theorem dX1_set_7 : decode cX1_set 7 = .ok (.aload_n 0, 1) := dk_42 (dk_at dksX1_set_0 7 rfl rfl)
theorem dX1_set_8 : decode cX1_set 8 = .ok (.iload_n 2, 1) := dk_28 (dk_at dksX1_set_0 8 rfl rfl)
theorem dX1_set_9 : decode cX1_set 9 = .ok (.iload_n 1, 1) := dk_27 (dk_at dksX1_set_0 9 rfl rfl)
theorem dX1_set_10 : decode cX1_set 10 = .ok (.invokestatic 193, 3) := dk_184 0 193 (dk_at dksX1_set_0 10 rfl rfl)
theorem dX1_set_13 : decode cX1_set 13 = .ok (.iload_n 1, 1) := dk_27 (dk_at dksX1_set_0 13 rfl rfl)
theorem dX1_set_14 : decode cX1_set 14 = .ok (.invokestatic 196, 3) := dk_184 0 196 (dk_at dksX1_set_0 14 rfl rfl)
theorem dX1_set_17 : decode cX1_set 17 = .ok (.invokevirtual 88, 3) := dk_182 0 88 (dk_at dksX1_set_0 17 rfl rfl)
theorem dX1_set_20 : decode cX1_set 20 = .ok (.aload_n 0, 1) := dk_42 (dk_at dksX1_set_0 20 rfl rfl)
theorem dX1_set_21 : decode cX1_set 21 = .ok (.aload_n 0, 1) := dk_42 (dk_at dksX1_set_0 21 rfl rfl)
theorem dX1_set_22 : decode cX1_set 22 = .ok (.getfield 14, 3) := dk_180 0 14 (dk_at dksX1_set_1 0 rfl rfl)
theorem dX1_set_25 : decode cX1_set 25 = .ok (.invokevirtual 125, 3) := dk_182 0 125 (dk_at dksX1_set_1 3 rfl rfl)
theorem dX1_set_28 : decode cX1_set 28 = .ok (.invokevirtual 107, 3) := dk_182 0 107 (dk_at dksX1_set_1 6 rfl rfl)
theorem dX1_set_31 : decode cX1_set 31 = .ok (.aload_n 0, 1) := dk_42 (dk_at dksX1_set_1 9 rfl rfl)
theorem dX1_set_32 : decode cX1_set 32 = .ok (.getfield 14, 3) := dk_180 0 14 (dk_at dksX1_set_1 10 rfl rfl)
theorem dX1_set_35 : decode cX1_set 35 = .ok (.getfield 199, 3) := dk_180 0 199 (dk_at dksX1_set_1 13 rfl rfl)
theorem dX1_set_38 : decode cX1_set 38 = .ok (.iload_n 1, 1) := dk_27 (dk_at dksX1_set_1 16 rfl rfl)
theorem dX1_set_39 : decode cX1_set 39 = .ok (.iaload, 1) := dk_46 (dk_at dksX1_set_1 17 rfl rfl)
theorem dX1_set_40 : decode cX1_set 40 = .ok (.istore_n 3, 1) := dk_62 (dk_at dksX1_set_1 18 rfl rfl)
theorem dX1_set_41 : decode cX1_set 41 = .ok (.aload_n 0, 1) := dk_42 (dk_at dksX1_set_1 19 rfl rfl)
theorem dX1_set_42 : decode cX1_set 42 = .ok (.getfield 14, 3) := dk_180 0 14 (dk_at dksX1_set_1 20 rfl rfl)
theorem dX1_set_45 : decode cX1_set 45 = .ok (.getfield 199, 3) := dk_180 0 199 (dk_at dksX1_set_2 0 rfl rfl)
theorem dX1_set_48 : decode cX1_set 48 = .ok (.iload_n 1, 1) := dk_27 (dk_at dksX1_set_2 3 rfl rfl)
theorem dX1_set_49 : decode cX1_set 49 = .ok (.iload_n 2, 1) := dk_28 (dk_at dksX1_set_2 4 rfl rfl)
theorem dX1_set_50 : decode cX1_set 50 = .ok (.iastore, 1) := dk_79 (dk_at dksX1_set_2 5 rfl rfl)
theorem dX1_set_51 : decode cX1_set 51 = .ok (.iload_n 3, 1) := dk_29 (dk_at dksX1_set_2 6 rfl rfl)
theorem dX1_set_52 : decode cX1_set 52 = .ok (.ireturn, 1) := dk_172 (dk_at dksX1_set_2 7 rfl rfl)
abbrev cX1_undo : ByteArray := prog_1_method_27_code
def yX1_undo : MethodName := ⟨RX1, "undo", "()I"⟩
def dkwX1_undo_1 : List UInt8 := [182, 0, 207, 192, 0, 9, 181, 0, 14, 42, 180, 0, 38, 182, 0, 69, 172]
abbrev dktX1_undo_1 : List UInt8 := dkwX1_undo_1 ++ []
def dkwX1_undo_0 : List UInt8 := [42, 180, 0, 38, 182, 0, 203, 153, 0, 11, 187, 0, 156, 89, 183, 0, 158, 191, 42, 42, 180, 0, 38]
abbrev dktX1_undo_0 : List UInt8 := dkwX1_undo_0 ++ dktX1_undo_1
theorem dksX1_undo_0 : cX1_undo.data.toList.drop 0 = dktX1_undo_0 := by decide +kernel
theorem dksX1_undo_1 : cX1_undo.data.toList.drop 23 = dktX1_undo_1 := dk_seg dksX1_undo_0 23 rfl rfl
theorem dX1_undo_0 : decode cX1_undo 0 = .ok (.aload_n 0, 1) := dk_42 (dk_at dksX1_undo_0 0 rfl rfl)
theorem dX1_undo_1 : decode cX1_undo 1 = .ok (.getfield 38, 3) := dk_180 0 38 (dk_at dksX1_undo_0 1 rfl rfl)
theorem dX1_undo_4 : decode cX1_undo 4 = .ok (.invokevirtual 203, 3) := dk_182 0 203 (dk_at dksX1_undo_0 4 rfl rfl)
theorem dX1_undo_7 : decode cX1_undo 7 = .ok (.ifCond .eq 11, 3) := dk_153 0 11 (dk_at dksX1_undo_0 7 rfl rfl)
theorem dX1_undo_10 : decode cX1_undo 10 = .ok (.new 156, 3) := dk_187 0 156 (dk_at dksX1_undo_0 10 rfl rfl)
theorem dX1_undo_13 : decode cX1_undo 13 = .ok (.dup, 1) := dk_89 (dk_at dksX1_undo_0 13 rfl rfl)
theorem dX1_undo_14 : decode cX1_undo 14 = .ok (.invokespecial 158, 3) := dk_183 0 158 (dk_at dksX1_undo_0 14 rfl rfl)
theorem dX1_undo_17 : decode cX1_undo 17 = .ok (.athrow, 1) := dk_191 (dk_at dksX1_undo_0 17 rfl rfl)
theorem dX1_undo_18 : decode cX1_undo 18 = .ok (.aload_n 0, 1) := dk_42 (dk_at dksX1_undo_0 18 rfl rfl)
theorem dX1_undo_19 : decode cX1_undo 19 = .ok (.aload_n 0, 1) := dk_42 (dk_at dksX1_undo_0 19 rfl rfl)
theorem dX1_undo_20 : decode cX1_undo 20 = .ok (.getfield 38, 3) := dk_180 0 38 (dk_at dksX1_undo_0 20 rfl rfl)
theorem dX1_undo_23 : decode cX1_undo 23 = .ok (.invokevirtual 207, 3) := dk_182 0 207 (dk_at dksX1_undo_1 0 rfl rfl)
theorem dX1_undo_26 : decode cX1_undo 26 = .ok (.checkcast 9, 3) := dk_192 0 9 (dk_at dksX1_undo_1 3 rfl rfl)
theorem dX1_undo_29 : decode cX1_undo 29 = .ok (.putfield 14, 3) := dk_181 0 14 (dk_at dksX1_undo_1 6 rfl rfl)
theorem dX1_undo_32 : decode cX1_undo 32 = .ok (.aload_n 0, 1) := dk_42 (dk_at dksX1_undo_1 9 rfl rfl)
theorem dX1_undo_33 : decode cX1_undo 33 = .ok (.getfield 38, 3) := dk_180 0 38 (dk_at dksX1_undo_1 10 rfl rfl)
theorem dX1_undo_36 : decode cX1_undo 36 = .ok (.invokevirtual 69, 3) := dk_182 0 69 (dk_at dksX1_undo_1 13 rfl rfl)
theorem dX1_undo_39 : decode cX1_undo 39 = .ok (.ireturn, 1) := dk_172 (dk_at dksX1_undo_1 16 rfl rfl)
abbrev cX1_save : ByteArray := prog_1_method_28_code
def yX1_save : MethodName := ⟨RX1, "save", "(I)I"⟩
def dkwX1_save_1 : List UInt8 := [180, 0, 111, 172]
abbrev dktX1_save_1 : List UInt8 := dkwX1_save_1 ++ []
def dkwX1_save_0 : List UInt8 := [42, 27, 3, 4, 182, 0, 88, 42, 180, 0, 42, 27, 42, 180, 0, 14, 182, 0, 125, 83, 42, 180, 0, 14]
abbrev dktX1_save_0 : List UInt8 := dkwX1_save_0 ++ dktX1_save_1
theorem dksX1_save_0 : cX1_save.data.toList.drop 0 = dktX1_save_0 := by decide +kernel
theorem dksX1_save_1 : cX1_save.data.toList.drop 24 = dktX1_save_1 := dk_seg dksX1_save_0 24 rfl rfl
theorem dX1_save_0 : decode cX1_save 0 = .ok (.aload_n 0, 1) := dk_42 (dk_at dksX1_save_0 0 rfl rfl)
theorem dX1_save_1 : decode cX1_save 1 = .ok (.iload_n 1, 1) := dk_27 (dk_at dksX1_save_0 1 rfl rfl)
theorem dX1_save_2 : decode cX1_save 2 = .ok (.iconst 0, 1) := dk_3 (dk_at dksX1_save_0 2 rfl rfl)
theorem dX1_save_3 : decode cX1_save 3 = .ok (.iconst 1, 1) := dk_4 (dk_at dksX1_save_0 3 rfl rfl)
theorem dX1_save_4 : decode cX1_save 4 = .ok (.invokevirtual 88, 3) := dk_182 0 88 (dk_at dksX1_save_0 4 rfl rfl)
theorem dX1_save_7 : decode cX1_save 7 = .ok (.aload_n 0, 1) := dk_42 (dk_at dksX1_save_0 7 rfl rfl)
theorem dX1_save_8 : decode cX1_save 8 = .ok (.getfield 42, 3) := dk_180 0 42 (dk_at dksX1_save_0 8 rfl rfl)
theorem dX1_save_11 : decode cX1_save 11 = .ok (.iload_n 1, 1) := dk_27 (dk_at dksX1_save_0 11 rfl rfl)
theorem dX1_save_12 : decode cX1_save 12 = .ok (.aload_n 0, 1) := dk_42 (dk_at dksX1_save_0 12 rfl rfl)
theorem dX1_save_13 : decode cX1_save 13 = .ok (.getfield 14, 3) := dk_180 0 14 (dk_at dksX1_save_0 13 rfl rfl)
theorem dX1_save_16 : decode cX1_save 16 = .ok (.invokevirtual 125, 3) := dk_182 0 125 (dk_at dksX1_save_0 16 rfl rfl)
theorem dX1_save_19 : decode cX1_save 19 = .ok (.aastore, 1) := dk_83 (dk_at dksX1_save_0 19 rfl rfl)
theorem dX1_save_20 : decode cX1_save 20 = .ok (.aload_n 0, 1) := dk_42 (dk_at dksX1_save_0 20 rfl rfl)
theorem dX1_save_21 : decode cX1_save 21 = .ok (.getfield 14, 3) := dk_180 0 14 (dk_at dksX1_save_0 21 rfl rfl)
theorem dX1_save_24 : decode cX1_save 24 = .ok (.getfield 111, 3) := dk_180 0 111 (dk_at dksX1_save_1 0 rfl rfl)
theorem dX1_save_27 : decode cX1_save 27 = .ok (.ireturn, 1) := dk_172 (dk_at dksX1_save_1 3 rfl rfl)
abbrev cX1_restore : ByteArray := prog_1_method_29_code
def yX1_restore : MethodName := ⟨RX1, "restore", "(I)I"⟩
def dkwX1_restore_1 : List UInt8 := [42, 42, 180, 0, 42, 27, 50, 182, 0, 125, 182, 0, 107, 42, 180, 0, 14, 180, 0, 111, 172]
abbrev dktX1_restore_1 : List UInt8 := dkwX1_restore_1 ++ []
def dkwX1_restore_0 : List UInt8 := [42, 27, 3, 4, 182, 0, 88, 42, 180, 0, 42, 27, 50, 199, 0, 11, 187, 0, 156, 89, 183, 0, 158, 191]
abbrev dktX1_restore_0 : List UInt8 := dkwX1_restore_0 ++ dktX1_restore_1
theorem dksX1_restore_0 : cX1_restore.data.toList.drop 0 = dktX1_restore_0 := by decide +kernel
theorem dksX1_restore_1 : cX1_restore.data.toList.drop 24 = dktX1_restore_1 := dk_seg dksX1_restore_0 24 rfl rfl
theorem dX1_restore_0 : decode cX1_restore 0 = .ok (.aload_n 0, 1) := dk_42 (dk_at dksX1_restore_0 0 rfl rfl)
theorem dX1_restore_1 : decode cX1_restore 1 = .ok (.iload_n 1, 1) := dk_27 (dk_at dksX1_restore_0 1 rfl rfl)
theorem dX1_restore_2 : decode cX1_restore 2 = .ok (.iconst 0, 1) := dk_3 (dk_at dksX1_restore_0 2 rfl rfl)
theorem dX1_restore_3 : decode cX1_restore 3 = .ok (.iconst 1, 1) := dk_4 (dk_at dksX1_restore_0 3 rfl rfl)
theorem dX1_restore_4 : decode cX1_restore 4 = .ok (.invokevirtual 88, 3) := dk_182 0 88 (dk_at dksX1_restore_0 4 rfl rfl)
theorem dX1_restore_7 : decode cX1_restore 7 = .ok (.aload_n 0, 1) := dk_42 (dk_at dksX1_restore_0 7 rfl rfl)
theorem dX1_restore_8 : decode cX1_restore 8 = .ok (.getfield 42, 3) := dk_180 0 42 (dk_at dksX1_restore_0 8 rfl rfl)
theorem dX1_restore_11 : decode cX1_restore 11 = .ok (.iload_n 1, 1) := dk_27 (dk_at dksX1_restore_0 11 rfl rfl)
theorem dX1_restore_12 : decode cX1_restore 12 = .ok (.aaload, 1) := dk_50 (dk_at dksX1_restore_0 12 rfl rfl)
theorem dX1_restore_13 : decode cX1_restore 13 = .ok (.ifnonnull 11, 3) := dk_199 0 11 (dk_at dksX1_restore_0 13 rfl rfl)
theorem dX1_restore_16 : decode cX1_restore 16 = .ok (.new 156, 3) := dk_187 0 156 (dk_at dksX1_restore_0 16 rfl rfl)
theorem dX1_restore_19 : decode cX1_restore 19 = .ok (.dup, 1) := dk_89 (dk_at dksX1_restore_0 19 rfl rfl)
theorem dX1_restore_20 : decode cX1_restore 20 = .ok (.invokespecial 158, 3) := dk_183 0 158 (dk_at dksX1_restore_0 20 rfl rfl)
theorem dX1_restore_23 : decode cX1_restore 23 = .ok (.athrow, 1) := dk_191 (dk_at dksX1_restore_0 23 rfl rfl)
theorem dX1_restore_24 : decode cX1_restore 24 = .ok (.aload_n 0, 1) := dk_42 (dk_at dksX1_restore_1 0 rfl rfl)
theorem dX1_restore_25 : decode cX1_restore 25 = .ok (.aload_n 0, 1) := dk_42 (dk_at dksX1_restore_1 1 rfl rfl)
theorem dX1_restore_26 : decode cX1_restore 26 = .ok (.getfield 42, 3) := dk_180 0 42 (dk_at dksX1_restore_1 2 rfl rfl)
theorem dX1_restore_29 : decode cX1_restore 29 = .ok (.iload_n 1, 1) := dk_27 (dk_at dksX1_restore_1 5 rfl rfl)
theorem dX1_restore_30 : decode cX1_restore 30 = .ok (.aaload, 1) := dk_50 (dk_at dksX1_restore_1 6 rfl rfl)
theorem dX1_restore_31 : decode cX1_restore 31 = .ok (.invokevirtual 125, 3) := dk_182 0 125 (dk_at dksX1_restore_1 7 rfl rfl)
theorem dX1_restore_34 : decode cX1_restore 34 = .ok (.invokevirtual 107, 3) := dk_182 0 107 (dk_at dksX1_restore_1 10 rfl rfl)
theorem dX1_restore_37 : decode cX1_restore 37 = .ok (.aload_n 0, 1) := dk_42 (dk_at dksX1_restore_1 13 rfl rfl)
theorem dX1_restore_38 : decode cX1_restore 38 = .ok (.getfield 14, 3) := dk_180 0 14 (dk_at dksX1_restore_1 14 rfl rfl)
theorem dX1_restore_41 : decode cX1_restore 41 = .ok (.getfield 111, 3) := dk_180 0 111 (dk_at dksX1_restore_1 17 rfl rfl)
theorem dX1_restore_44 : decode cX1_restore 44 = .ok (.ireturn, 1) := dk_172 (dk_at dksX1_restore_1 20 rfl rfl)
abbrev cX1_completeColours : ByteArray := prog_1_method_32_code
def yX1_completeColours : MethodName := ⟨RX1, "completeColours", "()I"⟩
def dkwX1_completeColours_1 : List UInt8 := [182, 0, 220, 153, 0, 6, 132, 2, 1, 132, 3, 1, 167, 255, 237, 28, 172]
abbrev dktX1_completeColours_1 : List UInt8 := dkwX1_completeColours_1 ++ []
def dkwX1_completeColours_0 : List UInt8 := [187, 0, 216, 89, 42, 180, 0, 14, 183, 0, 218, 76, 3, 61, 3, 62, 29, 7, 162, 0, 20, 43, 29]
abbrev dktX1_completeColours_0 : List UInt8 := dkwX1_completeColours_0 ++ dktX1_completeColours_1
theorem dksX1_completeColours_0 : cX1_completeColours.data.toList.drop 0 = dktX1_completeColours_0 := by decide +kernel
theorem dksX1_completeColours_1 : cX1_completeColours.data.toList.drop 23 = dktX1_completeColours_1 := dk_seg dksX1_completeColours_0 23 rfl rfl
theorem dX1_completeColours_0 : decode cX1_completeColours 0 = .ok (.new 216, 3) := dk_187 0 216 (dk_at dksX1_completeColours_0 0 rfl rfl)
theorem dX1_completeColours_3 : decode cX1_completeColours 3 = .ok (.dup, 1) := dk_89 (dk_at dksX1_completeColours_0 3 rfl rfl)
theorem dX1_completeColours_4 : decode cX1_completeColours 4 = .ok (.aload_n 0, 1) := dk_42 (dk_at dksX1_completeColours_0 4 rfl rfl)
theorem dX1_completeColours_5 : decode cX1_completeColours 5 = .ok (.getfield 14, 3) := dk_180 0 14 (dk_at dksX1_completeColours_0 5 rfl rfl)
theorem dX1_completeColours_8 : decode cX1_completeColours 8 = .ok (.invokespecial 218, 3) := dk_183 0 218 (dk_at dksX1_completeColours_0 8 rfl rfl)
theorem dX1_completeColours_11 : decode cX1_completeColours 11 = .ok (.astore_n 1, 1) := dk_76 (dk_at dksX1_completeColours_0 11 rfl rfl)
theorem dX1_completeColours_12 : decode cX1_completeColours 12 = .ok (.iconst 0, 1) := dk_3 (dk_at dksX1_completeColours_0 12 rfl rfl)
theorem dX1_completeColours_13 : decode cX1_completeColours 13 = .ok (.istore_n 2, 1) := dk_61 (dk_at dksX1_completeColours_0 13 rfl rfl)
theorem dX1_completeColours_14 : decode cX1_completeColours 14 = .ok (.iconst 0, 1) := dk_3 (dk_at dksX1_completeColours_0 14 rfl rfl)
theorem dX1_completeColours_15 : decode cX1_completeColours 15 = .ok (.istore_n 3, 1) := dk_62 (dk_at dksX1_completeColours_0 15 rfl rfl)
theorem dX1_completeColours_16 : decode cX1_completeColours 16 = .ok (.iload_n 3, 1) := dk_29 (dk_at dksX1_completeColours_0 16 rfl rfl)
theorem dX1_completeColours_17 : decode cX1_completeColours 17 = .ok (.iconst 4, 1) := dk_7 (dk_at dksX1_completeColours_0 17 rfl rfl)
theorem dX1_completeColours_18 : decode cX1_completeColours 18 = .ok (.if_icmp .ge 20, 3) := dk_162 0 20 (dk_at dksX1_completeColours_0 18 rfl rfl)
theorem dX1_completeColours_21 : decode cX1_completeColours 21 = .ok (.aload_n 1, 1) := dk_43 (dk_at dksX1_completeColours_0 21 rfl rfl)
theorem dX1_completeColours_22 : decode cX1_completeColours 22 = .ok (.iload_n 3, 1) := dk_29 (dk_at dksX1_completeColours_0 22 rfl rfl)
theorem dX1_completeColours_23 : decode cX1_completeColours 23 = .ok (.invokevirtual 220, 3) := dk_182 0 220 (dk_at dksX1_completeColours_1 0 rfl rfl)
theorem dX1_completeColours_26 : decode cX1_completeColours 26 = .ok (.ifCond .eq 6, 3) := dk_153 0 6 (dk_at dksX1_completeColours_1 3 rfl rfl)
theorem dX1_completeColours_29 : decode cX1_completeColours 29 = .ok (.iinc 2 1, 3) := dk_132 2 1 (dk_at dksX1_completeColours_1 6 rfl rfl)
theorem dX1_completeColours_32 : decode cX1_completeColours 32 = .ok (.iinc 3 1, 3) := dk_132 3 1 (dk_at dksX1_completeColours_1 9 rfl rfl)
theorem dX1_completeColours_35 : decode cX1_completeColours 35 = .ok (.goto (-19), 3) := dk_167 255 237 (dk_at dksX1_completeColours_1 12 rfl rfl)
theorem dX1_completeColours_38 : decode cX1_completeColours 38 = .ok (.iload_n 2, 1) := dk_28 (dk_at dksX1_completeColours_1 15 rfl rfl)
theorem dX1_completeColours_39 : decode cX1_completeColours 39 = .ok (.ireturn, 1) := dk_172 (dk_at dksX1_completeColours_1 16 rfl rfl)
abbrev cX1_count : ByteArray := prog_1_method_30_code
def yX1_count : MethodName := ⟨RX1, "count", "(I)I"⟩
def dkwX1_count_5 : List UInt8 := [180, 0, 81, 172]
abbrev dktX1_count_5 : List UInt8 := dkwX1_count_5 ++ []
def dkwX1_count_4 : List UInt8 := [180, 0, 14, 180, 0, 199, 4, 46, 172, 42, 182, 0, 213, 172, 42, 180, 0, 38, 182, 0, 69, 172, 42]
abbrev dktX1_count_4 : List UInt8 := dkwX1_count_4 ++ dktX1_count_5
def dkwX1_count_3 : List UInt8 := [42, 182, 0, 210, 172, 42, 180, 0, 14, 180, 0, 190, 172, 42, 180, 0, 14, 180, 0, 199, 3, 46, 172, 42]
abbrev dktX1_count_3 : List UInt8 := dkwX1_count_3 ++ dktX1_count_4
def dkwX1_count_2 : List UInt8 := [42, 180, 0, 14, 180, 0, 137, 172, 42, 180, 0, 14, 180, 0, 140, 172, 42, 180, 0, 14, 180, 0, 111, 172]
abbrev dktX1_count_2 : List UInt8 := dkwX1_count_2 ++ dktX1_count_3
def dkwX1_count_1 : List UInt8 := [170, 0, 0, 0, 0, 0, 121, 0, 0, 0, 0, 0, 0, 0, 8, 0, 0, 0, 51, 0, 0, 0, 59, 0, 0, 0, 67, 0, 0, 0, 75, 0, 0, 0, 80, 0, 0, 0, 88, 0, 0, 0, 98, 0, 0, 0, 108, 0, 0, 0, 113]
abbrev dktX1_count_1 : List UInt8 := dkwX1_count_1 ++ dktX1_count_2
def dkwX1_count_0 : List UInt8 := [42, 27, 3, 16, 9, 182, 0, 88, 27]
abbrev dktX1_count_0 : List UInt8 := dkwX1_count_0 ++ dktX1_count_1
theorem dksX1_count_0 : cX1_count.data.toList.drop 0 = dktX1_count_0 := by decide +kernel
theorem dksX1_count_1 : cX1_count.data.toList.drop 9 = dktX1_count_1 := dk_seg dksX1_count_0 9 rfl rfl
theorem dksX1_count_2 : cX1_count.data.toList.drop 60 = dktX1_count_2 := dk_seg dksX1_count_1 51 rfl rfl
theorem dksX1_count_3 : cX1_count.data.toList.drop 84 = dktX1_count_3 := dk_seg dksX1_count_2 24 rfl rfl
theorem dksX1_count_4 : cX1_count.data.toList.drop 108 = dktX1_count_4 := dk_seg dksX1_count_3 24 rfl rfl
theorem dksX1_count_5 : cX1_count.data.toList.drop 131 = dktX1_count_5 := dk_seg dksX1_count_4 23 rfl rfl
theorem dX1_count_0 : decode cX1_count 0 = .ok (.aload_n 0, 1) := dk_42 (dk_at dksX1_count_0 0 rfl rfl)
theorem dX1_count_1 : decode cX1_count 1 = .ok (.iload_n 1, 1) := dk_27 (dk_at dksX1_count_0 1 rfl rfl)
theorem dX1_count_2 : decode cX1_count 2 = .ok (.iconst 0, 1) := dk_3 (dk_at dksX1_count_0 2 rfl rfl)
theorem dX1_count_3 : decode cX1_count 3 = .ok (.bipush 9, 2) := dk_16 9 (dk_at dksX1_count_0 3 rfl rfl)
theorem dX1_count_5 : decode cX1_count 5 = .ok (.invokevirtual 88, 3) := dk_182 0 88 (dk_at dksX1_count_0 5 rfl rfl)
theorem dX1_count_8 : decode cX1_count 8 = .ok (.iload_n 1, 1) := dk_27 (dk_at dksX1_count_0 8 rfl rfl)
theorem dX1_count_9 : decode cX1_count 9 = .ok (.tableswitch 121 0 8 #[51, 59, 67, 75, 80, 88, 98, 108, 113], 51) := by decide +kernel
theorem dX1_count_60 : decode cX1_count 60 = .ok (.aload_n 0, 1) := dk_42 (dk_at dksX1_count_2 0 rfl rfl)
theorem dX1_count_61 : decode cX1_count 61 = .ok (.getfield 14, 3) := dk_180 0 14 (dk_at dksX1_count_2 1 rfl rfl)
theorem dX1_count_64 : decode cX1_count 64 = .ok (.getfield 137, 3) := dk_180 0 137 (dk_at dksX1_count_2 4 rfl rfl)
theorem dX1_count_67 : decode cX1_count 67 = .ok (.ireturn, 1) := dk_172 (dk_at dksX1_count_2 7 rfl rfl)
theorem dX1_count_68 : decode cX1_count 68 = .ok (.aload_n 0, 1) := dk_42 (dk_at dksX1_count_2 8 rfl rfl)
theorem dX1_count_69 : decode cX1_count 69 = .ok (.getfield 14, 3) := dk_180 0 14 (dk_at dksX1_count_2 9 rfl rfl)
theorem dX1_count_72 : decode cX1_count 72 = .ok (.getfield 140, 3) := dk_180 0 140 (dk_at dksX1_count_2 12 rfl rfl)
theorem dX1_count_75 : decode cX1_count 75 = .ok (.ireturn, 1) := dk_172 (dk_at dksX1_count_2 15 rfl rfl)
theorem dX1_count_76 : decode cX1_count 76 = .ok (.aload_n 0, 1) := dk_42 (dk_at dksX1_count_2 16 rfl rfl)
theorem dX1_count_77 : decode cX1_count 77 = .ok (.getfield 14, 3) := dk_180 0 14 (dk_at dksX1_count_2 17 rfl rfl)
theorem dX1_count_80 : decode cX1_count 80 = .ok (.getfield 111, 3) := dk_180 0 111 (dk_at dksX1_count_2 20 rfl rfl)
theorem dX1_count_83 : decode cX1_count 83 = .ok (.ireturn, 1) := dk_172 (dk_at dksX1_count_2 23 rfl rfl)
theorem dX1_count_84 : decode cX1_count 84 = .ok (.aload_n 0, 1) := dk_42 (dk_at dksX1_count_3 0 rfl rfl)
theorem dX1_count_85 : decode cX1_count 85 = .ok (.invokevirtual 210, 3) := dk_182 0 210 (dk_at dksX1_count_3 1 rfl rfl)
theorem dX1_count_88 : decode cX1_count 88 = .ok (.ireturn, 1) := dk_172 (dk_at dksX1_count_3 4 rfl rfl)
theorem dX1_count_89 : decode cX1_count 89 = .ok (.aload_n 0, 1) := dk_42 (dk_at dksX1_count_3 5 rfl rfl)
theorem dX1_count_90 : decode cX1_count 90 = .ok (.getfield 14, 3) := dk_180 0 14 (dk_at dksX1_count_3 6 rfl rfl)
theorem dX1_count_93 : decode cX1_count 93 = .ok (.getfield 190, 3) := dk_180 0 190 (dk_at dksX1_count_3 9 rfl rfl)
theorem dX1_count_96 : decode cX1_count 96 = .ok (.ireturn, 1) := dk_172 (dk_at dksX1_count_3 12 rfl rfl)
theorem dX1_count_97 : decode cX1_count 97 = .ok (.aload_n 0, 1) := dk_42 (dk_at dksX1_count_3 13 rfl rfl)
theorem dX1_count_98 : decode cX1_count 98 = .ok (.getfield 14, 3) := dk_180 0 14 (dk_at dksX1_count_3 14 rfl rfl)
theorem dX1_count_101 : decode cX1_count 101 = .ok (.getfield 199, 3) := dk_180 0 199 (dk_at dksX1_count_3 17 rfl rfl)
theorem dX1_count_104 : decode cX1_count 104 = .ok (.iconst 0, 1) := dk_3 (dk_at dksX1_count_3 20 rfl rfl)
theorem dX1_count_105 : decode cX1_count 105 = .ok (.iaload, 1) := dk_46 (dk_at dksX1_count_3 21 rfl rfl)
theorem dX1_count_106 : decode cX1_count 106 = .ok (.ireturn, 1) := dk_172 (dk_at dksX1_count_3 22 rfl rfl)
theorem dX1_count_107 : decode cX1_count 107 = .ok (.aload_n 0, 1) := dk_42 (dk_at dksX1_count_3 23 rfl rfl)
theorem dX1_count_108 : decode cX1_count 108 = .ok (.getfield 14, 3) := dk_180 0 14 (dk_at dksX1_count_4 0 rfl rfl)
theorem dX1_count_111 : decode cX1_count 111 = .ok (.getfield 199, 3) := dk_180 0 199 (dk_at dksX1_count_4 3 rfl rfl)
theorem dX1_count_114 : decode cX1_count 114 = .ok (.iconst 1, 1) := dk_4 (dk_at dksX1_count_4 6 rfl rfl)
theorem dX1_count_115 : decode cX1_count 115 = .ok (.iaload, 1) := dk_46 (dk_at dksX1_count_4 7 rfl rfl)
theorem dX1_count_116 : decode cX1_count 116 = .ok (.ireturn, 1) := dk_172 (dk_at dksX1_count_4 8 rfl rfl)
theorem dX1_count_117 : decode cX1_count 117 = .ok (.aload_n 0, 1) := dk_42 (dk_at dksX1_count_4 9 rfl rfl)
theorem dX1_count_118 : decode cX1_count 118 = .ok (.invokevirtual 213, 3) := dk_182 0 213 (dk_at dksX1_count_4 10 rfl rfl)
theorem dX1_count_121 : decode cX1_count 121 = .ok (.ireturn, 1) := dk_172 (dk_at dksX1_count_4 13 rfl rfl)
theorem dX1_count_122 : decode cX1_count 122 = .ok (.aload_n 0, 1) := dk_42 (dk_at dksX1_count_4 14 rfl rfl)
theorem dX1_count_123 : decode cX1_count 123 = .ok (.getfield 38, 3) := dk_180 0 38 (dk_at dksX1_count_4 15 rfl rfl)
theorem dX1_count_126 : decode cX1_count 126 = .ok (.invokevirtual 69, 3) := dk_182 0 69 (dk_at dksX1_count_4 18 rfl rfl)
theorem dX1_count_129 : decode cX1_count 129 = .ok (.ireturn, 1) := dk_172 (dk_at dksX1_count_4 21 rfl rfl)
theorem dX1_count_130 : decode cX1_count 130 = .ok (.aload_n 0, 1) := dk_42 (dk_at dksX1_count_4 22 rfl rfl)
theorem dX1_count_131 : decode cX1_count 131 = .ok (.getfield 81, 3) := dk_180 0 81 (dk_at dksX1_count_5 0 rfl rfl)
theorem dX1_count_134 : decode cX1_count 134 = .ok (.ireturn, 1) := dk_172 (dk_at dksX1_count_5 3 rfl rfl)
abbrev cX1_comingFrom : ByteArray := prog_1_method_35_code
def yX1_comingFrom : MethodName := ⟨RX1, "comingFrom", "(I)I"⟩
def dkwX1_comingFrom_3 : List UInt8 := [180, 0, 242, 27, 160, 0, 6, 132, 3, 1, 132, 4, 1, 167, 255, 191, 29, 172]
abbrev dktX1_comingFrom_3 : List UInt8 := dkwX1_comingFrom_3 ++ []
def dkwX1_comingFrom_2 : List UInt8 := [180, 0, 14, 180, 0, 146, 27, 50, 180, 0, 172, 182, 0, 253, 153, 0, 19, 44, 21, 4, 182, 0, 238]
abbrev dktX1_comingFrom_2 : List UInt8 := dkwX1_comingFrom_2 ++ dktX1_comingFrom_3
def dkwX1_comingFrom_1 : List UInt8 := [180, 0, 111, 162, 0, 59, 21, 4, 27, 159, 0, 47, 42, 180, 0, 14, 180, 0, 146, 21, 4, 50, 42]
abbrev dktX1_comingFrom_1 : List UInt8 := dkwX1_comingFrom_1 ++ dktX1_comingFrom_2
def dkwX1_comingFrom_0 : List UInt8 := [187, 0, 216, 89, 42, 180, 0, 14, 183, 0, 218, 77, 3, 62, 3, 54, 4, 21, 4, 42, 180, 0, 14]
abbrev dktX1_comingFrom_0 : List UInt8 := dkwX1_comingFrom_0 ++ dktX1_comingFrom_1
theorem dksX1_comingFrom_0 : cX1_comingFrom.data.toList.drop 0 = dktX1_comingFrom_0 := by decide +kernel
theorem dksX1_comingFrom_1 : cX1_comingFrom.data.toList.drop 23 = dktX1_comingFrom_1 := dk_seg dksX1_comingFrom_0 23 rfl rfl
theorem dksX1_comingFrom_2 : cX1_comingFrom.data.toList.drop 46 = dktX1_comingFrom_2 := dk_seg dksX1_comingFrom_1 23 rfl rfl
theorem dksX1_comingFrom_3 : cX1_comingFrom.data.toList.drop 69 = dktX1_comingFrom_3 := dk_seg dksX1_comingFrom_2 23 rfl rfl
theorem dX1_comingFrom_0 : decode cX1_comingFrom 0 = .ok (.new 216, 3) := dk_187 0 216 (dk_at dksX1_comingFrom_0 0 rfl rfl)
theorem dX1_comingFrom_3 : decode cX1_comingFrom 3 = .ok (.dup, 1) := dk_89 (dk_at dksX1_comingFrom_0 3 rfl rfl)
theorem dX1_comingFrom_4 : decode cX1_comingFrom 4 = .ok (.aload_n 0, 1) := dk_42 (dk_at dksX1_comingFrom_0 4 rfl rfl)
theorem dX1_comingFrom_5 : decode cX1_comingFrom 5 = .ok (.getfield 14, 3) := dk_180 0 14 (dk_at dksX1_comingFrom_0 5 rfl rfl)
theorem dX1_comingFrom_8 : decode cX1_comingFrom 8 = .ok (.invokespecial 218, 3) := dk_183 0 218 (dk_at dksX1_comingFrom_0 8 rfl rfl)
theorem dX1_comingFrom_11 : decode cX1_comingFrom 11 = .ok (.astore_n 2, 1) := dk_77 (dk_at dksX1_comingFrom_0 11 rfl rfl)
theorem dX1_comingFrom_12 : decode cX1_comingFrom 12 = .ok (.iconst 0, 1) := dk_3 (dk_at dksX1_comingFrom_0 12 rfl rfl)
theorem dX1_comingFrom_13 : decode cX1_comingFrom 13 = .ok (.istore_n 3, 1) := dk_62 (dk_at dksX1_comingFrom_0 13 rfl rfl)
theorem dX1_comingFrom_14 : decode cX1_comingFrom 14 = .ok (.iconst 0, 1) := dk_3 (dk_at dksX1_comingFrom_0 14 rfl rfl)
theorem dX1_comingFrom_15 : decode cX1_comingFrom 15 = .ok (.istore 4, 2) := dk_54 4 (dk_at dksX1_comingFrom_0 15 rfl rfl)
theorem dX1_comingFrom_17 : decode cX1_comingFrom 17 = .ok (.iload 4, 2) := dk_21 4 (dk_at dksX1_comingFrom_0 17 rfl rfl)
theorem dX1_comingFrom_19 : decode cX1_comingFrom 19 = .ok (.aload_n 0, 1) := dk_42 (dk_at dksX1_comingFrom_0 19 rfl rfl)
theorem dX1_comingFrom_20 : decode cX1_comingFrom 20 = .ok (.getfield 14, 3) := dk_180 0 14 (dk_at dksX1_comingFrom_0 20 rfl rfl)
theorem dX1_comingFrom_23 : decode cX1_comingFrom 23 = .ok (.getfield 111, 3) := dk_180 0 111 (dk_at dksX1_comingFrom_1 0 rfl rfl)
theorem dX1_comingFrom_26 : decode cX1_comingFrom 26 = .ok (.if_icmp .ge 59, 3) := dk_162 0 59 (dk_at dksX1_comingFrom_1 3 rfl rfl)
theorem dX1_comingFrom_29 : decode cX1_comingFrom 29 = .ok (.iload 4, 2) := dk_21 4 (dk_at dksX1_comingFrom_1 6 rfl rfl)
theorem dX1_comingFrom_31 : decode cX1_comingFrom 31 = .ok (.iload_n 1, 1) := dk_27 (dk_at dksX1_comingFrom_1 8 rfl rfl)
theorem dX1_comingFrom_32 : decode cX1_comingFrom 32 = .ok (.if_icmp .eq 47, 3) := dk_159 0 47 (dk_at dksX1_comingFrom_1 9 rfl rfl)
theorem dX1_comingFrom_35 : decode cX1_comingFrom 35 = .ok (.aload_n 0, 1) := dk_42 (dk_at dksX1_comingFrom_1 12 rfl rfl)
theorem dX1_comingFrom_36 : decode cX1_comingFrom 36 = .ok (.getfield 14, 3) := dk_180 0 14 (dk_at dksX1_comingFrom_1 13 rfl rfl)
theorem dX1_comingFrom_39 : decode cX1_comingFrom 39 = .ok (.getfield 146, 3) := dk_180 0 146 (dk_at dksX1_comingFrom_1 16 rfl rfl)
theorem dX1_comingFrom_42 : decode cX1_comingFrom 42 = .ok (.iload 4, 2) := dk_21 4 (dk_at dksX1_comingFrom_1 19 rfl rfl)
theorem dX1_comingFrom_44 : decode cX1_comingFrom 44 = .ok (.aaload, 1) := dk_50 (dk_at dksX1_comingFrom_1 21 rfl rfl)
theorem dX1_comingFrom_45 : decode cX1_comingFrom 45 = .ok (.aload_n 0, 1) := dk_42 (dk_at dksX1_comingFrom_1 22 rfl rfl)
theorem dX1_comingFrom_46 : decode cX1_comingFrom 46 = .ok (.getfield 14, 3) := dk_180 0 14 (dk_at dksX1_comingFrom_2 0 rfl rfl)
theorem dX1_comingFrom_49 : decode cX1_comingFrom 49 = .ok (.getfield 146, 3) := dk_180 0 146 (dk_at dksX1_comingFrom_2 3 rfl rfl)
theorem dX1_comingFrom_52 : decode cX1_comingFrom 52 = .ok (.iload_n 1, 1) := dk_27 (dk_at dksX1_comingFrom_2 6 rfl rfl)
theorem dX1_comingFrom_53 : decode cX1_comingFrom 53 = .ok (.aaload, 1) := dk_50 (dk_at dksX1_comingFrom_2 7 rfl rfl)
theorem dX1_comingFrom_54 : decode cX1_comingFrom 54 = .ok (.getfield 172, 3) := dk_180 0 172 (dk_at dksX1_comingFrom_2 8 rfl rfl)
theorem dX1_comingFrom_57 : decode cX1_comingFrom 57 = .ok (.invokevirtual 253, 3) := dk_182 0 253 (dk_at dksX1_comingFrom_2 11 rfl rfl)
theorem dX1_comingFrom_60 : decode cX1_comingFrom 60 = .ok (.ifCond .eq 19, 3) := dk_153 0 19 (dk_at dksX1_comingFrom_2 14 rfl rfl)
theorem dX1_comingFrom_63 : decode cX1_comingFrom 63 = .ok (.aload_n 2, 1) := dk_44 (dk_at dksX1_comingFrom_2 17 rfl rfl)
theorem dX1_comingFrom_64 : decode cX1_comingFrom 64 = .ok (.iload 4, 2) := dk_21 4 (dk_at dksX1_comingFrom_2 18 rfl rfl)
theorem dX1_comingFrom_66 : decode cX1_comingFrom 66 = .ok (.invokevirtual 238, 3) := dk_182 0 238 (dk_at dksX1_comingFrom_2 20 rfl rfl)
theorem dX1_comingFrom_69 : decode cX1_comingFrom 69 = .ok (.getfield 242, 3) := dk_180 0 242 (dk_at dksX1_comingFrom_3 0 rfl rfl)
theorem dX1_comingFrom_72 : decode cX1_comingFrom 72 = .ok (.iload_n 1, 1) := dk_27 (dk_at dksX1_comingFrom_3 3 rfl rfl)
theorem dX1_comingFrom_73 : decode cX1_comingFrom 73 = .ok (.if_icmp .ne 6, 3) := dk_160 0 6 (dk_at dksX1_comingFrom_3 4 rfl rfl)
theorem dX1_comingFrom_76 : decode cX1_comingFrom 76 = .ok (.iinc 3 1, 3) := dk_132 3 1 (dk_at dksX1_comingFrom_3 7 rfl rfl)
theorem dX1_comingFrom_79 : decode cX1_comingFrom 79 = .ok (.iinc 4 1, 3) := dk_132 4 1 (dk_at dksX1_comingFrom_3 10 rfl rfl)
theorem dX1_comingFrom_82 : decode cX1_comingFrom 82 = .ok (.goto (-65), 3) := dk_167 255 191 (dk_at dksX1_comingFrom_3 13 rfl rfl)
theorem dX1_comingFrom_85 : decode cX1_comingFrom 85 = .ok (.iload_n 3, 1) := dk_29 (dk_at dksX1_comingFrom_3 16 rfl rfl)
theorem dX1_comingFrom_86 : decode cX1_comingFrom 86 = .ok (.ireturn, 1) := dk_172 (dk_at dksX1_comingFrom_3 17 rfl rfl)
abbrev cX1_onward : ByteArray := prog_1_method_34_code
def yX1_onward : MethodName := ⟨RX1, "onward", "(II)I"⟩
def dkwX1_onward_3 : List UInt8 := [180, 0, 250, 172]
abbrev dktX1_onward_3 : List UInt8 := dkwX1_onward_3 ++ []
def dkwX1_onward_2 : List UInt8 := [160, 0, 10, 45, 180, 0, 242, 167, 0, 19, 28, 8, 160, 0, 10, 45, 180, 0, 247, 167, 0, 7, 45]
abbrev dktX1_onward_2 : List UInt8 := dkwX1_onward_2 ++ dktX1_onward_3
def dkwX1_onward_1 : List UInt8 := [180, 0, 14, 183, 0, 218, 27, 182, 0, 238, 78, 45, 180, 0, 242, 2, 160, 0, 5, 2, 172, 28, 7]
abbrev dktX1_onward_1 : List UInt8 := dkwX1_onward_1 ++ dktX1_onward_2
def dkwX1_onward_0 : List UInt8 := [42, 180, 0, 14, 180, 0, 146, 27, 50, 180, 0, 227, 153, 0, 5, 2, 172, 187, 0, 216, 89, 42]
abbrev dktX1_onward_0 : List UInt8 := dkwX1_onward_0 ++ dktX1_onward_1
theorem dksX1_onward_0 : cX1_onward.data.toList.drop 0 = dktX1_onward_0 := by decide +kernel
theorem dksX1_onward_1 : cX1_onward.data.toList.drop 22 = dktX1_onward_1 := dk_seg dksX1_onward_0 22 rfl rfl
theorem dksX1_onward_2 : cX1_onward.data.toList.drop 45 = dktX1_onward_2 := dk_seg dksX1_onward_1 23 rfl rfl
theorem dksX1_onward_3 : cX1_onward.data.toList.drop 68 = dktX1_onward_3 := dk_seg dksX1_onward_2 23 rfl rfl
theorem dX1_onward_0 : decode cX1_onward 0 = .ok (.aload_n 0, 1) := dk_42 (dk_at dksX1_onward_0 0 rfl rfl)
theorem dX1_onward_1 : decode cX1_onward 1 = .ok (.getfield 14, 3) := dk_180 0 14 (dk_at dksX1_onward_0 1 rfl rfl)
theorem dX1_onward_4 : decode cX1_onward 4 = .ok (.getfield 146, 3) := dk_180 0 146 (dk_at dksX1_onward_0 4 rfl rfl)
theorem dX1_onward_7 : decode cX1_onward 7 = .ok (.iload_n 1, 1) := dk_27 (dk_at dksX1_onward_0 7 rfl rfl)
theorem dX1_onward_8 : decode cX1_onward 8 = .ok (.aaload, 1) := dk_50 (dk_at dksX1_onward_0 8 rfl rfl)
theorem dX1_onward_9 : decode cX1_onward 9 = .ok (.getfield 227, 3) := dk_180 0 227 (dk_at dksX1_onward_0 9 rfl rfl)
theorem dX1_onward_12 : decode cX1_onward 12 = .ok (.ifCond .eq 5, 3) := dk_153 0 5 (dk_at dksX1_onward_0 12 rfl rfl)
theorem dX1_onward_15 : decode cX1_onward 15 = .ok (.iconst (-1), 1) := dk_2 (dk_at dksX1_onward_0 15 rfl rfl)
theorem dX1_onward_16 : decode cX1_onward 16 = .ok (.ireturn, 1) := dk_172 (dk_at dksX1_onward_0 16 rfl rfl)
theorem dX1_onward_17 : decode cX1_onward 17 = .ok (.new 216, 3) := dk_187 0 216 (dk_at dksX1_onward_0 17 rfl rfl)
theorem dX1_onward_20 : decode cX1_onward 20 = .ok (.dup, 1) := dk_89 (dk_at dksX1_onward_0 20 rfl rfl)
theorem dX1_onward_21 : decode cX1_onward 21 = .ok (.aload_n 0, 1) := dk_42 (dk_at dksX1_onward_0 21 rfl rfl)
theorem dX1_onward_22 : decode cX1_onward 22 = .ok (.getfield 14, 3) := dk_180 0 14 (dk_at dksX1_onward_1 0 rfl rfl)
theorem dX1_onward_25 : decode cX1_onward 25 = .ok (.invokespecial 218, 3) := dk_183 0 218 (dk_at dksX1_onward_1 3 rfl rfl)
theorem dX1_onward_28 : decode cX1_onward 28 = .ok (.iload_n 1, 1) := dk_27 (dk_at dksX1_onward_1 6 rfl rfl)
theorem dX1_onward_29 : decode cX1_onward 29 = .ok (.invokevirtual 238, 3) := dk_182 0 238 (dk_at dksX1_onward_1 7 rfl rfl)
theorem dX1_onward_32 : decode cX1_onward 32 = .ok (.astore_n 3, 1) := dk_78 (dk_at dksX1_onward_1 10 rfl rfl)
theorem dX1_onward_33 : decode cX1_onward 33 = .ok (.aload_n 3, 1) := dk_45 (dk_at dksX1_onward_1 11 rfl rfl)
theorem dX1_onward_34 : decode cX1_onward 34 = .ok (.getfield 242, 3) := dk_180 0 242 (dk_at dksX1_onward_1 12 rfl rfl)
theorem dX1_onward_37 : decode cX1_onward 37 = .ok (.iconst (-1), 1) := dk_2 (dk_at dksX1_onward_1 15 rfl rfl)
theorem dX1_onward_38 : decode cX1_onward 38 = .ok (.if_icmp .ne 5, 3) := dk_160 0 5 (dk_at dksX1_onward_1 16 rfl rfl)
theorem dX1_onward_41 : decode cX1_onward 41 = .ok (.iconst (-1), 1) := dk_2 (dk_at dksX1_onward_1 19 rfl rfl)
theorem dX1_onward_42 : decode cX1_onward 42 = .ok (.ireturn, 1) := dk_172 (dk_at dksX1_onward_1 20 rfl rfl)
theorem dX1_onward_43 : decode cX1_onward 43 = .ok (.iload_n 2, 1) := dk_28 (dk_at dksX1_onward_1 21 rfl rfl)
theorem dX1_onward_44 : decode cX1_onward 44 = .ok (.iconst 4, 1) := dk_7 (dk_at dksX1_onward_1 22 rfl rfl)
theorem dX1_onward_45 : decode cX1_onward 45 = .ok (.if_icmp .ne 10, 3) := dk_160 0 10 (dk_at dksX1_onward_2 0 rfl rfl)
theorem dX1_onward_48 : decode cX1_onward 48 = .ok (.aload_n 3, 1) := dk_45 (dk_at dksX1_onward_2 3 rfl rfl)
theorem dX1_onward_49 : decode cX1_onward 49 = .ok (.getfield 242, 3) := dk_180 0 242 (dk_at dksX1_onward_2 4 rfl rfl)
theorem dX1_onward_52 : decode cX1_onward 52 = .ok (.goto 19, 3) := dk_167 0 19 (dk_at dksX1_onward_2 7 rfl rfl)
theorem dX1_onward_55 : decode cX1_onward 55 = .ok (.iload_n 2, 1) := dk_28 (dk_at dksX1_onward_2 10 rfl rfl)
theorem dX1_onward_56 : decode cX1_onward 56 = .ok (.iconst 5, 1) := dk_8 (dk_at dksX1_onward_2 11 rfl rfl)
theorem dX1_onward_57 : decode cX1_onward 57 = .ok (.if_icmp .ne 10, 3) := dk_160 0 10 (dk_at dksX1_onward_2 12 rfl rfl)
theorem dX1_onward_60 : decode cX1_onward 60 = .ok (.aload_n 3, 1) := dk_45 (dk_at dksX1_onward_2 15 rfl rfl)
theorem dX1_onward_61 : decode cX1_onward 61 = .ok (.getfield 247, 3) := dk_180 0 247 (dk_at dksX1_onward_2 16 rfl rfl)
theorem dX1_onward_64 : decode cX1_onward 64 = .ok (.goto 7, 3) := dk_167 0 7 (dk_at dksX1_onward_2 19 rfl rfl)
theorem dX1_onward_67 : decode cX1_onward 67 = .ok (.aload_n 3, 1) := dk_45 (dk_at dksX1_onward_2 22 rfl rfl)
theorem dX1_onward_68 : decode cX1_onward 68 = .ok (.getfield 250, 3) := dk_180 0 250 (dk_at dksX1_onward_3 0 rfl rfl)
theorem dX1_onward_71 : decode cX1_onward 71 = .ok (.ireturn, 1) := dk_172 (dk_at dksX1_onward_3 3 rfl rfl)
abbrev cX1_post : ByteArray := prog_1_method_33_code
def yX1_post : MethodName := ⟨RX1, "post", "(II)I"⟩
def dkwX1_post_3 : List UInt8 := [167, 0, 4, 3, 172, 42, 27, 182, 0, 231, 172, 42, 27, 28, 182, 0, 234, 172]
abbrev dktX1_post_3 : List UInt8 := dkwX1_post_3 ++ []
def dkwX1_post_2 : List UInt8 := [45, 182, 0, 224, 172, 45, 180, 0, 172, 172, 45, 180, 0, 169, 172, 45, 180, 0, 227, 153, 0, 7, 4]
abbrev dktX1_post_2 : List UInt8 := dkwX1_post_2 ++ dktX1_post_3
def dkwX1_post_1 : List UInt8 := [170, 0, 0, 0, 79, 0, 0, 0, 0, 0, 0, 0, 7, 0, 0, 0, 45, 0, 0, 0, 50, 0, 0, 0, 55, 0, 0, 0, 60, 0, 0, 0, 79, 0, 0, 0, 79, 0, 0, 0, 79, 0, 0, 0, 73]
abbrev dktX1_post_1 : List UInt8 := dkwX1_post_1 ++ dktX1_post_2
def dkwX1_post_0 : List UInt8 := [42, 27, 182, 0, 159, 78, 42, 28, 3, 16, 7, 182, 0, 88, 28]
abbrev dktX1_post_0 : List UInt8 := dkwX1_post_0 ++ dktX1_post_1
theorem dksX1_post_0 : cX1_post.data.toList.drop 0 = dktX1_post_0 := by decide +kernel
theorem dksX1_post_1 : cX1_post.data.toList.drop 15 = dktX1_post_1 := dk_seg dksX1_post_0 15 rfl rfl
theorem dksX1_post_2 : cX1_post.data.toList.drop 60 = dktX1_post_2 := dk_seg dksX1_post_1 45 rfl rfl
theorem dksX1_post_3 : cX1_post.data.toList.drop 83 = dktX1_post_3 := dk_seg dksX1_post_2 23 rfl rfl
theorem dX1_post_0 : decode cX1_post 0 = .ok (.aload_n 0, 1) := dk_42 (dk_at dksX1_post_0 0 rfl rfl)
theorem dX1_post_1 : decode cX1_post 1 = .ok (.iload_n 1, 1) := dk_27 (dk_at dksX1_post_0 1 rfl rfl)
theorem dX1_post_2 : decode cX1_post 2 = .ok (.invokevirtual 159, 3) := dk_182 0 159 (dk_at dksX1_post_0 2 rfl rfl)
theorem dX1_post_5 : decode cX1_post 5 = .ok (.astore_n 3, 1) := dk_78 (dk_at dksX1_post_0 5 rfl rfl)
theorem dX1_post_6 : decode cX1_post 6 = .ok (.aload_n 0, 1) := dk_42 (dk_at dksX1_post_0 6 rfl rfl)
theorem dX1_post_7 : decode cX1_post 7 = .ok (.iload_n 2, 1) := dk_28 (dk_at dksX1_post_0 7 rfl rfl)
theorem dX1_post_8 : decode cX1_post 8 = .ok (.iconst 0, 1) := dk_3 (dk_at dksX1_post_0 8 rfl rfl)
theorem dX1_post_9 : decode cX1_post 9 = .ok (.bipush 7, 2) := dk_16 7 (dk_at dksX1_post_0 9 rfl rfl)
theorem dX1_post_11 : decode cX1_post 11 = .ok (.invokevirtual 88, 3) := dk_182 0 88 (dk_at dksX1_post_0 11 rfl rfl)
theorem dX1_post_14 : decode cX1_post 14 = .ok (.iload_n 2, 1) := dk_28 (dk_at dksX1_post_0 14 rfl rfl)
theorem dX1_post_15 : decode cX1_post 15 = .ok (.tableswitch 79 0 7 #[45, 50, 55, 60, 79, 79, 79, 73], 45) := by decide +kernel
theorem dX1_post_60 : decode cX1_post 60 = .ok (.aload_n 3, 1) := dk_45 (dk_at dksX1_post_2 0 rfl rfl)
theorem dX1_post_61 : decode cX1_post 61 = .ok (.invokevirtual 224, 3) := dk_182 0 224 (dk_at dksX1_post_2 1 rfl rfl)
theorem dX1_post_64 : decode cX1_post 64 = .ok (.ireturn, 1) := dk_172 (dk_at dksX1_post_2 4 rfl rfl)
theorem dX1_post_65 : decode cX1_post 65 = .ok (.aload_n 3, 1) := dk_45 (dk_at dksX1_post_2 5 rfl rfl)
theorem dX1_post_66 : decode cX1_post 66 = .ok (.getfield 172, 3) := dk_180 0 172 (dk_at dksX1_post_2 6 rfl rfl)
theorem dX1_post_69 : decode cX1_post 69 = .ok (.ireturn, 1) := dk_172 (dk_at dksX1_post_2 9 rfl rfl)
theorem dX1_post_70 : decode cX1_post 70 = .ok (.aload_n 3, 1) := dk_45 (dk_at dksX1_post_2 10 rfl rfl)
theorem dX1_post_71 : decode cX1_post 71 = .ok (.getfield 169, 3) := dk_180 0 169 (dk_at dksX1_post_2 11 rfl rfl)
theorem dX1_post_74 : decode cX1_post 74 = .ok (.ireturn, 1) := dk_172 (dk_at dksX1_post_2 14 rfl rfl)
theorem dX1_post_75 : decode cX1_post 75 = .ok (.aload_n 3, 1) := dk_45 (dk_at dksX1_post_2 15 rfl rfl)
theorem dX1_post_76 : decode cX1_post 76 = .ok (.getfield 227, 3) := dk_180 0 227 (dk_at dksX1_post_2 16 rfl rfl)
theorem dX1_post_79 : decode cX1_post 79 = .ok (.ifCond .eq 7, 3) := dk_153 0 7 (dk_at dksX1_post_2 19 rfl rfl)
theorem dX1_post_82 : decode cX1_post 82 = .ok (.iconst 1, 1) := dk_4 (dk_at dksX1_post_2 22 rfl rfl)
theorem dX1_post_83 : decode cX1_post 83 = .ok (.goto 4, 3) := dk_167 0 4 (dk_at dksX1_post_3 0 rfl rfl)
theorem dX1_post_86 : decode cX1_post 86 = .ok (.iconst 0, 1) := dk_3 (dk_at dksX1_post_3 3 rfl rfl)
theorem dX1_post_87 : decode cX1_post 87 = .ok (.ireturn, 1) := dk_172 (dk_at dksX1_post_3 4 rfl rfl)
theorem dX1_post_88 : decode cX1_post 88 = .ok (.aload_n 0, 1) := dk_42 (dk_at dksX1_post_3 5 rfl rfl)
theorem dX1_post_89 : decode cX1_post 89 = .ok (.iload_n 1, 1) := dk_27 (dk_at dksX1_post_3 6 rfl rfl)
theorem dX1_post_90 : decode cX1_post 90 = .ok (.invokevirtual 231, 3) := dk_182 0 231 (dk_at dksX1_post_3 7 rfl rfl)
theorem dX1_post_93 : decode cX1_post 93 = .ok (.ireturn, 1) := dk_172 (dk_at dksX1_post_3 10 rfl rfl)
theorem dX1_post_94 : decode cX1_post 94 = .ok (.aload_n 0, 1) := dk_42 (dk_at dksX1_post_3 11 rfl rfl)
theorem dX1_post_95 : decode cX1_post 95 = .ok (.iload_n 1, 1) := dk_27 (dk_at dksX1_post_3 12 rfl rfl)
theorem dX1_post_96 : decode cX1_post 96 = .ok (.iload_n 2, 1) := dk_28 (dk_at dksX1_post_3 13 rfl rfl)
theorem dX1_post_97 : decode cX1_post 97 = .ok (.invokevirtual 234, 3) := dk_182 0 234 (dk_at dksX1_post_3 14 rfl rfl)
theorem dX1_post_100 : decode cX1_post 100 = .ok (.ireturn, 1) := dk_172 (dk_at dksX1_post_3 17 rfl rfl)
abbrev cX1_at : ByteArray := prog_1_method_36_code
def yX1_at : MethodName := ⟨RX1, "at", "(II)I"⟩
def dkwX1_at_1 : List UInt8 := [180, 0, 14, 27, 28, 182, 1, 0, 172]
abbrev dktX1_at_1 : List UInt8 := dkwX1_at_1 ++ []
def dkwX1_at_0 : List UInt8 := [42, 27, 28, 182, 0, 153, 42, 180, 0, 14, 27, 28, 182, 0, 183, 153, 0, 8, 16, 254, 167, 0, 12, 42]
abbrev dktX1_at_0 : List UInt8 := dkwX1_at_0 ++ dktX1_at_1
theorem dksX1_at_0 : cX1_at.data.toList.drop 0 = dktX1_at_0 := by decide +kernel
theorem dksX1_at_1 : cX1_at.data.toList.drop 24 = dktX1_at_1 := dk_seg dksX1_at_0 24 rfl rfl
theorem dX1_at_0 : decode cX1_at 0 = .ok (.aload_n 0, 1) := dk_42 (dk_at dksX1_at_0 0 rfl rfl)
theorem dX1_at_1 : decode cX1_at 1 = .ok (.iload_n 1, 1) := dk_27 (dk_at dksX1_at_0 1 rfl rfl)
theorem dX1_at_2 : decode cX1_at 2 = .ok (.iload_n 2, 1) := dk_28 (dk_at dksX1_at_0 2 rfl rfl)
theorem dX1_at_3 : decode cX1_at 3 = .ok (.invokevirtual 153, 3) := dk_182 0 153 (dk_at dksX1_at_0 3 rfl rfl)
theorem dX1_at_6 : decode cX1_at 6 = .ok (.aload_n 0, 1) := dk_42 (dk_at dksX1_at_0 6 rfl rfl)
theorem dX1_at_7 : decode cX1_at 7 = .ok (.getfield 14, 3) := dk_180 0 14 (dk_at dksX1_at_0 7 rfl rfl)
theorem dX1_at_10 : decode cX1_at 10 = .ok (.iload_n 1, 1) := dk_27 (dk_at dksX1_at_0 10 rfl rfl)
theorem dX1_at_11 : decode cX1_at 11 = .ok (.iload_n 2, 1) := dk_28 (dk_at dksX1_at_0 11 rfl rfl)
theorem dX1_at_12 : decode cX1_at 12 = .ok (.invokevirtual 183, 3) := dk_182 0 183 (dk_at dksX1_at_0 12 rfl rfl)
theorem dX1_at_15 : decode cX1_at 15 = .ok (.ifCond .eq 8, 3) := dk_153 0 8 (dk_at dksX1_at_0 15 rfl rfl)
theorem dX1_at_18 : decode cX1_at 18 = .ok (.bipush (-2), 2) := dk_16 254 (dk_at dksX1_at_0 18 rfl rfl)
theorem dX1_at_20 : decode cX1_at 20 = .ok (.goto 12, 3) := dk_167 0 12 (dk_at dksX1_at_0 20 rfl rfl)
theorem dX1_at_23 : decode cX1_at 23 = .ok (.aload_n 0, 1) := dk_42 (dk_at dksX1_at_0 23 rfl rfl)
theorem dX1_at_24 : decode cX1_at 24 = .ok (.getfield 14, 3) := dk_180 0 14 (dk_at dksX1_at_1 0 rfl rfl)
theorem dX1_at_27 : decode cX1_at 27 = .ok (.iload_n 1, 1) := dk_27 (dk_at dksX1_at_1 3 rfl rfl)
theorem dX1_at_28 : decode cX1_at 28 = .ok (.iload_n 2, 1) := dk_28 (dk_at dksX1_at_1 4 rfl rfl)
theorem dX1_at_29 : decode cX1_at 29 = .ok (.invokevirtual 256, 3) := dk_182 1 0 (dk_at dksX1_at_1 5 rfl rfl)
theorem dX1_at_32 : decode cX1_at 32 = .ok (.ireturn, 1) := dk_172 (dk_at dksX1_at_1 8 rfl rfl)
abbrev cX1_postsOf : ByteArray := prog_1_method_38_code
def yX1_postsOf : MethodName := ⟨RX1, "postsOf", "(I)I"⟩
def dkwX1_postsOf_1 : List UInt8 := [180, 0, 172, 27, 160, 0, 6, 132, 2, 1, 132, 3, 1, 167, 255, 223, 28, 172]
abbrev dktX1_postsOf_1 : List UInt8 := dkwX1_postsOf_1 ++ []
def dkwX1_postsOf_0 : List UInt8 := [3, 61, 3, 62, 29, 42, 180, 0, 14, 180, 0, 111, 162, 0, 28, 42, 180, 0, 14, 180, 0, 146, 29, 50]
abbrev dktX1_postsOf_0 : List UInt8 := dkwX1_postsOf_0 ++ dktX1_postsOf_1
theorem dksX1_postsOf_0 : cX1_postsOf.data.toList.drop 0 = dktX1_postsOf_0 := by decide +kernel
theorem dksX1_postsOf_1 : cX1_postsOf.data.toList.drop 24 = dktX1_postsOf_1 := dk_seg dksX1_postsOf_0 24 rfl rfl
theorem dX1_postsOf_0 : decode cX1_postsOf 0 = .ok (.iconst 0, 1) := dk_3 (dk_at dksX1_postsOf_0 0 rfl rfl)
theorem dX1_postsOf_1 : decode cX1_postsOf 1 = .ok (.istore_n 2, 1) := dk_61 (dk_at dksX1_postsOf_0 1 rfl rfl)
theorem dX1_postsOf_2 : decode cX1_postsOf 2 = .ok (.iconst 0, 1) := dk_3 (dk_at dksX1_postsOf_0 2 rfl rfl)
theorem dX1_postsOf_3 : decode cX1_postsOf 3 = .ok (.istore_n 3, 1) := dk_62 (dk_at dksX1_postsOf_0 3 rfl rfl)
theorem dX1_postsOf_4 : decode cX1_postsOf 4 = .ok (.iload_n 3, 1) := dk_29 (dk_at dksX1_postsOf_0 4 rfl rfl)
theorem dX1_postsOf_5 : decode cX1_postsOf 5 = .ok (.aload_n 0, 1) := dk_42 (dk_at dksX1_postsOf_0 5 rfl rfl)
theorem dX1_postsOf_6 : decode cX1_postsOf 6 = .ok (.getfield 14, 3) := dk_180 0 14 (dk_at dksX1_postsOf_0 6 rfl rfl)
theorem dX1_postsOf_9 : decode cX1_postsOf 9 = .ok (.getfield 111, 3) := dk_180 0 111 (dk_at dksX1_postsOf_0 9 rfl rfl)
theorem dX1_postsOf_12 : decode cX1_postsOf 12 = .ok (.if_icmp .ge 28, 3) := dk_162 0 28 (dk_at dksX1_postsOf_0 12 rfl rfl)
theorem dX1_postsOf_15 : decode cX1_postsOf 15 = .ok (.aload_n 0, 1) := dk_42 (dk_at dksX1_postsOf_0 15 rfl rfl)
theorem dX1_postsOf_16 : decode cX1_postsOf 16 = .ok (.getfield 14, 3) := dk_180 0 14 (dk_at dksX1_postsOf_0 16 rfl rfl)
theorem dX1_postsOf_19 : decode cX1_postsOf 19 = .ok (.getfield 146, 3) := dk_180 0 146 (dk_at dksX1_postsOf_0 19 rfl rfl)
theorem dX1_postsOf_22 : decode cX1_postsOf 22 = .ok (.iload_n 3, 1) := dk_29 (dk_at dksX1_postsOf_0 22 rfl rfl)
theorem dX1_postsOf_23 : decode cX1_postsOf 23 = .ok (.aaload, 1) := dk_50 (dk_at dksX1_postsOf_0 23 rfl rfl)
theorem dX1_postsOf_24 : decode cX1_postsOf 24 = .ok (.getfield 172, 3) := dk_180 0 172 (dk_at dksX1_postsOf_1 0 rfl rfl)
theorem dX1_postsOf_27 : decode cX1_postsOf 27 = .ok (.iload_n 1, 1) := dk_27 (dk_at dksX1_postsOf_1 3 rfl rfl)
theorem dX1_postsOf_28 : decode cX1_postsOf 28 = .ok (.if_icmp .ne 6, 3) := dk_160 0 6 (dk_at dksX1_postsOf_1 4 rfl rfl)
theorem dX1_postsOf_31 : decode cX1_postsOf 31 = .ok (.iinc 2 1, 3) := dk_132 2 1 (dk_at dksX1_postsOf_1 7 rfl rfl)
theorem dX1_postsOf_34 : decode cX1_postsOf 34 = .ok (.iinc 3 1, 3) := dk_132 3 1 (dk_at dksX1_postsOf_1 10 rfl rfl)
theorem dX1_postsOf_37 : decode cX1_postsOf 37 = .ok (.goto (-33), 3) := dk_167 255 223 (dk_at dksX1_postsOf_1 13 rfl rfl)
theorem dX1_postsOf_40 : decode cX1_postsOf 40 = .ok (.iload_n 2, 1) := dk_28 (dk_at dksX1_postsOf_1 16 rfl rfl)
theorem dX1_postsOf_41 : decode cX1_postsOf 41 = .ok (.ireturn, 1) := dk_172 (dk_at dksX1_postsOf_1 17 rfl rfl)
abbrev cX1_rightGuesses : ByteArray := prog_1_method_39_code
def yX1_rightGuesses : MethodName := ⟨RX1, "rightGuesses", "(LTrailMarkers$Guide;I)I"⟩
def dkwX1_rightGuesses_1 : List UInt8 := [46, 28, 182, 1, 22, 153, 0, 6, 132, 3, 1, 132, 4, 1, 167, 255, 223, 29, 172]
abbrev dktX1_rightGuesses_1 : List UInt8 := dkwX1_rightGuesses_1 ++ []
def dkwX1_rightGuesses_0 : List UInt8 := [3, 62, 3, 54, 4, 21, 4, 43, 180, 1, 12, 162, 0, 30, 42, 180, 0, 14, 43, 180, 1, 19, 21, 4]
abbrev dktX1_rightGuesses_0 : List UInt8 := dkwX1_rightGuesses_0 ++ dktX1_rightGuesses_1
theorem dksX1_rightGuesses_0 : cX1_rightGuesses.data.toList.drop 0 = dktX1_rightGuesses_0 := by decide +kernel
theorem dksX1_rightGuesses_1 : cX1_rightGuesses.data.toList.drop 24 = dktX1_rightGuesses_1 := dk_seg dksX1_rightGuesses_0 24 rfl rfl
theorem dX1_rightGuesses_0 : decode cX1_rightGuesses 0 = .ok (.iconst 0, 1) := dk_3 (dk_at dksX1_rightGuesses_0 0 rfl rfl)
theorem dX1_rightGuesses_1 : decode cX1_rightGuesses 1 = .ok (.istore_n 3, 1) := dk_62 (dk_at dksX1_rightGuesses_0 1 rfl rfl)
theorem dX1_rightGuesses_2 : decode cX1_rightGuesses 2 = .ok (.iconst 0, 1) := dk_3 (dk_at dksX1_rightGuesses_0 2 rfl rfl)
theorem dX1_rightGuesses_3 : decode cX1_rightGuesses 3 = .ok (.istore 4, 2) := dk_54 4 (dk_at dksX1_rightGuesses_0 3 rfl rfl)
theorem dX1_rightGuesses_5 : decode cX1_rightGuesses 5 = .ok (.iload 4, 2) := dk_21 4 (dk_at dksX1_rightGuesses_0 5 rfl rfl)
theorem dX1_rightGuesses_7 : decode cX1_rightGuesses 7 = .ok (.aload_n 1, 1) := dk_43 (dk_at dksX1_rightGuesses_0 7 rfl rfl)
theorem dX1_rightGuesses_8 : decode cX1_rightGuesses 8 = .ok (.getfield 268, 3) := dk_180 1 12 (dk_at dksX1_rightGuesses_0 8 rfl rfl)
theorem dX1_rightGuesses_11 : decode cX1_rightGuesses 11 = .ok (.if_icmp .ge 30, 3) := dk_162 0 30 (dk_at dksX1_rightGuesses_0 11 rfl rfl)
theorem dX1_rightGuesses_14 : decode cX1_rightGuesses 14 = .ok (.aload_n 0, 1) := dk_42 (dk_at dksX1_rightGuesses_0 14 rfl rfl)
theorem dX1_rightGuesses_15 : decode cX1_rightGuesses 15 = .ok (.getfield 14, 3) := dk_180 0 14 (dk_at dksX1_rightGuesses_0 15 rfl rfl)
theorem dX1_rightGuesses_18 : decode cX1_rightGuesses 18 = .ok (.aload_n 1, 1) := dk_43 (dk_at dksX1_rightGuesses_0 18 rfl rfl)
theorem dX1_rightGuesses_19 : decode cX1_rightGuesses 19 = .ok (.getfield 275, 3) := dk_180 1 19 (dk_at dksX1_rightGuesses_0 19 rfl rfl)
theorem dX1_rightGuesses_22 : decode cX1_rightGuesses 22 = .ok (.iload 4, 2) := dk_21 4 (dk_at dksX1_rightGuesses_0 22 rfl rfl)
theorem dX1_rightGuesses_24 : decode cX1_rightGuesses 24 = .ok (.iaload, 1) := dk_46 (dk_at dksX1_rightGuesses_1 0 rfl rfl)
theorem dX1_rightGuesses_25 : decode cX1_rightGuesses 25 = .ok (.iload_n 2, 1) := dk_28 (dk_at dksX1_rightGuesses_1 1 rfl rfl)
theorem dX1_rightGuesses_26 : decode cX1_rightGuesses 26 = .ok (.invokevirtual 278, 3) := dk_182 1 22 (dk_at dksX1_rightGuesses_1 2 rfl rfl)
theorem dX1_rightGuesses_29 : decode cX1_rightGuesses 29 = .ok (.ifCond .eq 6, 3) := dk_153 0 6 (dk_at dksX1_rightGuesses_1 5 rfl rfl)
theorem dX1_rightGuesses_32 : decode cX1_rightGuesses 32 = .ok (.iinc 3 1, 3) := dk_132 3 1 (dk_at dksX1_rightGuesses_1 8 rfl rfl)
theorem dX1_rightGuesses_35 : decode cX1_rightGuesses 35 = .ok (.iinc 4 1, 3) := dk_132 4 1 (dk_at dksX1_rightGuesses_1 11 rfl rfl)
theorem dX1_rightGuesses_38 : decode cX1_rightGuesses 38 = .ok (.goto (-33), 3) := dk_167 255 223 (dk_at dksX1_rightGuesses_1 14 rfl rfl)
theorem dX1_rightGuesses_41 : decode cX1_rightGuesses 41 = .ok (.iload_n 3, 1) := dk_29 (dk_at dksX1_rightGuesses_1 17 rfl rfl)
theorem dX1_rightGuesses_42 : decode cX1_rightGuesses 42 = .ok (.ireturn, 1) := dk_172 (dk_at dksX1_rightGuesses_1 18 rfl rfl)
abbrev cX1_colour : ByteArray := prog_1_method_37_code
def yX1_colour : MethodName := ⟨RX1, "colour", "(II)I"⟩
def dkwX1_colour_5 : List UInt8 := [21, 4, 172, 45, 180, 1, 12, 172, 42, 45, 27, 182, 1, 15, 172]
abbrev dktX1_colour_5 : List UInt8 := dkwX1_colour_5 ++ []
def dkwX1_colour_4 : List UInt8 := [21, 4, 158, 0, 20, 21, 4, 42, 180, 0, 14, 27, 182, 0, 175, 160, 0, 7, 4, 167, 0, 4, 3, 172]
abbrev dktX1_colour_4 : List UInt8 := dkwX1_colour_4 ++ dktX1_colour_5
def dkwX1_colour_3 : List UInt8 := [42, 27, 182, 1, 6, 172, 42, 180, 0, 14, 27, 182, 0, 175, 172, 42, 180, 0, 14, 27, 182, 1, 9, 172]
abbrev dktX1_colour_3 : List UInt8 := dkwX1_colour_3 ++ dktX1_colour_4
def dkwX1_colour_2 : List UInt8 := [170, 0, 0, 0, 0, 0, 95, 0, 0, 0, 0, 0, 0, 0, 5, 0, 0, 0, 39, 0, 0, 0, 45, 0, 0, 0, 54, 0, 0, 0, 63, 0, 0, 0, 87, 0, 0, 0, 90]
abbrev dktX1_colour_2 : List UInt8 := dkwX1_colour_2 ++ dktX1_colour_3
def dkwX1_colour_1 : List UInt8 := [78, 45, 27, 182, 1, 3, 54, 4, 28]
abbrev dktX1_colour_1 : List UInt8 := dkwX1_colour_1 ++ dktX1_colour_2
def dkwX1_colour_0 : List UInt8 := [42, 27, 182, 0, 150, 42, 28, 3, 16, 6, 182, 0, 88, 187, 0, 216, 89, 42, 180, 0, 14, 183, 0, 218]
abbrev dktX1_colour_0 : List UInt8 := dkwX1_colour_0 ++ dktX1_colour_1
theorem dksX1_colour_0 : cX1_colour.data.toList.drop 0 = dktX1_colour_0 := by decide +kernel
theorem dksX1_colour_1 : cX1_colour.data.toList.drop 24 = dktX1_colour_1 := dk_seg dksX1_colour_0 24 rfl rfl
theorem dksX1_colour_2 : cX1_colour.data.toList.drop 33 = dktX1_colour_2 := dk_seg dksX1_colour_1 9 rfl rfl
theorem dksX1_colour_3 : cX1_colour.data.toList.drop 72 = dktX1_colour_3 := dk_seg dksX1_colour_2 39 rfl rfl
theorem dksX1_colour_4 : cX1_colour.data.toList.drop 96 = dktX1_colour_4 := dk_seg dksX1_colour_3 24 rfl rfl
theorem dksX1_colour_5 : cX1_colour.data.toList.drop 120 = dktX1_colour_5 := dk_seg dksX1_colour_4 24 rfl rfl
theorem dX1_colour_0 : decode cX1_colour 0 = .ok (.aload_n 0, 1) := dk_42 (dk_at dksX1_colour_0 0 rfl rfl)
theorem dX1_colour_1 : decode cX1_colour 1 = .ok (.iload_n 1, 1) := dk_27 (dk_at dksX1_colour_0 1 rfl rfl)
theorem dX1_colour_2 : decode cX1_colour 2 = .ok (.invokevirtual 150, 3) := dk_182 0 150 (dk_at dksX1_colour_0 2 rfl rfl)
theorem dX1_colour_5 : decode cX1_colour 5 = .ok (.aload_n 0, 1) := dk_42 (dk_at dksX1_colour_0 5 rfl rfl)
theorem dX1_colour_6 : decode cX1_colour 6 = .ok (.iload_n 2, 1) := dk_28 (dk_at dksX1_colour_0 6 rfl rfl)
theorem dX1_colour_7 : decode cX1_colour 7 = .ok (.iconst 0, 1) := dk_3 (dk_at dksX1_colour_0 7 rfl rfl)
theorem dX1_colour_8 : decode cX1_colour 8 = .ok (.bipush 6, 2) := dk_16 6 (dk_at dksX1_colour_0 8 rfl rfl)
theorem dX1_colour_10 : decode cX1_colour 10 = .ok (.invokevirtual 88, 3) := dk_182 0 88 (dk_at dksX1_colour_0 10 rfl rfl)
theorem dX1_colour_13 : decode cX1_colour 13 = .ok (.new 216, 3) := dk_187 0 216 (dk_at dksX1_colour_0 13 rfl rfl)
theorem dX1_colour_16 : decode cX1_colour 16 = .ok (.dup, 1) := dk_89 (dk_at dksX1_colour_0 16 rfl rfl)
theorem dX1_colour_17 : decode cX1_colour 17 = .ok (.aload_n 0, 1) := dk_42 (dk_at dksX1_colour_0 17 rfl rfl)
theorem dX1_colour_18 : decode cX1_colour 18 = .ok (.getfield 14, 3) := dk_180 0 14 (dk_at dksX1_colour_0 18 rfl rfl)
theorem dX1_colour_21 : decode cX1_colour 21 = .ok (.invokespecial 218, 3) := dk_183 0 218 (dk_at dksX1_colour_0 21 rfl rfl)
theorem dX1_colour_24 : decode cX1_colour 24 = .ok (.astore_n 3, 1) := dk_78 (dk_at dksX1_colour_1 0 rfl rfl)
theorem dX1_colour_25 : decode cX1_colour 25 = .ok (.aload_n 3, 1) := dk_45 (dk_at dksX1_colour_1 1 rfl rfl)
theorem dX1_colour_26 : decode cX1_colour 26 = .ok (.iload_n 1, 1) := dk_27 (dk_at dksX1_colour_1 2 rfl rfl)
theorem dX1_colour_27 : decode cX1_colour 27 = .ok (.invokevirtual 259, 3) := dk_182 1 3 (dk_at dksX1_colour_1 3 rfl rfl)
theorem dX1_colour_30 : decode cX1_colour 30 = .ok (.istore 4, 2) := dk_54 4 (dk_at dksX1_colour_1 6 rfl rfl)
theorem dX1_colour_32 : decode cX1_colour 32 = .ok (.iload_n 2, 1) := dk_28 (dk_at dksX1_colour_1 8 rfl rfl)
theorem dX1_colour_33 : decode cX1_colour 33 = .ok (.tableswitch 95 0 5 #[39, 45, 54, 63, 87, 90], 39) := by decide +kernel
theorem dX1_colour_72 : decode cX1_colour 72 = .ok (.aload_n 0, 1) := dk_42 (dk_at dksX1_colour_3 0 rfl rfl)
theorem dX1_colour_73 : decode cX1_colour 73 = .ok (.iload_n 1, 1) := dk_27 (dk_at dksX1_colour_3 1 rfl rfl)
theorem dX1_colour_74 : decode cX1_colour 74 = .ok (.invokevirtual 262, 3) := dk_182 1 6 (dk_at dksX1_colour_3 2 rfl rfl)
theorem dX1_colour_77 : decode cX1_colour 77 = .ok (.ireturn, 1) := dk_172 (dk_at dksX1_colour_3 5 rfl rfl)
theorem dX1_colour_78 : decode cX1_colour 78 = .ok (.aload_n 0, 1) := dk_42 (dk_at dksX1_colour_3 6 rfl rfl)
theorem dX1_colour_79 : decode cX1_colour 79 = .ok (.getfield 14, 3) := dk_180 0 14 (dk_at dksX1_colour_3 7 rfl rfl)
theorem dX1_colour_82 : decode cX1_colour 82 = .ok (.iload_n 1, 1) := dk_27 (dk_at dksX1_colour_3 10 rfl rfl)
theorem dX1_colour_83 : decode cX1_colour 83 = .ok (.invokevirtual 175, 3) := dk_182 0 175 (dk_at dksX1_colour_3 11 rfl rfl)
theorem dX1_colour_86 : decode cX1_colour 86 = .ok (.ireturn, 1) := dk_172 (dk_at dksX1_colour_3 14 rfl rfl)
theorem dX1_colour_87 : decode cX1_colour 87 = .ok (.aload_n 0, 1) := dk_42 (dk_at dksX1_colour_3 15 rfl rfl)
theorem dX1_colour_88 : decode cX1_colour 88 = .ok (.getfield 14, 3) := dk_180 0 14 (dk_at dksX1_colour_3 16 rfl rfl)
theorem dX1_colour_91 : decode cX1_colour 91 = .ok (.iload_n 1, 1) := dk_27 (dk_at dksX1_colour_3 19 rfl rfl)
theorem dX1_colour_92 : decode cX1_colour 92 = .ok (.invokevirtual 265, 3) := dk_182 1 9 (dk_at dksX1_colour_3 20 rfl rfl)
theorem dX1_colour_95 : decode cX1_colour 95 = .ok (.ireturn, 1) := dk_172 (dk_at dksX1_colour_3 23 rfl rfl)
theorem dX1_colour_96 : decode cX1_colour 96 = .ok (.iload 4, 2) := dk_21 4 (dk_at dksX1_colour_4 0 rfl rfl)
theorem dX1_colour_98 : decode cX1_colour 98 = .ok (.ifCond .le 20, 3) := dk_158 0 20 (dk_at dksX1_colour_4 2 rfl rfl)
theorem dX1_colour_101 : decode cX1_colour 101 = .ok (.iload 4, 2) := dk_21 4 (dk_at dksX1_colour_4 5 rfl rfl)
theorem dX1_colour_103 : decode cX1_colour 103 = .ok (.aload_n 0, 1) := dk_42 (dk_at dksX1_colour_4 7 rfl rfl)
theorem dX1_colour_104 : decode cX1_colour 104 = .ok (.getfield 14, 3) := dk_180 0 14 (dk_at dksX1_colour_4 8 rfl rfl)
theorem dX1_colour_107 : decode cX1_colour 107 = .ok (.iload_n 1, 1) := dk_27 (dk_at dksX1_colour_4 11 rfl rfl)
theorem dX1_colour_108 : decode cX1_colour 108 = .ok (.invokevirtual 175, 3) := dk_182 0 175 (dk_at dksX1_colour_4 12 rfl rfl)
theorem dX1_colour_111 : decode cX1_colour 111 = .ok (.if_icmp .ne 7, 3) := dk_160 0 7 (dk_at dksX1_colour_4 15 rfl rfl)
theorem dX1_colour_114 : decode cX1_colour 114 = .ok (.iconst 1, 1) := dk_4 (dk_at dksX1_colour_4 18 rfl rfl)
theorem dX1_colour_115 : decode cX1_colour 115 = .ok (.goto 4, 3) := dk_167 0 4 (dk_at dksX1_colour_4 19 rfl rfl)
theorem dX1_colour_118 : decode cX1_colour 118 = .ok (.iconst 0, 1) := dk_3 (dk_at dksX1_colour_4 22 rfl rfl)
theorem dX1_colour_119 : decode cX1_colour 119 = .ok (.ireturn, 1) := dk_172 (dk_at dksX1_colour_4 23 rfl rfl)
theorem dX1_colour_120 : decode cX1_colour 120 = .ok (.iload 4, 2) := dk_21 4 (dk_at dksX1_colour_5 0 rfl rfl)
theorem dX1_colour_122 : decode cX1_colour 122 = .ok (.ireturn, 1) := dk_172 (dk_at dksX1_colour_5 2 rfl rfl)
theorem dX1_colour_123 : decode cX1_colour 123 = .ok (.aload_n 3, 1) := dk_45 (dk_at dksX1_colour_5 3 rfl rfl)
theorem dX1_colour_124 : decode cX1_colour 124 = .ok (.getfield 268, 3) := dk_180 1 12 (dk_at dksX1_colour_5 4 rfl rfl)
theorem dX1_colour_127 : decode cX1_colour 127 = .ok (.ireturn, 1) := dk_172 (dk_at dksX1_colour_5 7 rfl rfl)
theorem dX1_colour_128 : decode cX1_colour 128 = .ok (.aload_n 0, 1) := dk_42 (dk_at dksX1_colour_5 8 rfl rfl)
theorem dX1_colour_129 : decode cX1_colour 129 = .ok (.aload_n 3, 1) := dk_45 (dk_at dksX1_colour_5 9 rfl rfl)
theorem dX1_colour_130 : decode cX1_colour 130 = .ok (.iload_n 1, 1) := dk_27 (dk_at dksX1_colour_5 10 rfl rfl)
theorem dX1_colour_131 : decode cX1_colour 131 = .ok (.invokevirtual 271, 3) := dk_182 1 15 (dk_at dksX1_colour_5 11 rfl rfl)
theorem dX1_colour_134 : decode cX1_colour 134 = .ok (.ireturn, 1) := dk_172 (dk_at dksX1_colour_5 14 rfl rfl)
abbrev cX1_met : ByteArray := prog_1_method_40_code
def yX1_met : MethodName := ⟨RX1, "met", "(I)J"⟩
def dkwX1_met_2 : List UInt8 := [55, 4, 132, 6, 1, 167, 255, 233, 22, 4, 173]
abbrev dktX1_met_2 : List UInt8 := dkwX1_met_2 ++ []
def dkwX1_met_1 : List UInt8 := [55, 4, 3, 54, 6, 21, 6, 29, 162, 0, 23, 22, 4, 10, 44, 180, 1, 25, 21, 6, 46, 121, 129]
abbrev dktX1_met_1 : List UInt8 := dkwX1_met_1 ++ dktX1_met_2
def dkwX1_met_0 : List UInt8 := [42, 27, 182, 0, 150, 187, 0, 216, 89, 42, 180, 0, 14, 183, 0, 218, 77, 44, 27, 182, 1, 3, 62, 9]
abbrev dktX1_met_0 : List UInt8 := dkwX1_met_0 ++ dktX1_met_1
theorem dksX1_met_0 : cX1_met.data.toList.drop 0 = dktX1_met_0 := by decide +kernel
theorem dksX1_met_1 : cX1_met.data.toList.drop 24 = dktX1_met_1 := dk_seg dksX1_met_0 24 rfl rfl
theorem dksX1_met_2 : cX1_met.data.toList.drop 47 = dktX1_met_2 := dk_seg dksX1_met_1 23 rfl rfl
theorem dX1_met_0 : decode cX1_met 0 = .ok (.aload_n 0, 1) := dk_42 (dk_at dksX1_met_0 0 rfl rfl)
theorem dX1_met_1 : decode cX1_met 1 = .ok (.iload_n 1, 1) := dk_27 (dk_at dksX1_met_0 1 rfl rfl)
theorem dX1_met_2 : decode cX1_met 2 = .ok (.invokevirtual 150, 3) := dk_182 0 150 (dk_at dksX1_met_0 2 rfl rfl)
theorem dX1_met_5 : decode cX1_met 5 = .ok (.new 216, 3) := dk_187 0 216 (dk_at dksX1_met_0 5 rfl rfl)
theorem dX1_met_8 : decode cX1_met 8 = .ok (.dup, 1) := dk_89 (dk_at dksX1_met_0 8 rfl rfl)
theorem dX1_met_9 : decode cX1_met 9 = .ok (.aload_n 0, 1) := dk_42 (dk_at dksX1_met_0 9 rfl rfl)
theorem dX1_met_10 : decode cX1_met 10 = .ok (.getfield 14, 3) := dk_180 0 14 (dk_at dksX1_met_0 10 rfl rfl)
theorem dX1_met_13 : decode cX1_met 13 = .ok (.invokespecial 218, 3) := dk_183 0 218 (dk_at dksX1_met_0 13 rfl rfl)
theorem dX1_met_16 : decode cX1_met 16 = .ok (.astore_n 2, 1) := dk_77 (dk_at dksX1_met_0 16 rfl rfl)
theorem dX1_met_17 : decode cX1_met 17 = .ok (.aload_n 2, 1) := dk_44 (dk_at dksX1_met_0 17 rfl rfl)
theorem dX1_met_18 : decode cX1_met 18 = .ok (.iload_n 1, 1) := dk_27 (dk_at dksX1_met_0 18 rfl rfl)
theorem dX1_met_19 : decode cX1_met 19 = .ok (.invokevirtual 259, 3) := dk_182 1 3 (dk_at dksX1_met_0 19 rfl rfl)
theorem dX1_met_22 : decode cX1_met 22 = .ok (.istore_n 3, 1) := dk_62 (dk_at dksX1_met_0 22 rfl rfl)
theorem dX1_met_23 : decode cX1_met 23 = .ok (.lconst 0, 1) := dk_9 (dk_at dksX1_met_0 23 rfl rfl)
theorem dX1_met_24 : decode cX1_met 24 = .ok (.lstore 4, 2) := dk_55 4 (dk_at dksX1_met_1 0 rfl rfl)
theorem dX1_met_26 : decode cX1_met 26 = .ok (.iconst 0, 1) := dk_3 (dk_at dksX1_met_1 2 rfl rfl)
theorem dX1_met_27 : decode cX1_met 27 = .ok (.istore 6, 2) := dk_54 6 (dk_at dksX1_met_1 3 rfl rfl)
theorem dX1_met_29 : decode cX1_met 29 = .ok (.iload 6, 2) := dk_21 6 (dk_at dksX1_met_1 5 rfl rfl)
theorem dX1_met_31 : decode cX1_met 31 = .ok (.iload_n 3, 1) := dk_29 (dk_at dksX1_met_1 7 rfl rfl)
theorem dX1_met_32 : decode cX1_met 32 = .ok (.if_icmp .ge 23, 3) := dk_162 0 23 (dk_at dksX1_met_1 8 rfl rfl)
theorem dX1_met_35 : decode cX1_met 35 = .ok (.lload 4, 2) := dk_22 4 (dk_at dksX1_met_1 11 rfl rfl)
theorem dX1_met_37 : decode cX1_met 37 = .ok (.lconst 1, 1) := dk_10 (dk_at dksX1_met_1 13 rfl rfl)
theorem dX1_met_38 : decode cX1_met 38 = .ok (.aload_n 2, 1) := dk_44 (dk_at dksX1_met_1 14 rfl rfl)
theorem dX1_met_39 : decode cX1_met 39 = .ok (.getfield 281, 3) := dk_180 1 25 (dk_at dksX1_met_1 15 rfl rfl)
theorem dX1_met_42 : decode cX1_met 42 = .ok (.iload 6, 2) := dk_21 6 (dk_at dksX1_met_1 18 rfl rfl)
theorem dX1_met_44 : decode cX1_met 44 = .ok (.iaload, 1) := dk_46 (dk_at dksX1_met_1 20 rfl rfl)
theorem dX1_met_45 : decode cX1_met 45 = .ok (.lshl, 1) := dk_121 (dk_at dksX1_met_1 21 rfl rfl)
theorem dX1_met_46 : decode cX1_met 46 = .ok (.lor, 1) := dk_129 (dk_at dksX1_met_1 22 rfl rfl)
theorem dX1_met_47 : decode cX1_met 47 = .ok (.lstore 4, 2) := dk_55 4 (dk_at dksX1_met_2 0 rfl rfl)
theorem dX1_met_49 : decode cX1_met 49 = .ok (.iinc 6 1, 3) := dk_132 6 1 (dk_at dksX1_met_2 2 rfl rfl)
theorem dX1_met_52 : decode cX1_met 52 = .ok (.goto (-23), 3) := dk_167 255 233 (dk_at dksX1_met_2 5 rfl rfl)
theorem dX1_met_55 : decode cX1_met 55 = .ok (.lload 4, 2) := dk_22 4 (dk_at dksX1_met_2 8 rfl rfl)
theorem dX1_met_57 : decode cX1_met 57 = .ok (.lreturn, 1) := dk_173 (dk_at dksX1_met_2 10 rfl rfl)
abbrev cX1_routeFrom : ByteArray := prog_1_method_41_code
def yX1_routeFrom : MethodName := ⟨RX1, "routeFrom", "(I)LTrailMarkers$Guide;"⟩
def dkwX1_routeFrom_1 : List UInt8 := [183, 0, 218, 27, 182, 1, 28, 176]
abbrev dktX1_routeFrom_1 : List UInt8 := dkwX1_routeFrom_1 ++ []
def dkwX1_routeFrom_0 : List UInt8 := [42, 27, 182, 0, 159, 180, 0, 227, 153, 0, 7, 1, 167, 0, 18, 187, 0, 216, 89, 42, 180, 0, 14]
abbrev dktX1_routeFrom_0 : List UInt8 := dkwX1_routeFrom_0 ++ dktX1_routeFrom_1
theorem dksX1_routeFrom_0 : cX1_routeFrom.data.toList.drop 0 = dktX1_routeFrom_0 := by decide +kernel
theorem dksX1_routeFrom_1 : cX1_routeFrom.data.toList.drop 23 = dktX1_routeFrom_1 := dk_seg dksX1_routeFrom_0 23 rfl rfl
theorem dX1_routeFrom_0 : decode cX1_routeFrom 0 = .ok (.aload_n 0, 1) := dk_42 (dk_at dksX1_routeFrom_0 0 rfl rfl)
theorem dX1_routeFrom_1 : decode cX1_routeFrom 1 = .ok (.iload_n 1, 1) := dk_27 (dk_at dksX1_routeFrom_0 1 rfl rfl)
theorem dX1_routeFrom_2 : decode cX1_routeFrom 2 = .ok (.invokevirtual 159, 3) := dk_182 0 159 (dk_at dksX1_routeFrom_0 2 rfl rfl)
theorem dX1_routeFrom_5 : decode cX1_routeFrom 5 = .ok (.getfield 227, 3) := dk_180 0 227 (dk_at dksX1_routeFrom_0 5 rfl rfl)
theorem dX1_routeFrom_8 : decode cX1_routeFrom 8 = .ok (.ifCond .eq 7, 3) := dk_153 0 7 (dk_at dksX1_routeFrom_0 8 rfl rfl)
theorem dX1_routeFrom_11 : decode cX1_routeFrom 11 = .ok (.aconst_null, 1) := dk_1 (dk_at dksX1_routeFrom_0 11 rfl rfl)
theorem dX1_routeFrom_12 : decode cX1_routeFrom 12 = .ok (.goto 18, 3) := dk_167 0 18 (dk_at dksX1_routeFrom_0 12 rfl rfl)
theorem dX1_routeFrom_15 : decode cX1_routeFrom 15 = .ok (.new 216, 3) := dk_187 0 216 (dk_at dksX1_routeFrom_0 15 rfl rfl)
theorem dX1_routeFrom_18 : decode cX1_routeFrom 18 = .ok (.dup, 1) := dk_89 (dk_at dksX1_routeFrom_0 18 rfl rfl)
theorem dX1_routeFrom_19 : decode cX1_routeFrom 19 = .ok (.aload_n 0, 1) := dk_42 (dk_at dksX1_routeFrom_0 19 rfl rfl)
theorem dX1_routeFrom_20 : decode cX1_routeFrom 20 = .ok (.getfield 14, 3) := dk_180 0 14 (dk_at dksX1_routeFrom_0 20 rfl rfl)
theorem dX1_routeFrom_23 : decode cX1_routeFrom 23 = .ok (.invokespecial 218, 3) := dk_183 0 218 (dk_at dksX1_routeFrom_1 0 rfl rfl)
theorem dX1_routeFrom_26 : decode cX1_routeFrom 26 = .ok (.iload_n 1, 1) := dk_27 (dk_at dksX1_routeFrom_1 3 rfl rfl)
theorem dX1_routeFrom_27 : decode cX1_routeFrom 27 = .ok (.invokevirtual 284, 3) := dk_182 1 28 (dk_at dksX1_routeFrom_1 4 rfl rfl)
theorem dX1_routeFrom_30 : decode cX1_routeFrom 30 = .ok (.areturn, 1) := dk_176 (dk_at dksX1_routeFrom_1 7 rfl rfl)
abbrev cX1_route : ByteArray := prog_1_method_42_code
def yX1_route : MethodName := ⟨RX1, "route", "(II)I"⟩
def dkwX1_route_1 : List UInt8 := [182, 1, 35, 172]
abbrev dktX1_route_1 : List UInt8 := dkwX1_route_1 ++ []
def dkwX1_route_0 : List UInt8 := [42, 27, 182, 1, 32, 78, 42, 28, 3, 16, 7, 182, 0, 88, 45, 199, 0, 7, 2, 167, 0, 8, 45, 28]
abbrev dktX1_route_0 : List UInt8 := dkwX1_route_0 ++ dktX1_route_1
theorem dksX1_route_0 : cX1_route.data.toList.drop 0 = dktX1_route_0 := by decide +kernel
theorem dksX1_route_1 : cX1_route.data.toList.drop 24 = dktX1_route_1 := dk_seg dksX1_route_0 24 rfl rfl
theorem dX1_route_0 : decode cX1_route 0 = .ok (.aload_n 0, 1) := dk_42 (dk_at dksX1_route_0 0 rfl rfl)
theorem dX1_route_1 : decode cX1_route 1 = .ok (.iload_n 1, 1) := dk_27 (dk_at dksX1_route_0 1 rfl rfl)
theorem dX1_route_2 : decode cX1_route 2 = .ok (.invokevirtual 288, 3) := dk_182 1 32 (dk_at dksX1_route_0 2 rfl rfl)
theorem dX1_route_5 : decode cX1_route 5 = .ok (.astore_n 3, 1) := dk_78 (dk_at dksX1_route_0 5 rfl rfl)
theorem dX1_route_6 : decode cX1_route 6 = .ok (.aload_n 0, 1) := dk_42 (dk_at dksX1_route_0 6 rfl rfl)
theorem dX1_route_7 : decode cX1_route 7 = .ok (.iload_n 2, 1) := dk_28 (dk_at dksX1_route_0 7 rfl rfl)
theorem dX1_route_8 : decode cX1_route 8 = .ok (.iconst 0, 1) := dk_3 (dk_at dksX1_route_0 8 rfl rfl)
theorem dX1_route_9 : decode cX1_route 9 = .ok (.bipush 7, 2) := dk_16 7 (dk_at dksX1_route_0 9 rfl rfl)
theorem dX1_route_11 : decode cX1_route 11 = .ok (.invokevirtual 88, 3) := dk_182 0 88 (dk_at dksX1_route_0 11 rfl rfl)
theorem dX1_route_14 : decode cX1_route 14 = .ok (.aload_n 3, 1) := dk_45 (dk_at dksX1_route_0 14 rfl rfl)
theorem dX1_route_15 : decode cX1_route 15 = .ok (.ifnonnull 7, 3) := dk_199 0 7 (dk_at dksX1_route_0 15 rfl rfl)
theorem dX1_route_18 : decode cX1_route 18 = .ok (.iconst (-1), 1) := dk_2 (dk_at dksX1_route_0 18 rfl rfl)
theorem dX1_route_19 : decode cX1_route 19 = .ok (.goto 8, 3) := dk_167 0 8 (dk_at dksX1_route_0 19 rfl rfl)
theorem dX1_route_22 : decode cX1_route 22 = .ok (.aload_n 3, 1) := dk_45 (dk_at dksX1_route_0 22 rfl rfl)
theorem dX1_route_23 : decode cX1_route 23 = .ok (.iload_n 2, 1) := dk_28 (dk_at dksX1_route_0 23 rfl rfl)
theorem dX1_route_24 : decode cX1_route 24 = .ok (.invokevirtual 291, 3) := dk_182 1 35 (dk_at dksX1_route_1 0 rfl rfl)
theorem dX1_route_27 : decode cX1_route 27 = .ok (.ireturn, 1) := dk_172 (dk_at dksX1_route_1 3 rfl rfl)
abbrev cX1_routePost : ByteArray := prog_1_method_43_code
def yX1_routePost : MethodName := ⟨RX1, "routePost", "(II)I"⟩
def dkwX1_routePost_1 : List UInt8 := [167, 0, 9, 45, 180, 1, 25, 28, 46, 172]
abbrev dktX1_routePost_1 : List UInt8 := dkwX1_routePost_1 ++ []
def dkwX1_routePost_0 : List UInt8 := [42, 27, 182, 1, 32, 78, 45, 198, 0, 15, 28, 155, 0, 11, 28, 45, 180, 1, 38, 161, 0, 7, 2]
abbrev dktX1_routePost_0 : List UInt8 := dkwX1_routePost_0 ++ dktX1_routePost_1
theorem dksX1_routePost_0 : cX1_routePost.data.toList.drop 0 = dktX1_routePost_0 := by decide +kernel
theorem dksX1_routePost_1 : cX1_routePost.data.toList.drop 23 = dktX1_routePost_1 := dk_seg dksX1_routePost_0 23 rfl rfl
theorem dX1_routePost_0 : decode cX1_routePost 0 = .ok (.aload_n 0, 1) := dk_42 (dk_at dksX1_routePost_0 0 rfl rfl)
theorem dX1_routePost_1 : decode cX1_routePost 1 = .ok (.iload_n 1, 1) := dk_27 (dk_at dksX1_routePost_0 1 rfl rfl)
theorem dX1_routePost_2 : decode cX1_routePost 2 = .ok (.invokevirtual 288, 3) := dk_182 1 32 (dk_at dksX1_routePost_0 2 rfl rfl)
theorem dX1_routePost_5 : decode cX1_routePost 5 = .ok (.astore_n 3, 1) := dk_78 (dk_at dksX1_routePost_0 5 rfl rfl)
theorem dX1_routePost_6 : decode cX1_routePost 6 = .ok (.aload_n 3, 1) := dk_45 (dk_at dksX1_routePost_0 6 rfl rfl)
theorem dX1_routePost_7 : decode cX1_routePost 7 = .ok (.ifnull 15, 3) := dk_198 0 15 (dk_at dksX1_routePost_0 7 rfl rfl)
theorem dX1_routePost_10 : decode cX1_routePost 10 = .ok (.iload_n 2, 1) := dk_28 (dk_at dksX1_routePost_0 10 rfl rfl)
theorem dX1_routePost_11 : decode cX1_routePost 11 = .ok (.ifCond .lt 11, 3) := dk_155 0 11 (dk_at dksX1_routePost_0 11 rfl rfl)
theorem dX1_routePost_14 : decode cX1_routePost 14 = .ok (.iload_n 2, 1) := dk_28 (dk_at dksX1_routePost_0 14 rfl rfl)
theorem dX1_routePost_15 : decode cX1_routePost 15 = .ok (.aload_n 3, 1) := dk_45 (dk_at dksX1_routePost_0 15 rfl rfl)
theorem dX1_routePost_16 : decode cX1_routePost 16 = .ok (.getfield 294, 3) := dk_180 1 38 (dk_at dksX1_routePost_0 16 rfl rfl)
theorem dX1_routePost_19 : decode cX1_routePost 19 = .ok (.if_icmp .lt 7, 3) := dk_161 0 7 (dk_at dksX1_routePost_0 19 rfl rfl)
theorem dX1_routePost_22 : decode cX1_routePost 22 = .ok (.iconst (-1), 1) := dk_2 (dk_at dksX1_routePost_0 22 rfl rfl)
theorem dX1_routePost_23 : decode cX1_routePost 23 = .ok (.goto 9, 3) := dk_167 0 9 (dk_at dksX1_routePost_1 0 rfl rfl)
theorem dX1_routePost_26 : decode cX1_routePost 26 = .ok (.aload_n 3, 1) := dk_45 (dk_at dksX1_routePost_1 3 rfl rfl)
theorem dX1_routePost_27 : decode cX1_routePost 27 = .ok (.getfield 281, 3) := dk_180 1 25 (dk_at dksX1_routePost_1 4 rfl rfl)
theorem dX1_routePost_30 : decode cX1_routePost 30 = .ok (.iload_n 2, 1) := dk_28 (dk_at dksX1_routePost_1 7 rfl rfl)
theorem dX1_routePost_31 : decode cX1_routePost 31 = .ok (.iaload, 1) := dk_46 (dk_at dksX1_routePost_1 8 rfl rfl)
theorem dX1_routePost_32 : decode cX1_routePost 32 = .ok (.ireturn, 1) := dk_172 (dk_at dksX1_routePost_1 9 rfl rfl)
abbrev cX1_routeCell : ByteArray := prog_1_method_44_code
def yX1_routeCell : MethodName := ⟨RX1, "routeCell", "(II)I"⟩
def dkwX1_routeCell_1 : List UInt8 := [167, 0, 9, 45, 180, 1, 44, 28, 46, 172]
abbrev dktX1_routeCell_1 : List UInt8 := dkwX1_routeCell_1 ++ []
def dkwX1_routeCell_0 : List UInt8 := [42, 27, 182, 1, 32, 78, 45, 198, 0, 15, 28, 155, 0, 11, 28, 45, 180, 1, 41, 161, 0, 7, 2]
abbrev dktX1_routeCell_0 : List UInt8 := dkwX1_routeCell_0 ++ dktX1_routeCell_1
theorem dksX1_routeCell_0 : cX1_routeCell.data.toList.drop 0 = dktX1_routeCell_0 := by decide +kernel
theorem dksX1_routeCell_1 : cX1_routeCell.data.toList.drop 23 = dktX1_routeCell_1 := dk_seg dksX1_routeCell_0 23 rfl rfl
theorem dX1_routeCell_0 : decode cX1_routeCell 0 = .ok (.aload_n 0, 1) := dk_42 (dk_at dksX1_routeCell_0 0 rfl rfl)
theorem dX1_routeCell_1 : decode cX1_routeCell 1 = .ok (.iload_n 1, 1) := dk_27 (dk_at dksX1_routeCell_0 1 rfl rfl)
theorem dX1_routeCell_2 : decode cX1_routeCell 2 = .ok (.invokevirtual 288, 3) := dk_182 1 32 (dk_at dksX1_routeCell_0 2 rfl rfl)
theorem dX1_routeCell_5 : decode cX1_routeCell 5 = .ok (.astore_n 3, 1) := dk_78 (dk_at dksX1_routeCell_0 5 rfl rfl)
theorem dX1_routeCell_6 : decode cX1_routeCell 6 = .ok (.aload_n 3, 1) := dk_45 (dk_at dksX1_routeCell_0 6 rfl rfl)
theorem dX1_routeCell_7 : decode cX1_routeCell 7 = .ok (.ifnull 15, 3) := dk_198 0 15 (dk_at dksX1_routeCell_0 7 rfl rfl)
theorem dX1_routeCell_10 : decode cX1_routeCell 10 = .ok (.iload_n 2, 1) := dk_28 (dk_at dksX1_routeCell_0 10 rfl rfl)
theorem dX1_routeCell_11 : decode cX1_routeCell 11 = .ok (.ifCond .lt 11, 3) := dk_155 0 11 (dk_at dksX1_routeCell_0 11 rfl rfl)
theorem dX1_routeCell_14 : decode cX1_routeCell 14 = .ok (.iload_n 2, 1) := dk_28 (dk_at dksX1_routeCell_0 14 rfl rfl)
theorem dX1_routeCell_15 : decode cX1_routeCell 15 = .ok (.aload_n 3, 1) := dk_45 (dk_at dksX1_routeCell_0 15 rfl rfl)
theorem dX1_routeCell_16 : decode cX1_routeCell 16 = .ok (.getfield 297, 3) := dk_180 1 41 (dk_at dksX1_routeCell_0 16 rfl rfl)
theorem dX1_routeCell_19 : decode cX1_routeCell 19 = .ok (.if_icmp .lt 7, 3) := dk_161 0 7 (dk_at dksX1_routeCell_0 19 rfl rfl)
theorem dX1_routeCell_22 : decode cX1_routeCell 22 = .ok (.iconst (-1), 1) := dk_2 (dk_at dksX1_routeCell_0 22 rfl rfl)
theorem dX1_routeCell_23 : decode cX1_routeCell 23 = .ok (.goto 9, 3) := dk_167 0 9 (dk_at dksX1_routeCell_1 0 rfl rfl)
theorem dX1_routeCell_26 : decode cX1_routeCell 26 = .ok (.aload_n 3, 1) := dk_45 (dk_at dksX1_routeCell_1 3 rfl rfl)
theorem dX1_routeCell_27 : decode cX1_routeCell 27 = .ok (.getfield 300, 3) := dk_180 1 44 (dk_at dksX1_routeCell_1 4 rfl rfl)
theorem dX1_routeCell_30 : decode cX1_routeCell 30 = .ok (.iload_n 2, 1) := dk_28 (dk_at dksX1_routeCell_1 7 rfl rfl)
theorem dX1_routeCell_31 : decode cX1_routeCell 31 = .ok (.iaload, 1) := dk_46 (dk_at dksX1_routeCell_1 8 rfl rfl)
theorem dX1_routeCell_32 : decode cX1_routeCell 32 = .ok (.ireturn, 1) := dk_172 (dk_at dksX1_routeCell_1 9 rfl rfl)
abbrev cX1_inferred : ByteArray := prog_1_method_45_code
def yX1_inferred : MethodName := ⟨RX1, "inferred", "(II)I"⟩
def dkwX1_inferred_1 : List UInt8 := [167, 0, 9, 45, 180, 1, 19, 28, 46, 172]
abbrev dktX1_inferred_1 : List UInt8 := dkwX1_inferred_1 ++ []
def dkwX1_inferred_0 : List UInt8 := [42, 27, 182, 1, 32, 78, 45, 198, 0, 15, 28, 155, 0, 11, 28, 45, 180, 1, 12, 161, 0, 7, 2]
abbrev dktX1_inferred_0 : List UInt8 := dkwX1_inferred_0 ++ dktX1_inferred_1
theorem dksX1_inferred_0 : cX1_inferred.data.toList.drop 0 = dktX1_inferred_0 := by decide +kernel
theorem dksX1_inferred_1 : cX1_inferred.data.toList.drop 23 = dktX1_inferred_1 := dk_seg dksX1_inferred_0 23 rfl rfl
theorem dX1_inferred_0 : decode cX1_inferred 0 = .ok (.aload_n 0, 1) := dk_42 (dk_at dksX1_inferred_0 0 rfl rfl)
theorem dX1_inferred_1 : decode cX1_inferred 1 = .ok (.iload_n 1, 1) := dk_27 (dk_at dksX1_inferred_0 1 rfl rfl)
theorem dX1_inferred_2 : decode cX1_inferred 2 = .ok (.invokevirtual 288, 3) := dk_182 1 32 (dk_at dksX1_inferred_0 2 rfl rfl)
theorem dX1_inferred_5 : decode cX1_inferred 5 = .ok (.astore_n 3, 1) := dk_78 (dk_at dksX1_inferred_0 5 rfl rfl)
theorem dX1_inferred_6 : decode cX1_inferred 6 = .ok (.aload_n 3, 1) := dk_45 (dk_at dksX1_inferred_0 6 rfl rfl)
theorem dX1_inferred_7 : decode cX1_inferred 7 = .ok (.ifnull 15, 3) := dk_198 0 15 (dk_at dksX1_inferred_0 7 rfl rfl)
theorem dX1_inferred_10 : decode cX1_inferred 10 = .ok (.iload_n 2, 1) := dk_28 (dk_at dksX1_inferred_0 10 rfl rfl)
theorem dX1_inferred_11 : decode cX1_inferred 11 = .ok (.ifCond .lt 11, 3) := dk_155 0 11 (dk_at dksX1_inferred_0 11 rfl rfl)
theorem dX1_inferred_14 : decode cX1_inferred 14 = .ok (.iload_n 2, 1) := dk_28 (dk_at dksX1_inferred_0 14 rfl rfl)
theorem dX1_inferred_15 : decode cX1_inferred 15 = .ok (.aload_n 3, 1) := dk_45 (dk_at dksX1_inferred_0 15 rfl rfl)
theorem dX1_inferred_16 : decode cX1_inferred 16 = .ok (.getfield 268, 3) := dk_180 1 12 (dk_at dksX1_inferred_0 16 rfl rfl)
theorem dX1_inferred_19 : decode cX1_inferred 19 = .ok (.if_icmp .lt 7, 3) := dk_161 0 7 (dk_at dksX1_inferred_0 19 rfl rfl)
theorem dX1_inferred_22 : decode cX1_inferred 22 = .ok (.iconst (-1), 1) := dk_2 (dk_at dksX1_inferred_0 22 rfl rfl)
theorem dX1_inferred_23 : decode cX1_inferred 23 = .ok (.goto 9, 3) := dk_167 0 9 (dk_at dksX1_inferred_1 0 rfl rfl)
theorem dX1_inferred_26 : decode cX1_inferred 26 = .ok (.aload_n 3, 1) := dk_45 (dk_at dksX1_inferred_1 3 rfl rfl)
theorem dX1_inferred_27 : decode cX1_inferred 27 = .ok (.getfield 275, 3) := dk_180 1 19 (dk_at dksX1_inferred_1 4 rfl rfl)
theorem dX1_inferred_30 : decode cX1_inferred 30 = .ok (.iload_n 2, 1) := dk_28 (dk_at dksX1_inferred_1 7 rfl rfl)
theorem dX1_inferred_31 : decode cX1_inferred 31 = .ok (.iaload, 1) := dk_46 (dk_at dksX1_inferred_1 8 rfl rfl)
theorem dX1_inferred_32 : decode cX1_inferred 32 = .ok (.ireturn, 1) := dk_172 (dk_at dksX1_inferred_1 9 rfl rfl)
abbrev cX1_cellsOf : ByteArray := prog_1_method_46_code
def yX1_cellsOf : MethodName := ⟨RX1, "cellsOf", "(I)Ljava/util/LinkedHashSet;"⟩
def dkwX1_cellsOf_2 : List UInt8 := [184, 1, 50, 182, 1, 56, 87, 132, 4, 1, 167, 255, 229, 44, 176]
abbrev dktX1_cellsOf_2 : List UInt8 := dkwX1_cellsOf_2 ++ []
def dkwX1_cellsOf_1 : List UInt8 := [182, 1, 3, 87, 3, 54, 4, 21, 4, 45, 180, 1, 41, 162, 0, 24, 44, 45, 180, 1, 44, 21, 4, 46]
abbrev dktX1_cellsOf_1 : List UInt8 := dkwX1_cellsOf_1 ++ dktX1_cellsOf_2
def dkwX1_cellsOf_0 : List UInt8 := [187, 1, 47, 89, 183, 1, 49, 77, 187, 0, 216, 89, 42, 180, 0, 14, 183, 0, 218, 78, 45, 27]
abbrev dktX1_cellsOf_0 : List UInt8 := dkwX1_cellsOf_0 ++ dktX1_cellsOf_1
theorem dksX1_cellsOf_0 : cX1_cellsOf.data.toList.drop 0 = dktX1_cellsOf_0 := by decide +kernel
theorem dksX1_cellsOf_1 : cX1_cellsOf.data.toList.drop 22 = dktX1_cellsOf_1 := dk_seg dksX1_cellsOf_0 22 rfl rfl
theorem dksX1_cellsOf_2 : cX1_cellsOf.data.toList.drop 46 = dktX1_cellsOf_2 := dk_seg dksX1_cellsOf_1 24 rfl rfl
theorem dX1_cellsOf_0 : decode cX1_cellsOf 0 = .ok (.new 303, 3) := dk_187 1 47 (dk_at dksX1_cellsOf_0 0 rfl rfl)
theorem dX1_cellsOf_3 : decode cX1_cellsOf 3 = .ok (.dup, 1) := dk_89 (dk_at dksX1_cellsOf_0 3 rfl rfl)
theorem dX1_cellsOf_4 : decode cX1_cellsOf 4 = .ok (.invokespecial 305, 3) := dk_183 1 49 (dk_at dksX1_cellsOf_0 4 rfl rfl)
theorem dX1_cellsOf_7 : decode cX1_cellsOf 7 = .ok (.astore_n 2, 1) := dk_77 (dk_at dksX1_cellsOf_0 7 rfl rfl)
theorem dX1_cellsOf_8 : decode cX1_cellsOf 8 = .ok (.new 216, 3) := dk_187 0 216 (dk_at dksX1_cellsOf_0 8 rfl rfl)
theorem dX1_cellsOf_11 : decode cX1_cellsOf 11 = .ok (.dup, 1) := dk_89 (dk_at dksX1_cellsOf_0 11 rfl rfl)
theorem dX1_cellsOf_12 : decode cX1_cellsOf 12 = .ok (.aload_n 0, 1) := dk_42 (dk_at dksX1_cellsOf_0 12 rfl rfl)
theorem dX1_cellsOf_13 : decode cX1_cellsOf 13 = .ok (.getfield 14, 3) := dk_180 0 14 (dk_at dksX1_cellsOf_0 13 rfl rfl)
theorem dX1_cellsOf_16 : decode cX1_cellsOf 16 = .ok (.invokespecial 218, 3) := dk_183 0 218 (dk_at dksX1_cellsOf_0 16 rfl rfl)
theorem dX1_cellsOf_19 : decode cX1_cellsOf 19 = .ok (.astore_n 3, 1) := dk_78 (dk_at dksX1_cellsOf_0 19 rfl rfl)
theorem dX1_cellsOf_20 : decode cX1_cellsOf 20 = .ok (.aload_n 3, 1) := dk_45 (dk_at dksX1_cellsOf_0 20 rfl rfl)
theorem dX1_cellsOf_21 : decode cX1_cellsOf 21 = .ok (.iload_n 1, 1) := dk_27 (dk_at dksX1_cellsOf_0 21 rfl rfl)
theorem dX1_cellsOf_22 : decode cX1_cellsOf 22 = .ok (.invokevirtual 259, 3) := dk_182 1 3 (dk_at dksX1_cellsOf_1 0 rfl rfl)
theorem dX1_cellsOf_25 : decode cX1_cellsOf 25 = .ok (.pop, 1) := dk_87 (dk_at dksX1_cellsOf_1 3 rfl rfl)
theorem dX1_cellsOf_26 : decode cX1_cellsOf 26 = .ok (.iconst 0, 1) := dk_3 (dk_at dksX1_cellsOf_1 4 rfl rfl)
theorem dX1_cellsOf_27 : decode cX1_cellsOf 27 = .ok (.istore 4, 2) := dk_54 4 (dk_at dksX1_cellsOf_1 5 rfl rfl)
theorem dX1_cellsOf_29 : decode cX1_cellsOf 29 = .ok (.iload 4, 2) := dk_21 4 (dk_at dksX1_cellsOf_1 7 rfl rfl)
theorem dX1_cellsOf_31 : decode cX1_cellsOf 31 = .ok (.aload_n 3, 1) := dk_45 (dk_at dksX1_cellsOf_1 9 rfl rfl)
theorem dX1_cellsOf_32 : decode cX1_cellsOf 32 = .ok (.getfield 297, 3) := dk_180 1 41 (dk_at dksX1_cellsOf_1 10 rfl rfl)
theorem dX1_cellsOf_35 : decode cX1_cellsOf 35 = .ok (.if_icmp .ge 24, 3) := dk_162 0 24 (dk_at dksX1_cellsOf_1 13 rfl rfl)
theorem dX1_cellsOf_38 : decode cX1_cellsOf 38 = .ok (.aload_n 2, 1) := dk_44 (dk_at dksX1_cellsOf_1 16 rfl rfl)
theorem dX1_cellsOf_39 : decode cX1_cellsOf 39 = .ok (.aload_n 3, 1) := dk_45 (dk_at dksX1_cellsOf_1 17 rfl rfl)
theorem dX1_cellsOf_40 : decode cX1_cellsOf 40 = .ok (.getfield 300, 3) := dk_180 1 44 (dk_at dksX1_cellsOf_1 18 rfl rfl)
theorem dX1_cellsOf_43 : decode cX1_cellsOf 43 = .ok (.iload 4, 2) := dk_21 4 (dk_at dksX1_cellsOf_1 21 rfl rfl)
theorem dX1_cellsOf_45 : decode cX1_cellsOf 45 = .ok (.iaload, 1) := dk_46 (dk_at dksX1_cellsOf_1 23 rfl rfl)
theorem dX1_cellsOf_46 : decode cX1_cellsOf 46 = .ok (.invokestatic 306, 3) := dk_184 1 50 (dk_at dksX1_cellsOf_2 0 rfl rfl)
theorem dX1_cellsOf_49 : decode cX1_cellsOf 49 = .ok (.invokevirtual 312, 3) := dk_182 1 56 (dk_at dksX1_cellsOf_2 3 rfl rfl)
theorem dX1_cellsOf_52 : decode cX1_cellsOf 52 = .ok (.pop, 1) := dk_87 (dk_at dksX1_cellsOf_2 6 rfl rfl)
theorem dX1_cellsOf_53 : decode cX1_cellsOf 53 = .ok (.iinc 4 1, 3) := dk_132 4 1 (dk_at dksX1_cellsOf_2 7 rfl rfl)
theorem dX1_cellsOf_56 : decode cX1_cellsOf 56 = .ok (.goto (-27), 3) := dk_167 255 229 (dk_at dksX1_cellsOf_2 10 rfl rfl)
theorem dX1_cellsOf_59 : decode cX1_cellsOf 59 = .ok (.aload_n 2, 1) := dk_44 (dk_at dksX1_cellsOf_2 13 rfl rfl)
theorem dX1_cellsOf_60 : decode cX1_cellsOf 60 = .ok (.areturn, 1) := dk_176 (dk_at dksX1_cellsOf_2 14 rfl rfl)
abbrev cX1_shared : ByteArray := prog_1_method_47_code
def yX1_shared : MethodName := ⟨RX1, "shared", "(II)I"⟩
def dkwX1_shared_2 : List UInt8 := [192, 1, 51, 58, 6, 45, 25, 6, 182, 1, 74, 153, 0, 6, 132, 4, 1, 167, 255, 222, 21, 4, 172]
abbrev dktX1_shared_2 : List UInt8 := dkwX1_shared_2 ++ []
def dkwX1_shared_1 : List UInt8 := [182, 1, 63, 58, 5, 25, 5, 185, 1, 67, 1, 0, 153, 0, 30, 25, 5, 185, 1, 72, 1, 0]
abbrev dktX1_shared_1 : List UInt8 := dkwX1_shared_1 ++ dktX1_shared_2
def dkwX1_shared_0 : List UInt8 := [42, 27, 182, 0, 150, 42, 28, 182, 0, 150, 42, 28, 182, 1, 59, 78, 3, 54, 4, 42, 27, 182, 1, 59]
abbrev dktX1_shared_0 : List UInt8 := dkwX1_shared_0 ++ dktX1_shared_1
theorem dksX1_shared_0 : cX1_shared.data.toList.drop 0 = dktX1_shared_0 := by decide +kernel
theorem dksX1_shared_1 : cX1_shared.data.toList.drop 24 = dktX1_shared_1 := dk_seg dksX1_shared_0 24 rfl rfl
theorem dksX1_shared_2 : cX1_shared.data.toList.drop 46 = dktX1_shared_2 := dk_seg dksX1_shared_1 22 rfl rfl
theorem dX1_shared_0 : decode cX1_shared 0 = .ok (.aload_n 0, 1) := dk_42 (dk_at dksX1_shared_0 0 rfl rfl)
theorem dX1_shared_1 : decode cX1_shared 1 = .ok (.iload_n 1, 1) := dk_27 (dk_at dksX1_shared_0 1 rfl rfl)
theorem dX1_shared_2 : decode cX1_shared 2 = .ok (.invokevirtual 150, 3) := dk_182 0 150 (dk_at dksX1_shared_0 2 rfl rfl)
theorem dX1_shared_5 : decode cX1_shared 5 = .ok (.aload_n 0, 1) := dk_42 (dk_at dksX1_shared_0 5 rfl rfl)
theorem dX1_shared_6 : decode cX1_shared 6 = .ok (.iload_n 2, 1) := dk_28 (dk_at dksX1_shared_0 6 rfl rfl)
theorem dX1_shared_7 : decode cX1_shared 7 = .ok (.invokevirtual 150, 3) := dk_182 0 150 (dk_at dksX1_shared_0 7 rfl rfl)
theorem dX1_shared_10 : decode cX1_shared 10 = .ok (.aload_n 0, 1) := dk_42 (dk_at dksX1_shared_0 10 rfl rfl)
theorem dX1_shared_11 : decode cX1_shared 11 = .ok (.iload_n 2, 1) := dk_28 (dk_at dksX1_shared_0 11 rfl rfl)
theorem dX1_shared_12 : decode cX1_shared 12 = .ok (.invokevirtual 315, 3) := dk_182 1 59 (dk_at dksX1_shared_0 12 rfl rfl)
theorem dX1_shared_15 : decode cX1_shared 15 = .ok (.astore_n 3, 1) := dk_78 (dk_at dksX1_shared_0 15 rfl rfl)
theorem dX1_shared_16 : decode cX1_shared 16 = .ok (.iconst 0, 1) := dk_3 (dk_at dksX1_shared_0 16 rfl rfl)
theorem dX1_shared_17 : decode cX1_shared 17 = .ok (.istore 4, 2) := dk_54 4 (dk_at dksX1_shared_0 17 rfl rfl)
theorem dX1_shared_19 : decode cX1_shared 19 = .ok (.aload_n 0, 1) := dk_42 (dk_at dksX1_shared_0 19 rfl rfl)
theorem dX1_shared_20 : decode cX1_shared 20 = .ok (.iload_n 1, 1) := dk_27 (dk_at dksX1_shared_0 20 rfl rfl)
theorem dX1_shared_21 : decode cX1_shared 21 = .ok (.invokevirtual 315, 3) := dk_182 1 59 (dk_at dksX1_shared_0 21 rfl rfl)
theorem dX1_shared_24 : decode cX1_shared 24 = .ok (.invokevirtual 319, 3) := dk_182 1 63 (dk_at dksX1_shared_1 0 rfl rfl)
theorem dX1_shared_27 : decode cX1_shared 27 = .ok (.astore 5, 2) := dk_58 5 (dk_at dksX1_shared_1 3 rfl rfl)
theorem dX1_shared_29 : decode cX1_shared 29 = .ok (.aload 5, 2) := dk_25 5 (dk_at dksX1_shared_1 5 rfl rfl)
theorem dX1_shared_31 : decode cX1_shared 31 = .ok (.invokeinterface 323 1, 5) := by decide +kernel
theorem dX1_shared_36 : decode cX1_shared 36 = .ok (.ifCond .eq 30, 3) := dk_153 0 30 (dk_at dksX1_shared_1 12 rfl rfl)
theorem dX1_shared_39 : decode cX1_shared 39 = .ok (.aload 5, 2) := dk_25 5 (dk_at dksX1_shared_1 15 rfl rfl)
theorem dX1_shared_41 : decode cX1_shared 41 = .ok (.invokeinterface 328 1, 5) := by decide +kernel
theorem dX1_shared_46 : decode cX1_shared 46 = .ok (.checkcast 307, 3) := dk_192 1 51 (dk_at dksX1_shared_2 0 rfl rfl)
theorem dX1_shared_49 : decode cX1_shared 49 = .ok (.astore 6, 2) := dk_58 6 (dk_at dksX1_shared_2 3 rfl rfl)
theorem dX1_shared_51 : decode cX1_shared 51 = .ok (.aload_n 3, 1) := dk_45 (dk_at dksX1_shared_2 5 rfl rfl)
theorem dX1_shared_52 : decode cX1_shared 52 = .ok (.aload 6, 2) := dk_25 6 (dk_at dksX1_shared_2 6 rfl rfl)
theorem dX1_shared_54 : decode cX1_shared 54 = .ok (.invokevirtual 330, 3) := dk_182 1 74 (dk_at dksX1_shared_2 8 rfl rfl)
theorem dX1_shared_57 : decode cX1_shared 57 = .ok (.ifCond .eq 6, 3) := dk_153 0 6 (dk_at dksX1_shared_2 11 rfl rfl)
theorem dX1_shared_60 : decode cX1_shared 60 = .ok (.iinc 4 1, 3) := dk_132 4 1 (dk_at dksX1_shared_2 14 rfl rfl)
theorem dX1_shared_63 : decode cX1_shared 63 = .ok (.goto (-34), 3) := dk_167 255 222 (dk_at dksX1_shared_2 17 rfl rfl)
theorem dX1_shared_66 : decode cX1_shared 66 = .ok (.iload 4, 2) := dk_21 4 (dk_at dksX1_shared_2 20 rfl rfl)
theorem dX1_shared_68 : decode cX1_shared 68 = .ok (.ireturn, 1) := dk_172 (dk_at dksX1_shared_2 22 rfl rfl)
abbrev cX1_why : ByteArray := prog_1_method_48_code
def yX1_why : MethodName := ⟨RX1, "why", "(II)I"⟩
def dkwX1_why_7 : List UInt8 := [45, 180, 0, 169, 184, 1, 92, 104, 45, 180, 0, 169, 184, 1, 95, 96, 104, 96, 172]
abbrev dktX1_why_7 : List UInt8 := dkwX1_why_7 ++ []
def dkwX1_why_6 : List UInt8 := [154, 0, 11, 25, 5, 180, 0, 247, 167, 0, 34, 45, 182, 0, 224, 25, 5, 180, 1, 89, 3, 46, 16, 100]
abbrev dktX1_why_6 : List UInt8 := dkwX1_why_6 ++ dktX1_why_7
def dkwX1_why_5 : List UInt8 := [154, 0, 11, 25, 5, 180, 0, 250, 167, 0, 8, 25, 5, 180, 0, 242, 172, 25, 5, 180, 0, 250]
abbrev dktX1_why_5 : List UInt8 := dkwX1_why_5 ++ dktX1_why_6
def dkwX1_why_4 : List UInt8 := [4, 160, 0, 11, 25, 6, 180, 1, 81, 167, 0, 8, 25, 6, 180, 1, 86, 172, 28, 5, 162, 0, 21, 28]
abbrev dktX1_why_4 : List UInt8 := dkwX1_why_4 ++ dktX1_why_5
def dkwX1_why_3 : List UInt8 := [180, 0, 242, 2, 160, 0, 38, 25, 4, 27, 182, 1, 77, 58, 6, 28, 154, 0, 7, 7, 167, 0, 21, 28]
abbrev dktX1_why_3 : List UInt8 := dkwX1_why_3 ++ dktX1_why_4
def dkwX1_why_2 : List UInt8 := [172, 187, 0, 216, 89, 42, 180, 0, 14, 183, 0, 218, 58, 4, 25, 4, 27, 182, 0, 238, 58, 5, 25, 5]
abbrev dktX1_why_2 : List UInt8 := dkwX1_why_2 ++ dktX1_why_3
def dkwX1_why_1 : List UInt8 := [7, 160, 0, 24, 28, 158, 0, 7, 2, 167, 0, 15, 45, 180, 0, 227, 153, 0, 7, 8, 167, 0, 4, 6]
abbrev dktX1_why_1 : List UInt8 := dkwX1_why_1 ++ dktX1_why_2
def dkwX1_why_0 : List UInt8 := [42, 27, 182, 0, 159, 78, 42, 28, 3, 5, 182, 0, 88, 45, 180, 0, 227, 154, 0, 11, 45, 180, 0, 169]
abbrev dktX1_why_0 : List UInt8 := dkwX1_why_0 ++ dktX1_why_1
theorem dksX1_why_0 : cX1_why.data.toList.drop 0 = dktX1_why_0 := by decide +kernel
theorem dksX1_why_1 : cX1_why.data.toList.drop 24 = dktX1_why_1 := dk_seg dksX1_why_0 24 rfl rfl
theorem dksX1_why_2 : cX1_why.data.toList.drop 48 = dktX1_why_2 := dk_seg dksX1_why_1 24 rfl rfl
theorem dksX1_why_3 : cX1_why.data.toList.drop 72 = dktX1_why_3 := dk_seg dksX1_why_2 24 rfl rfl
theorem dksX1_why_4 : cX1_why.data.toList.drop 96 = dktX1_why_4 := dk_seg dksX1_why_3 24 rfl rfl
theorem dksX1_why_5 : cX1_why.data.toList.drop 120 = dktX1_why_5 := dk_seg dksX1_why_4 24 rfl rfl
theorem dksX1_why_6 : cX1_why.data.toList.drop 142 = dktX1_why_6 := dk_seg dksX1_why_5 22 rfl rfl
theorem dksX1_why_7 : cX1_why.data.toList.drop 166 = dktX1_why_7 := dk_seg dksX1_why_6 24 rfl rfl
theorem dX1_why_0 : decode cX1_why 0 = .ok (.aload_n 0, 1) := dk_42 (dk_at dksX1_why_0 0 rfl rfl)
theorem dX1_why_1 : decode cX1_why 1 = .ok (.iload_n 1, 1) := dk_27 (dk_at dksX1_why_0 1 rfl rfl)
theorem dX1_why_2 : decode cX1_why 2 = .ok (.invokevirtual 159, 3) := dk_182 0 159 (dk_at dksX1_why_0 2 rfl rfl)
theorem dX1_why_5 : decode cX1_why 5 = .ok (.astore_n 3, 1) := dk_78 (dk_at dksX1_why_0 5 rfl rfl)
theorem dX1_why_6 : decode cX1_why 6 = .ok (.aload_n 0, 1) := dk_42 (dk_at dksX1_why_0 6 rfl rfl)
theorem dX1_why_7 : decode cX1_why 7 = .ok (.iload_n 2, 1) := dk_28 (dk_at dksX1_why_0 7 rfl rfl)
theorem dX1_why_8 : decode cX1_why 8 = .ok (.iconst 0, 1) := dk_3 (dk_at dksX1_why_0 8 rfl rfl)
theorem dX1_why_9 : decode cX1_why 9 = .ok (.iconst 2, 1) := dk_5 (dk_at dksX1_why_0 9 rfl rfl)
theorem dX1_why_10 : decode cX1_why 10 = .ok (.invokevirtual 88, 3) := dk_182 0 88 (dk_at dksX1_why_0 10 rfl rfl)
theorem dX1_why_13 : decode cX1_why 13 = .ok (.aload_n 3, 1) := dk_45 (dk_at dksX1_why_0 13 rfl rfl)
theorem dX1_why_14 : decode cX1_why 14 = .ok (.getfield 227, 3) := dk_180 0 227 (dk_at dksX1_why_0 14 rfl rfl)
theorem dX1_why_17 : decode cX1_why 17 = .ok (.ifCond .ne 11, 3) := dk_154 0 11 (dk_at dksX1_why_0 17 rfl rfl)
theorem dX1_why_20 : decode cX1_why 20 = .ok (.aload_n 3, 1) := dk_45 (dk_at dksX1_why_0 20 rfl rfl)
theorem dX1_why_21 : decode cX1_why 21 = .ok (.getfield 169, 3) := dk_180 0 169 (dk_at dksX1_why_0 21 rfl rfl)
theorem dX1_why_24 : decode cX1_why 24 = .ok (.iconst 4, 1) := dk_7 (dk_at dksX1_why_1 0 rfl rfl)
theorem dX1_why_25 : decode cX1_why 25 = .ok (.if_icmp .ne 24, 3) := dk_160 0 24 (dk_at dksX1_why_1 1 rfl rfl)
theorem dX1_why_28 : decode cX1_why 28 = .ok (.iload_n 2, 1) := dk_28 (dk_at dksX1_why_1 4 rfl rfl)
theorem dX1_why_29 : decode cX1_why 29 = .ok (.ifCond .le 7, 3) := dk_158 0 7 (dk_at dksX1_why_1 5 rfl rfl)
theorem dX1_why_32 : decode cX1_why 32 = .ok (.iconst (-1), 1) := dk_2 (dk_at dksX1_why_1 8 rfl rfl)
theorem dX1_why_33 : decode cX1_why 33 = .ok (.goto 15, 3) := dk_167 0 15 (dk_at dksX1_why_1 9 rfl rfl)
theorem dX1_why_36 : decode cX1_why 36 = .ok (.aload_n 3, 1) := dk_45 (dk_at dksX1_why_1 12 rfl rfl)
theorem dX1_why_37 : decode cX1_why 37 = .ok (.getfield 227, 3) := dk_180 0 227 (dk_at dksX1_why_1 13 rfl rfl)
theorem dX1_why_40 : decode cX1_why 40 = .ok (.ifCond .eq 7, 3) := dk_153 0 7 (dk_at dksX1_why_1 16 rfl rfl)
theorem dX1_why_43 : decode cX1_why 43 = .ok (.iconst 5, 1) := dk_8 (dk_at dksX1_why_1 19 rfl rfl)
theorem dX1_why_44 : decode cX1_why 44 = .ok (.goto 4, 3) := dk_167 0 4 (dk_at dksX1_why_1 20 rfl rfl)
theorem dX1_why_47 : decode cX1_why 47 = .ok (.iconst 3, 1) := dk_6 (dk_at dksX1_why_1 23 rfl rfl)
theorem dX1_why_48 : decode cX1_why 48 = .ok (.ireturn, 1) := dk_172 (dk_at dksX1_why_2 0 rfl rfl)
theorem dX1_why_49 : decode cX1_why 49 = .ok (.new 216, 3) := dk_187 0 216 (dk_at dksX1_why_2 1 rfl rfl)
theorem dX1_why_52 : decode cX1_why 52 = .ok (.dup, 1) := dk_89 (dk_at dksX1_why_2 4 rfl rfl)
theorem dX1_why_53 : decode cX1_why 53 = .ok (.aload_n 0, 1) := dk_42 (dk_at dksX1_why_2 5 rfl rfl)
theorem dX1_why_54 : decode cX1_why 54 = .ok (.getfield 14, 3) := dk_180 0 14 (dk_at dksX1_why_2 6 rfl rfl)
theorem dX1_why_57 : decode cX1_why 57 = .ok (.invokespecial 218, 3) := dk_183 0 218 (dk_at dksX1_why_2 9 rfl rfl)
theorem dX1_why_60 : decode cX1_why 60 = .ok (.astore 4, 2) := dk_58 4 (dk_at dksX1_why_2 12 rfl rfl)
theorem dX1_why_62 : decode cX1_why 62 = .ok (.aload 4, 2) := dk_25 4 (dk_at dksX1_why_2 14 rfl rfl)
theorem dX1_why_64 : decode cX1_why 64 = .ok (.iload_n 1, 1) := dk_27 (dk_at dksX1_why_2 16 rfl rfl)
theorem dX1_why_65 : decode cX1_why 65 = .ok (.invokevirtual 238, 3) := dk_182 0 238 (dk_at dksX1_why_2 17 rfl rfl)
theorem dX1_why_68 : decode cX1_why 68 = .ok (.astore 5, 2) := dk_58 5 (dk_at dksX1_why_2 20 rfl rfl)
theorem dX1_why_70 : decode cX1_why 70 = .ok (.aload 5, 2) := dk_25 5 (dk_at dksX1_why_2 22 rfl rfl)
theorem dX1_why_72 : decode cX1_why 72 = .ok (.getfield 242, 3) := dk_180 0 242 (dk_at dksX1_why_3 0 rfl rfl)
theorem dX1_why_75 : decode cX1_why 75 = .ok (.iconst (-1), 1) := dk_2 (dk_at dksX1_why_3 3 rfl rfl)
theorem dX1_why_76 : decode cX1_why 76 = .ok (.if_icmp .ne 38, 3) := dk_160 0 38 (dk_at dksX1_why_3 4 rfl rfl)
theorem dX1_why_79 : decode cX1_why 79 = .ok (.aload 4, 2) := dk_25 4 (dk_at dksX1_why_3 7 rfl rfl)
theorem dX1_why_81 : decode cX1_why 81 = .ok (.iload_n 1, 1) := dk_27 (dk_at dksX1_why_3 9 rfl rfl)
theorem dX1_why_82 : decode cX1_why 82 = .ok (.invokevirtual 333, 3) := dk_182 1 77 (dk_at dksX1_why_3 10 rfl rfl)
theorem dX1_why_85 : decode cX1_why 85 = .ok (.astore 6, 2) := dk_58 6 (dk_at dksX1_why_3 13 rfl rfl)
theorem dX1_why_87 : decode cX1_why 87 = .ok (.iload_n 2, 1) := dk_28 (dk_at dksX1_why_3 15 rfl rfl)
theorem dX1_why_88 : decode cX1_why 88 = .ok (.ifCond .ne 7, 3) := dk_154 0 7 (dk_at dksX1_why_3 16 rfl rfl)
theorem dX1_why_91 : decode cX1_why 91 = .ok (.iconst 4, 1) := dk_7 (dk_at dksX1_why_3 19 rfl rfl)
theorem dX1_why_92 : decode cX1_why 92 = .ok (.goto 21, 3) := dk_167 0 21 (dk_at dksX1_why_3 20 rfl rfl)
theorem dX1_why_95 : decode cX1_why 95 = .ok (.iload_n 2, 1) := dk_28 (dk_at dksX1_why_3 23 rfl rfl)
theorem dX1_why_96 : decode cX1_why 96 = .ok (.iconst 1, 1) := dk_4 (dk_at dksX1_why_4 0 rfl rfl)
theorem dX1_why_97 : decode cX1_why 97 = .ok (.if_icmp .ne 11, 3) := dk_160 0 11 (dk_at dksX1_why_4 1 rfl rfl)
theorem dX1_why_100 : decode cX1_why 100 = .ok (.aload 6, 2) := dk_25 6 (dk_at dksX1_why_4 4 rfl rfl)
theorem dX1_why_102 : decode cX1_why 102 = .ok (.getfield 337, 3) := dk_180 1 81 (dk_at dksX1_why_4 6 rfl rfl)
theorem dX1_why_105 : decode cX1_why 105 = .ok (.goto 8, 3) := dk_167 0 8 (dk_at dksX1_why_4 9 rfl rfl)
theorem dX1_why_108 : decode cX1_why 108 = .ok (.aload 6, 2) := dk_25 6 (dk_at dksX1_why_4 12 rfl rfl)
theorem dX1_why_110 : decode cX1_why 110 = .ok (.getfield 342, 3) := dk_180 1 86 (dk_at dksX1_why_4 14 rfl rfl)
theorem dX1_why_113 : decode cX1_why 113 = .ok (.ireturn, 1) := dk_172 (dk_at dksX1_why_4 17 rfl rfl)
theorem dX1_why_114 : decode cX1_why 114 = .ok (.iload_n 2, 1) := dk_28 (dk_at dksX1_why_4 18 rfl rfl)
theorem dX1_why_115 : decode cX1_why 115 = .ok (.iconst 2, 1) := dk_5 (dk_at dksX1_why_4 19 rfl rfl)
theorem dX1_why_116 : decode cX1_why 116 = .ok (.if_icmp .ge 21, 3) := dk_162 0 21 (dk_at dksX1_why_4 20 rfl rfl)
theorem dX1_why_119 : decode cX1_why 119 = .ok (.iload_n 2, 1) := dk_28 (dk_at dksX1_why_4 23 rfl rfl)
theorem dX1_why_120 : decode cX1_why 120 = .ok (.ifCond .ne 11, 3) := dk_154 0 11 (dk_at dksX1_why_5 0 rfl rfl)
theorem dX1_why_123 : decode cX1_why 123 = .ok (.aload 5, 2) := dk_25 5 (dk_at dksX1_why_5 3 rfl rfl)
theorem dX1_why_125 : decode cX1_why 125 = .ok (.getfield 250, 3) := dk_180 0 250 (dk_at dksX1_why_5 5 rfl rfl)
theorem dX1_why_128 : decode cX1_why 128 = .ok (.goto 8, 3) := dk_167 0 8 (dk_at dksX1_why_5 8 rfl rfl)
theorem dX1_why_131 : decode cX1_why 131 = .ok (.aload 5, 2) := dk_25 5 (dk_at dksX1_why_5 11 rfl rfl)
theorem dX1_why_133 : decode cX1_why 133 = .ok (.getfield 242, 3) := dk_180 0 242 (dk_at dksX1_why_5 13 rfl rfl)
theorem dX1_why_136 : decode cX1_why 136 = .ok (.ireturn, 1) := dk_172 (dk_at dksX1_why_5 16 rfl rfl)
theorem dX1_why_137 : decode cX1_why 137 = .ok (.aload 5, 2) := dk_25 5 (dk_at dksX1_why_5 17 rfl rfl)
theorem dX1_why_139 : decode cX1_why 139 = .ok (.getfield 250, 3) := dk_180 0 250 (dk_at dksX1_why_5 19 rfl rfl)
theorem dX1_why_142 : decode cX1_why 142 = .ok (.ifCond .ne 11, 3) := dk_154 0 11 (dk_at dksX1_why_6 0 rfl rfl)
theorem dX1_why_145 : decode cX1_why 145 = .ok (.aload 5, 2) := dk_25 5 (dk_at dksX1_why_6 3 rfl rfl)
theorem dX1_why_147 : decode cX1_why 147 = .ok (.getfield 247, 3) := dk_180 0 247 (dk_at dksX1_why_6 5 rfl rfl)
theorem dX1_why_150 : decode cX1_why 150 = .ok (.goto 34, 3) := dk_167 0 34 (dk_at dksX1_why_6 8 rfl rfl)
theorem dX1_why_153 : decode cX1_why 153 = .ok (.aload_n 3, 1) := dk_45 (dk_at dksX1_why_6 11 rfl rfl)
theorem dX1_why_154 : decode cX1_why 154 = .ok (.invokevirtual 224, 3) := dk_182 0 224 (dk_at dksX1_why_6 12 rfl rfl)
theorem dX1_why_157 : decode cX1_why 157 = .ok (.aload 5, 2) := dk_25 5 (dk_at dksX1_why_6 15 rfl rfl)
theorem dX1_why_159 : decode cX1_why 159 = .ok (.getfield 345, 3) := dk_180 1 89 (dk_at dksX1_why_6 17 rfl rfl)
theorem dX1_why_162 : decode cX1_why 162 = .ok (.iconst 0, 1) := dk_3 (dk_at dksX1_why_6 20 rfl rfl)
theorem dX1_why_163 : decode cX1_why 163 = .ok (.iaload, 1) := dk_46 (dk_at dksX1_why_6 21 rfl rfl)
theorem dX1_why_164 : decode cX1_why 164 = .ok (.bipush 100, 2) := dk_16 100 (dk_at dksX1_why_6 22 rfl rfl)
theorem dX1_why_166 : decode cX1_why 166 = .ok (.aload_n 3, 1) := dk_45 (dk_at dksX1_why_7 0 rfl rfl)
theorem dX1_why_167 : decode cX1_why 167 = .ok (.getfield 169, 3) := dk_180 0 169 (dk_at dksX1_why_7 1 rfl rfl)
theorem dX1_why_170 : decode cX1_why 170 = .ok (.invokestatic 348, 3) := dk_184 1 92 (dk_at dksX1_why_7 4 rfl rfl)
theorem dX1_why_173 : decode cX1_why 173 = .ok (.imul, 1) := dk_104 (dk_at dksX1_why_7 7 rfl rfl)
theorem dX1_why_174 : decode cX1_why 174 = .ok (.aload_n 3, 1) := dk_45 (dk_at dksX1_why_7 8 rfl rfl)
theorem dX1_why_175 : decode cX1_why 175 = .ok (.getfield 169, 3) := dk_180 0 169 (dk_at dksX1_why_7 9 rfl rfl)
theorem dX1_why_178 : decode cX1_why 178 = .ok (.invokestatic 351, 3) := dk_184 1 95 (dk_at dksX1_why_7 12 rfl rfl)
theorem dX1_why_181 : decode cX1_why 181 = .ok (.iadd, 1) := dk_96 (dk_at dksX1_why_7 15 rfl rfl)
theorem dX1_why_182 : decode cX1_why 182 = .ok (.imul, 1) := dk_104 (dk_at dksX1_why_7 16 rfl rfl)
theorem dX1_why_183 : decode cX1_why 183 = .ok (.iadd, 1) := dk_96 (dk_at dksX1_why_7 17 rfl rfl)
theorem dX1_why_184 : decode cX1_why 184 = .ok (.ireturn, 1) := dk_172 (dk_at dksX1_why_7 18 rfl rfl)
abbrev cX1_figureOf : ByteArray := prog_1_method_49_code
def yX1_figureOf : MethodName := ⟨RX1, "figureOf", "(LTrailMarkers$Trails;II)I"⟩
def dkwX1_figureOf_1 : List UInt8 := [183, 0, 218, 21, 4, 182, 1, 28, 29, 182, 1, 35, 172]
abbrev dktX1_figureOf_1 : List UInt8 := dkwX1_figureOf_1 ++ []
def dkwX1_figureOf_0 : List UInt8 := [43, 28, 182, 1, 9, 54, 4, 21, 4, 2, 160, 0, 7, 2, 167, 0, 20, 187, 0, 216, 89, 43]
abbrev dktX1_figureOf_0 : List UInt8 := dkwX1_figureOf_0 ++ dktX1_figureOf_1
theorem dksX1_figureOf_0 : cX1_figureOf.data.toList.drop 0 = dktX1_figureOf_0 := by decide +kernel
theorem dksX1_figureOf_1 : cX1_figureOf.data.toList.drop 22 = dktX1_figureOf_1 := dk_seg dksX1_figureOf_0 22 rfl rfl
theorem dX1_figureOf_0 : decode cX1_figureOf 0 = .ok (.aload_n 1, 1) := dk_43 (dk_at dksX1_figureOf_0 0 rfl rfl)
theorem dX1_figureOf_1 : decode cX1_figureOf 1 = .ok (.iload_n 2, 1) := dk_28 (dk_at dksX1_figureOf_0 1 rfl rfl)
theorem dX1_figureOf_2 : decode cX1_figureOf 2 = .ok (.invokevirtual 265, 3) := dk_182 1 9 (dk_at dksX1_figureOf_0 2 rfl rfl)
theorem dX1_figureOf_5 : decode cX1_figureOf 5 = .ok (.istore 4, 2) := dk_54 4 (dk_at dksX1_figureOf_0 5 rfl rfl)
theorem dX1_figureOf_7 : decode cX1_figureOf 7 = .ok (.iload 4, 2) := dk_21 4 (dk_at dksX1_figureOf_0 7 rfl rfl)
theorem dX1_figureOf_9 : decode cX1_figureOf 9 = .ok (.iconst (-1), 1) := dk_2 (dk_at dksX1_figureOf_0 9 rfl rfl)
theorem dX1_figureOf_10 : decode cX1_figureOf 10 = .ok (.if_icmp .ne 7, 3) := dk_160 0 7 (dk_at dksX1_figureOf_0 10 rfl rfl)
theorem dX1_figureOf_13 : decode cX1_figureOf 13 = .ok (.iconst (-1), 1) := dk_2 (dk_at dksX1_figureOf_0 13 rfl rfl)
theorem dX1_figureOf_14 : decode cX1_figureOf 14 = .ok (.goto 20, 3) := dk_167 0 20 (dk_at dksX1_figureOf_0 14 rfl rfl)
theorem dX1_figureOf_17 : decode cX1_figureOf 17 = .ok (.new 216, 3) := dk_187 0 216 (dk_at dksX1_figureOf_0 17 rfl rfl)
theorem dX1_figureOf_20 : decode cX1_figureOf 20 = .ok (.dup, 1) := dk_89 (dk_at dksX1_figureOf_0 20 rfl rfl)
theorem dX1_figureOf_21 : decode cX1_figureOf 21 = .ok (.aload_n 1, 1) := dk_43 (dk_at dksX1_figureOf_0 21 rfl rfl)
theorem dX1_figureOf_22 : decode cX1_figureOf 22 = .ok (.invokespecial 218, 3) := dk_183 0 218 (dk_at dksX1_figureOf_1 0 rfl rfl)
theorem dX1_figureOf_25 : decode cX1_figureOf 25 = .ok (.iload 4, 2) := dk_21 4 (dk_at dksX1_figureOf_1 3 rfl rfl)
theorem dX1_figureOf_27 : decode cX1_figureOf 27 = .ok (.invokevirtual 284, 3) := dk_182 1 28 (dk_at dksX1_figureOf_1 5 rfl rfl)
theorem dX1_figureOf_30 : decode cX1_figureOf 30 = .ok (.iload_n 3, 1) := dk_29 (dk_at dksX1_figureOf_1 8 rfl rfl)
theorem dX1_figureOf_31 : decode cX1_figureOf 31 = .ok (.invokevirtual 291, 3) := dk_182 1 35 (dk_at dksX1_figureOf_1 9 rfl rfl)
theorem dX1_figureOf_34 : decode cX1_figureOf 34 = .ok (.ireturn, 1) := dk_172 (dk_at dksX1_figureOf_1 12 rfl rfl)
abbrev cX1_withOther : ByteArray := prog_1_method_50_code
def yX1_withOther : MethodName := ⟨RX1, "withOther", "(I)LTrailMarkers$Trails;"⟩
def dkwX1_withOther_1 : List UInt8 := [50, 180, 0, 227, 154, 0, 7, 4, 167, 0, 4, 3, 182, 1, 98, 83, 44, 176]
abbrev dktX1_withOther_1 : List UInt8 := dkwX1_withOther_1 ++ []
def dkwX1_withOther_0 : List UInt8 := [42, 180, 0, 14, 182, 0, 125, 77, 44, 180, 0, 146, 27, 44, 180, 0, 146, 27, 50, 44, 180, 0, 146, 27]
abbrev dktX1_withOther_0 : List UInt8 := dkwX1_withOther_0 ++ dktX1_withOther_1
theorem dksX1_withOther_0 : cX1_withOther.data.toList.drop 0 = dktX1_withOther_0 := by decide +kernel
theorem dksX1_withOther_1 : cX1_withOther.data.toList.drop 24 = dktX1_withOther_1 := dk_seg dksX1_withOther_0 24 rfl rfl
theorem dX1_withOther_0 : decode cX1_withOther 0 = .ok (.aload_n 0, 1) := dk_42 (dk_at dksX1_withOther_0 0 rfl rfl)
theorem dX1_withOther_1 : decode cX1_withOther 1 = .ok (.getfield 14, 3) := dk_180 0 14 (dk_at dksX1_withOther_0 1 rfl rfl)
theorem dX1_withOther_4 : decode cX1_withOther 4 = .ok (.invokevirtual 125, 3) := dk_182 0 125 (dk_at dksX1_withOther_0 4 rfl rfl)
theorem dX1_withOther_7 : decode cX1_withOther 7 = .ok (.astore_n 2, 1) := dk_77 (dk_at dksX1_withOther_0 7 rfl rfl)
theorem dX1_withOther_8 : decode cX1_withOther 8 = .ok (.aload_n 2, 1) := dk_44 (dk_at dksX1_withOther_0 8 rfl rfl)
theorem dX1_withOther_9 : decode cX1_withOther 9 = .ok (.getfield 146, 3) := dk_180 0 146 (dk_at dksX1_withOther_0 9 rfl rfl)
theorem dX1_withOther_12 : decode cX1_withOther 12 = .ok (.iload_n 1, 1) := dk_27 (dk_at dksX1_withOther_0 12 rfl rfl)
theorem dX1_withOther_13 : decode cX1_withOther 13 = .ok (.aload_n 2, 1) := dk_44 (dk_at dksX1_withOther_0 13 rfl rfl)
theorem dX1_withOther_14 : decode cX1_withOther 14 = .ok (.getfield 146, 3) := dk_180 0 146 (dk_at dksX1_withOther_0 14 rfl rfl)
theorem dX1_withOther_17 : decode cX1_withOther 17 = .ok (.iload_n 1, 1) := dk_27 (dk_at dksX1_withOther_0 17 rfl rfl)
theorem dX1_withOther_18 : decode cX1_withOther 18 = .ok (.aaload, 1) := dk_50 (dk_at dksX1_withOther_0 18 rfl rfl)
theorem dX1_withOther_19 : decode cX1_withOther 19 = .ok (.aload_n 2, 1) := dk_44 (dk_at dksX1_withOther_0 19 rfl rfl)
theorem dX1_withOther_20 : decode cX1_withOther 20 = .ok (.getfield 146, 3) := dk_180 0 146 (dk_at dksX1_withOther_0 20 rfl rfl)
theorem dX1_withOther_23 : decode cX1_withOther 23 = .ok (.iload_n 1, 1) := dk_27 (dk_at dksX1_withOther_0 23 rfl rfl)
theorem dX1_withOther_24 : decode cX1_withOther 24 = .ok (.aaload, 1) := dk_50 (dk_at dksX1_withOther_1 0 rfl rfl)
theorem dX1_withOther_25 : decode cX1_withOther 25 = .ok (.getfield 227, 3) := dk_180 0 227 (dk_at dksX1_withOther_1 1 rfl rfl)
theorem dX1_withOther_28 : decode cX1_withOther 28 = .ok (.ifCond .ne 7, 3) := dk_154 0 7 (dk_at dksX1_withOther_1 4 rfl rfl)
theorem dX1_withOther_31 : decode cX1_withOther 31 = .ok (.iconst 1, 1) := dk_4 (dk_at dksX1_withOther_1 7 rfl rfl)
theorem dX1_withOther_32 : decode cX1_withOther 32 = .ok (.goto 4, 3) := dk_167 0 4 (dk_at dksX1_withOther_1 8 rfl rfl)
theorem dX1_withOther_35 : decode cX1_withOther 35 = .ok (.iconst 0, 1) := dk_3 (dk_at dksX1_withOther_1 11 rfl rfl)
theorem dX1_withOther_36 : decode cX1_withOther 36 = .ok (.invokevirtual 354, 3) := dk_182 1 98 (dk_at dksX1_withOther_1 12 rfl rfl)
theorem dX1_withOther_39 : decode cX1_withOther 39 = .ok (.aastore, 1) := dk_83 (dk_at dksX1_withOther_1 15 rfl rfl)
theorem dX1_withOther_40 : decode cX1_withOther 40 = .ok (.aload_n 2, 1) := dk_44 (dk_at dksX1_withOther_1 16 rfl rfl)
theorem dX1_withOther_41 : decode cX1_withOther 41 = .ok (.areturn, 1) := dk_176 (dk_at dksX1_withOther_1 17 rfl rfl)
abbrev cX1_ifOther : ByteArray := prog_1_method_51_code
def yX1_ifOther : MethodName := ⟨RX1, "ifOther", "(III)I"⟩
def dkwX1_ifOther_1 : List UInt8 := [182, 1, 102, 28, 29, 182, 1, 106, 172]
abbrev dktX1_ifOther_1 : List UInt8 := dkwX1_ifOther_1 ++ []
def dkwX1_ifOther_0 : List UInt8 := [42, 27, 182, 0, 159, 87, 42, 28, 182, 0, 150, 42, 29, 3, 16, 7, 182, 0, 88, 42, 42, 27]
abbrev dktX1_ifOther_0 : List UInt8 := dkwX1_ifOther_0 ++ dktX1_ifOther_1
theorem dksX1_ifOther_0 : cX1_ifOther.data.toList.drop 0 = dktX1_ifOther_0 := by decide +kernel
theorem dksX1_ifOther_1 : cX1_ifOther.data.toList.drop 22 = dktX1_ifOther_1 := dk_seg dksX1_ifOther_0 22 rfl rfl
theorem dX1_ifOther_0 : decode cX1_ifOther 0 = .ok (.aload_n 0, 1) := dk_42 (dk_at dksX1_ifOther_0 0 rfl rfl)
theorem dX1_ifOther_1 : decode cX1_ifOther 1 = .ok (.iload_n 1, 1) := dk_27 (dk_at dksX1_ifOther_0 1 rfl rfl)
theorem dX1_ifOther_2 : decode cX1_ifOther 2 = .ok (.invokevirtual 159, 3) := dk_182 0 159 (dk_at dksX1_ifOther_0 2 rfl rfl)
theorem dX1_ifOther_5 : decode cX1_ifOther 5 = .ok (.pop, 1) := dk_87 (dk_at dksX1_ifOther_0 5 rfl rfl)
theorem dX1_ifOther_6 : decode cX1_ifOther 6 = .ok (.aload_n 0, 1) := dk_42 (dk_at dksX1_ifOther_0 6 rfl rfl)
theorem dX1_ifOther_7 : decode cX1_ifOther 7 = .ok (.iload_n 2, 1) := dk_28 (dk_at dksX1_ifOther_0 7 rfl rfl)
theorem dX1_ifOther_8 : decode cX1_ifOther 8 = .ok (.invokevirtual 150, 3) := dk_182 0 150 (dk_at dksX1_ifOther_0 8 rfl rfl)
theorem dX1_ifOther_11 : decode cX1_ifOther 11 = .ok (.aload_n 0, 1) := dk_42 (dk_at dksX1_ifOther_0 11 rfl rfl)
theorem dX1_ifOther_12 : decode cX1_ifOther 12 = .ok (.iload_n 3, 1) := dk_29 (dk_at dksX1_ifOther_0 12 rfl rfl)
theorem dX1_ifOther_13 : decode cX1_ifOther 13 = .ok (.iconst 0, 1) := dk_3 (dk_at dksX1_ifOther_0 13 rfl rfl)
theorem dX1_ifOther_14 : decode cX1_ifOther 14 = .ok (.bipush 7, 2) := dk_16 7 (dk_at dksX1_ifOther_0 14 rfl rfl)
theorem dX1_ifOther_16 : decode cX1_ifOther 16 = .ok (.invokevirtual 88, 3) := dk_182 0 88 (dk_at dksX1_ifOther_0 16 rfl rfl)
theorem dX1_ifOther_19 : decode cX1_ifOther 19 = .ok (.aload_n 0, 1) := dk_42 (dk_at dksX1_ifOther_0 19 rfl rfl)
theorem dX1_ifOther_20 : decode cX1_ifOther 20 = .ok (.aload_n 0, 1) := dk_42 (dk_at dksX1_ifOther_0 20 rfl rfl)
theorem dX1_ifOther_21 : decode cX1_ifOther 21 = .ok (.iload_n 1, 1) := dk_27 (dk_at dksX1_ifOther_0 21 rfl rfl)
theorem dX1_ifOther_22 : decode cX1_ifOther 22 = .ok (.invokevirtual 358, 3) := dk_182 1 102 (dk_at dksX1_ifOther_1 0 rfl rfl)
theorem dX1_ifOther_25 : decode cX1_ifOther 25 = .ok (.iload_n 2, 1) := dk_28 (dk_at dksX1_ifOther_1 3 rfl rfl)
theorem dX1_ifOther_26 : decode cX1_ifOther 26 = .ok (.iload_n 3, 1) := dk_29 (dk_at dksX1_ifOther_1 4 rfl rfl)
theorem dX1_ifOther_27 : decode cX1_ifOther 27 = .ok (.invokevirtual 362, 3) := dk_182 1 106 (dk_at dksX1_ifOther_1 5 rfl rfl)
theorem dX1_ifOther_30 : decode cX1_ifOther 30 = .ok (.ireturn, 1) := dk_172 (dk_at dksX1_ifOther_1 8 rfl rfl)
abbrev cX1_ifSet : ByteArray := prog_1_method_52_code
def yX1_ifSet : MethodName := ⟨RX1, "ifSet", "(IIII)I"⟩
def dkwX1_ifSet_2 : List UInt8 := [180, 0, 199, 27, 28, 79, 42, 25, 5, 29, 21, 4, 182, 1, 106, 172]
abbrev dktX1_ifSet_2 : List UInt8 := dkwX1_ifSet_2 ++ []
def dkwX1_ifSet_1 : List UInt8 := [182, 0, 88, 42, 21, 4, 3, 16, 7, 182, 0, 88, 42, 180, 0, 14, 182, 0, 125, 58, 5, 25, 5]
abbrev dktX1_ifSet_1 : List UInt8 := dkwX1_ifSet_1 ++ dktX1_ifSet_2
def dkwX1_ifSet_0 : List UInt8 := [42, 29, 182, 0, 150, 42, 27, 3, 4, 182, 0, 88, 42, 28, 27, 184, 0, 193, 27, 184, 0, 196]
abbrev dktX1_ifSet_0 : List UInt8 := dkwX1_ifSet_0 ++ dktX1_ifSet_1
theorem dksX1_ifSet_0 : cX1_ifSet.data.toList.drop 0 = dktX1_ifSet_0 := by decide +kernel
theorem dksX1_ifSet_1 : cX1_ifSet.data.toList.drop 22 = dktX1_ifSet_1 := dk_seg dksX1_ifSet_0 22 rfl rfl
theorem dksX1_ifSet_2 : cX1_ifSet.data.toList.drop 45 = dktX1_ifSet_2 := dk_seg dksX1_ifSet_1 23 rfl rfl
theorem dX1_ifSet_0 : decode cX1_ifSet 0 = .ok (.aload_n 0, 1) := dk_42 (dk_at dksX1_ifSet_0 0 rfl rfl)
theorem dX1_ifSet_1 : decode cX1_ifSet 1 = .ok (.iload_n 3, 1) := dk_29 (dk_at dksX1_ifSet_0 1 rfl rfl)
theorem dX1_ifSet_2 : decode cX1_ifSet 2 = .ok (.invokevirtual 150, 3) := dk_182 0 150 (dk_at dksX1_ifSet_0 2 rfl rfl)
theorem dX1_ifSet_5 : decode cX1_ifSet 5 = .ok (.aload_n 0, 1) := dk_42 (dk_at dksX1_ifSet_0 5 rfl rfl)
theorem dX1_ifSet_6 : decode cX1_ifSet 6 = .ok (.iload_n 1, 1) := dk_27 (dk_at dksX1_ifSet_0 6 rfl rfl)
theorem dX1_ifSet_7 : decode cX1_ifSet 7 = .ok (.iconst 0, 1) := dk_3 (dk_at dksX1_ifSet_0 7 rfl rfl)
theorem dX1_ifSet_8 : decode cX1_ifSet 8 = .ok (.iconst 1, 1) := dk_4 (dk_at dksX1_ifSet_0 8 rfl rfl)
theorem dX1_ifSet_9 : decode cX1_ifSet 9 = .ok (.invokevirtual 88, 3) := dk_182 0 88 (dk_at dksX1_ifSet_0 9 rfl rfl)
theorem dX1_ifSet_12 : decode cX1_ifSet 12 = .ok (.aload_n 0, 1) := dk_42 (dk_at dksX1_ifSet_0 12 rfl rfl)
theorem dX1_ifSet_13 : decode cX1_ifSet 13 = .ok (.iload_n 2, 1) := dk_28 (dk_at dksX1_ifSet_0 13 rfl rfl)
theorem dX1_ifSet_14 : decode cX1_ifSet 14 = .ok (.iload_n 1, 1) := dk_27 (dk_at dksX1_ifSet_0 14 rfl rfl)
theorem dX1_ifSet_15 : decode cX1_ifSet 15 = .ok (.invokestatic 193, 3) := dk_184 0 193 (dk_at dksX1_ifSet_0 15 rfl rfl)
theorem dX1_ifSet_18 : decode cX1_ifSet 18 = .ok (.iload_n 1, 1) := dk_27 (dk_at dksX1_ifSet_0 18 rfl rfl)
theorem dX1_ifSet_19 : decode cX1_ifSet 19 = .ok (.invokestatic 196, 3) := dk_184 0 196 (dk_at dksX1_ifSet_0 19 rfl rfl)
theorem dX1_ifSet_22 : decode cX1_ifSet 22 = .ok (.invokevirtual 88, 3) := dk_182 0 88 (dk_at dksX1_ifSet_1 0 rfl rfl)
theorem dX1_ifSet_25 : decode cX1_ifSet 25 = .ok (.aload_n 0, 1) := dk_42 (dk_at dksX1_ifSet_1 3 rfl rfl)
theorem dX1_ifSet_26 : decode cX1_ifSet 26 = .ok (.iload 4, 2) := dk_21 4 (dk_at dksX1_ifSet_1 4 rfl rfl)
theorem dX1_ifSet_28 : decode cX1_ifSet 28 = .ok (.iconst 0, 1) := dk_3 (dk_at dksX1_ifSet_1 6 rfl rfl)
theorem dX1_ifSet_29 : decode cX1_ifSet 29 = .ok (.bipush 7, 2) := dk_16 7 (dk_at dksX1_ifSet_1 7 rfl rfl)
theorem dX1_ifSet_31 : decode cX1_ifSet 31 = .ok (.invokevirtual 88, 3) := dk_182 0 88 (dk_at dksX1_ifSet_1 9 rfl rfl)
theorem dX1_ifSet_34 : decode cX1_ifSet 34 = .ok (.aload_n 0, 1) := dk_42 (dk_at dksX1_ifSet_1 12 rfl rfl)
theorem dX1_ifSet_35 : decode cX1_ifSet 35 = .ok (.getfield 14, 3) := dk_180 0 14 (dk_at dksX1_ifSet_1 13 rfl rfl)
theorem dX1_ifSet_38 : decode cX1_ifSet 38 = .ok (.invokevirtual 125, 3) := dk_182 0 125 (dk_at dksX1_ifSet_1 16 rfl rfl)
theorem dX1_ifSet_41 : decode cX1_ifSet 41 = .ok (.astore 5, 2) := dk_58 5 (dk_at dksX1_ifSet_1 19 rfl rfl)
theorem dX1_ifSet_43 : decode cX1_ifSet 43 = .ok (.aload 5, 2) := dk_25 5 (dk_at dksX1_ifSet_1 21 rfl rfl)
theorem dX1_ifSet_45 : decode cX1_ifSet 45 = .ok (.getfield 199, 3) := dk_180 0 199 (dk_at dksX1_ifSet_2 0 rfl rfl)
theorem dX1_ifSet_48 : decode cX1_ifSet 48 = .ok (.iload_n 1, 1) := dk_27 (dk_at dksX1_ifSet_2 3 rfl rfl)
theorem dX1_ifSet_49 : decode cX1_ifSet 49 = .ok (.iload_n 2, 1) := dk_28 (dk_at dksX1_ifSet_2 4 rfl rfl)
theorem dX1_ifSet_50 : decode cX1_ifSet 50 = .ok (.iastore, 1) := dk_79 (dk_at dksX1_ifSet_2 5 rfl rfl)
theorem dX1_ifSet_51 : decode cX1_ifSet 51 = .ok (.aload_n 0, 1) := dk_42 (dk_at dksX1_ifSet_2 6 rfl rfl)
theorem dX1_ifSet_52 : decode cX1_ifSet 52 = .ok (.aload 5, 2) := dk_25 5 (dk_at dksX1_ifSet_2 7 rfl rfl)
theorem dX1_ifSet_54 : decode cX1_ifSet 54 = .ok (.iload_n 3, 1) := dk_29 (dk_at dksX1_ifSet_2 9 rfl rfl)
theorem dX1_ifSet_55 : decode cX1_ifSet 55 = .ok (.iload 4, 2) := dk_21 4 (dk_at dksX1_ifSet_2 10 rfl rfl)
theorem dX1_ifSet_57 : decode cX1_ifSet 57 = .ok (.invokevirtual 362, 3) := dk_182 1 106 (dk_at dksX1_ifSet_2 12 rfl rfl)
theorem dX1_ifSet_60 : decode cX1_ifSet 60 = .ok (.ireturn, 1) := dk_172 (dk_at dksX1_ifSet_2 15 rfl rfl)
abbrev cX1_extreme : ByteArray := prog_1_method_53_code
def yX1_extreme : MethodName := ⟨RX1, "extreme", "(IZI)I"⟩
def dkwX1_extreme_6 : List UInt8 := [21, 6, 172]
abbrev dktX1_extreme_6 : List UInt8 := dkwX1_extreme_6 ++ []
def dkwX1_extreme_5 : List UInt8 := [159, 0, 10, 21, 10, 21, 7, 164, 0, 11, 21, 8, 54, 6, 21, 10, 54, 7, 132, 8, 1, 167, 255, 145]
abbrev dktX1_extreme_5 : List UInt8 := dkwX1_extreme_5 ++ dktX1_extreme_6
def dkwX1_extreme_4 : List UInt8 := [83, 29, 25, 5, 27, 182, 1, 3, 104, 54, 10, 25, 4, 180, 0, 146, 21, 8, 25, 9, 83, 21, 6, 2]
abbrev dktX1_extreme_4 : List UInt8 := dkwX1_extreme_4 ++ dktX1_extreme_5
def dkwX1_extreme_3 : List UInt8 := [167, 0, 66, 25, 4, 180, 0, 146, 21, 8, 25, 9, 28, 154, 0, 7, 4, 167, 0, 4, 3, 182, 1, 98]
abbrev dktX1_extreme_3 : List UInt8 := dkwX1_extreme_3 ++ dktX1_extreme_4
def dkwX1_extreme_2 : List UInt8 := [21, 8, 50, 58, 9, 25, 9, 180, 0, 172, 27, 160, 0, 78, 25, 9, 180, 0, 227, 28, 159, 0, 6]
abbrev dktX1_extreme_2 : List UInt8 := dkwX1_extreme_2 ++ dktX1_extreme_3
def dkwX1_extreme_1 : List UInt8 := [54, 7, 3, 54, 8, 21, 8, 42, 180, 0, 14, 180, 0, 111, 162, 0, 105, 42, 180, 0, 14, 180, 0, 146]
abbrev dktX1_extreme_1 : List UInt8 := dkwX1_extreme_1 ++ dktX1_extreme_2
def dkwX1_extreme_0 : List UInt8 := [42, 180, 0, 14, 182, 0, 125, 58, 4, 187, 0, 216, 89, 25, 4, 183, 0, 218, 58, 5, 2, 54, 6, 3]
abbrev dktX1_extreme_0 : List UInt8 := dkwX1_extreme_0 ++ dktX1_extreme_1
theorem dksX1_extreme_0 : cX1_extreme.data.toList.drop 0 = dktX1_extreme_0 := by decide +kernel
theorem dksX1_extreme_1 : cX1_extreme.data.toList.drop 24 = dktX1_extreme_1 := dk_seg dksX1_extreme_0 24 rfl rfl
theorem dksX1_extreme_2 : cX1_extreme.data.toList.drop 48 = dktX1_extreme_2 := dk_seg dksX1_extreme_1 24 rfl rfl
theorem dksX1_extreme_3 : cX1_extreme.data.toList.drop 71 = dktX1_extreme_3 := dk_seg dksX1_extreme_2 23 rfl rfl
theorem dksX1_extreme_4 : cX1_extreme.data.toList.drop 95 = dktX1_extreme_4 := dk_seg dksX1_extreme_3 24 rfl rfl
theorem dksX1_extreme_5 : cX1_extreme.data.toList.drop 119 = dktX1_extreme_5 := dk_seg dksX1_extreme_4 24 rfl rfl
theorem dksX1_extreme_6 : cX1_extreme.data.toList.drop 143 = dktX1_extreme_6 := dk_seg dksX1_extreme_5 24 rfl rfl
theorem dX1_extreme_0 : decode cX1_extreme 0 = .ok (.aload_n 0, 1) := dk_42 (dk_at dksX1_extreme_0 0 rfl rfl)
theorem dX1_extreme_1 : decode cX1_extreme 1 = .ok (.getfield 14, 3) := dk_180 0 14 (dk_at dksX1_extreme_0 1 rfl rfl)
theorem dX1_extreme_4 : decode cX1_extreme 4 = .ok (.invokevirtual 125, 3) := dk_182 0 125 (dk_at dksX1_extreme_0 4 rfl rfl)
theorem dX1_extreme_7 : decode cX1_extreme 7 = .ok (.astore 4, 2) := dk_58 4 (dk_at dksX1_extreme_0 7 rfl rfl)
theorem dX1_extreme_9 : decode cX1_extreme 9 = .ok (.new 216, 3) := dk_187 0 216 (dk_at dksX1_extreme_0 9 rfl rfl)
theorem dX1_extreme_12 : decode cX1_extreme 12 = .ok (.dup, 1) := dk_89 (dk_at dksX1_extreme_0 12 rfl rfl)
theorem dX1_extreme_13 : decode cX1_extreme 13 = .ok (.aload 4, 2) := dk_25 4 (dk_at dksX1_extreme_0 13 rfl rfl)
theorem dX1_extreme_15 : decode cX1_extreme 15 = .ok (.invokespecial 218, 3) := dk_183 0 218 (dk_at dksX1_extreme_0 15 rfl rfl)
theorem dX1_extreme_18 : decode cX1_extreme 18 = .ok (.astore 5, 2) := dk_58 5 (dk_at dksX1_extreme_0 18 rfl rfl)
theorem dX1_extreme_20 : decode cX1_extreme 20 = .ok (.iconst (-1), 1) := dk_2 (dk_at dksX1_extreme_0 20 rfl rfl)
theorem dX1_extreme_21 : decode cX1_extreme 21 = .ok (.istore 6, 2) := dk_54 6 (dk_at dksX1_extreme_0 21 rfl rfl)
theorem dX1_extreme_23 : decode cX1_extreme 23 = .ok (.iconst 0, 1) := dk_3 (dk_at dksX1_extreme_0 23 rfl rfl)
theorem dX1_extreme_24 : decode cX1_extreme 24 = .ok (.istore 7, 2) := dk_54 7 (dk_at dksX1_extreme_1 0 rfl rfl)
theorem dX1_extreme_26 : decode cX1_extreme 26 = .ok (.iconst 0, 1) := dk_3 (dk_at dksX1_extreme_1 2 rfl rfl)
theorem dX1_extreme_27 : decode cX1_extreme 27 = .ok (.istore 8, 2) := dk_54 8 (dk_at dksX1_extreme_1 3 rfl rfl)
theorem dX1_extreme_29 : decode cX1_extreme 29 = .ok (.iload 8, 2) := dk_21 8 (dk_at dksX1_extreme_1 5 rfl rfl)
theorem dX1_extreme_31 : decode cX1_extreme 31 = .ok (.aload_n 0, 1) := dk_42 (dk_at dksX1_extreme_1 7 rfl rfl)
theorem dX1_extreme_32 : decode cX1_extreme 32 = .ok (.getfield 14, 3) := dk_180 0 14 (dk_at dksX1_extreme_1 8 rfl rfl)
theorem dX1_extreme_35 : decode cX1_extreme 35 = .ok (.getfield 111, 3) := dk_180 0 111 (dk_at dksX1_extreme_1 11 rfl rfl)
theorem dX1_extreme_38 : decode cX1_extreme 38 = .ok (.if_icmp .ge 105, 3) := dk_162 0 105 (dk_at dksX1_extreme_1 14 rfl rfl)
theorem dX1_extreme_41 : decode cX1_extreme 41 = .ok (.aload_n 0, 1) := dk_42 (dk_at dksX1_extreme_1 17 rfl rfl)
theorem dX1_extreme_42 : decode cX1_extreme 42 = .ok (.getfield 14, 3) := dk_180 0 14 (dk_at dksX1_extreme_1 18 rfl rfl)
theorem dX1_extreme_45 : decode cX1_extreme 45 = .ok (.getfield 146, 3) := dk_180 0 146 (dk_at dksX1_extreme_1 21 rfl rfl)
theorem dX1_extreme_48 : decode cX1_extreme 48 = .ok (.iload 8, 2) := dk_21 8 (dk_at dksX1_extreme_2 0 rfl rfl)
theorem dX1_extreme_50 : decode cX1_extreme 50 = .ok (.aaload, 1) := dk_50 (dk_at dksX1_extreme_2 2 rfl rfl)
theorem dX1_extreme_51 : decode cX1_extreme 51 = .ok (.astore 9, 2) := dk_58 9 (dk_at dksX1_extreme_2 3 rfl rfl)
theorem dX1_extreme_53 : decode cX1_extreme 53 = .ok (.aload 9, 2) := dk_25 9 (dk_at dksX1_extreme_2 5 rfl rfl)
theorem dX1_extreme_55 : decode cX1_extreme 55 = .ok (.getfield 172, 3) := dk_180 0 172 (dk_at dksX1_extreme_2 7 rfl rfl)
theorem dX1_extreme_58 : decode cX1_extreme 58 = .ok (.iload_n 1, 1) := dk_27 (dk_at dksX1_extreme_2 10 rfl rfl)
theorem dX1_extreme_59 : decode cX1_extreme 59 = .ok (.if_icmp .ne 78, 3) := dk_160 0 78 (dk_at dksX1_extreme_2 11 rfl rfl)
theorem dX1_extreme_62 : decode cX1_extreme 62 = .ok (.aload 9, 2) := dk_25 9 (dk_at dksX1_extreme_2 14 rfl rfl)
theorem dX1_extreme_64 : decode cX1_extreme 64 = .ok (.getfield 227, 3) := dk_180 0 227 (dk_at dksX1_extreme_2 16 rfl rfl)
theorem dX1_extreme_67 : decode cX1_extreme 67 = .ok (.iload_n 2, 1) := dk_28 (dk_at dksX1_extreme_2 19 rfl rfl)
theorem dX1_extreme_68 : decode cX1_extreme 68 = .ok (.if_icmp .eq 6, 3) := dk_159 0 6 (dk_at dksX1_extreme_2 20 rfl rfl)
theorem dX1_extreme_71 : decode cX1_extreme 71 = .ok (.goto 66, 3) := dk_167 0 66 (dk_at dksX1_extreme_3 0 rfl rfl)
theorem dX1_extreme_74 : decode cX1_extreme 74 = .ok (.aload 4, 2) := dk_25 4 (dk_at dksX1_extreme_3 3 rfl rfl)
theorem dX1_extreme_76 : decode cX1_extreme 76 = .ok (.getfield 146, 3) := dk_180 0 146 (dk_at dksX1_extreme_3 5 rfl rfl)
theorem dX1_extreme_79 : decode cX1_extreme 79 = .ok (.iload 8, 2) := dk_21 8 (dk_at dksX1_extreme_3 8 rfl rfl)
theorem dX1_extreme_81 : decode cX1_extreme 81 = .ok (.aload 9, 2) := dk_25 9 (dk_at dksX1_extreme_3 10 rfl rfl)
theorem dX1_extreme_83 : decode cX1_extreme 83 = .ok (.iload_n 2, 1) := dk_28 (dk_at dksX1_extreme_3 12 rfl rfl)
theorem dX1_extreme_84 : decode cX1_extreme 84 = .ok (.ifCond .ne 7, 3) := dk_154 0 7 (dk_at dksX1_extreme_3 13 rfl rfl)
theorem dX1_extreme_87 : decode cX1_extreme 87 = .ok (.iconst 1, 1) := dk_4 (dk_at dksX1_extreme_3 16 rfl rfl)
theorem dX1_extreme_88 : decode cX1_extreme 88 = .ok (.goto 4, 3) := dk_167 0 4 (dk_at dksX1_extreme_3 17 rfl rfl)
theorem dX1_extreme_91 : decode cX1_extreme 91 = .ok (.iconst 0, 1) := dk_3 (dk_at dksX1_extreme_3 20 rfl rfl)
theorem dX1_extreme_92 : decode cX1_extreme 92 = .ok (.invokevirtual 354, 3) := dk_182 1 98 (dk_at dksX1_extreme_3 21 rfl rfl)
theorem dX1_extreme_95 : decode cX1_extreme 95 = .ok (.aastore, 1) := dk_83 (dk_at dksX1_extreme_4 0 rfl rfl)
theorem dX1_extreme_96 : decode cX1_extreme 96 = .ok (.iload_n 3, 1) := dk_29 (dk_at dksX1_extreme_4 1 rfl rfl)
theorem dX1_extreme_97 : decode cX1_extreme 97 = .ok (.aload 5, 2) := dk_25 5 (dk_at dksX1_extreme_4 2 rfl rfl)
theorem dX1_extreme_99 : decode cX1_extreme 99 = .ok (.iload_n 1, 1) := dk_27 (dk_at dksX1_extreme_4 4 rfl rfl)
theorem dX1_extreme_100 : decode cX1_extreme 100 = .ok (.invokevirtual 259, 3) := dk_182 1 3 (dk_at dksX1_extreme_4 5 rfl rfl)
theorem dX1_extreme_103 : decode cX1_extreme 103 = .ok (.imul, 1) := dk_104 (dk_at dksX1_extreme_4 8 rfl rfl)
theorem dX1_extreme_104 : decode cX1_extreme 104 = .ok (.istore 10, 2) := dk_54 10 (dk_at dksX1_extreme_4 9 rfl rfl)
theorem dX1_extreme_106 : decode cX1_extreme 106 = .ok (.aload 4, 2) := dk_25 4 (dk_at dksX1_extreme_4 11 rfl rfl)
theorem dX1_extreme_108 : decode cX1_extreme 108 = .ok (.getfield 146, 3) := dk_180 0 146 (dk_at dksX1_extreme_4 13 rfl rfl)
theorem dX1_extreme_111 : decode cX1_extreme 111 = .ok (.iload 8, 2) := dk_21 8 (dk_at dksX1_extreme_4 16 rfl rfl)
theorem dX1_extreme_113 : decode cX1_extreme 113 = .ok (.aload 9, 2) := dk_25 9 (dk_at dksX1_extreme_4 18 rfl rfl)
theorem dX1_extreme_115 : decode cX1_extreme 115 = .ok (.aastore, 1) := dk_83 (dk_at dksX1_extreme_4 20 rfl rfl)
theorem dX1_extreme_116 : decode cX1_extreme 116 = .ok (.iload 6, 2) := dk_21 6 (dk_at dksX1_extreme_4 21 rfl rfl)
theorem dX1_extreme_118 : decode cX1_extreme 118 = .ok (.iconst (-1), 1) := dk_2 (dk_at dksX1_extreme_4 23 rfl rfl)
theorem dX1_extreme_119 : decode cX1_extreme 119 = .ok (.if_icmp .eq 10, 3) := dk_159 0 10 (dk_at dksX1_extreme_5 0 rfl rfl)
theorem dX1_extreme_122 : decode cX1_extreme 122 = .ok (.iload 10, 2) := dk_21 10 (dk_at dksX1_extreme_5 3 rfl rfl)
theorem dX1_extreme_124 : decode cX1_extreme 124 = .ok (.iload 7, 2) := dk_21 7 (dk_at dksX1_extreme_5 5 rfl rfl)
theorem dX1_extreme_126 : decode cX1_extreme 126 = .ok (.if_icmp .le 11, 3) := dk_164 0 11 (dk_at dksX1_extreme_5 7 rfl rfl)
theorem dX1_extreme_129 : decode cX1_extreme 129 = .ok (.iload 8, 2) := dk_21 8 (dk_at dksX1_extreme_5 10 rfl rfl)
theorem dX1_extreme_131 : decode cX1_extreme 131 = .ok (.istore 6, 2) := dk_54 6 (dk_at dksX1_extreme_5 12 rfl rfl)
theorem dX1_extreme_133 : decode cX1_extreme 133 = .ok (.iload 10, 2) := dk_21 10 (dk_at dksX1_extreme_5 14 rfl rfl)
theorem dX1_extreme_135 : decode cX1_extreme 135 = .ok (.istore 7, 2) := dk_54 7 (dk_at dksX1_extreme_5 16 rfl rfl)
theorem dX1_extreme_137 : decode cX1_extreme 137 = .ok (.iinc 8 1, 3) := dk_132 8 1 (dk_at dksX1_extreme_5 18 rfl rfl)
theorem dX1_extreme_140 : decode cX1_extreme 140 = .ok (.goto (-111), 3) := dk_167 255 145 (dk_at dksX1_extreme_5 21 rfl rfl)
theorem dX1_extreme_143 : decode cX1_extreme 143 = .ok (.iload 6, 2) := dk_21 6 (dk_at dksX1_extreme_6 0 rfl rfl)
theorem dX1_extreme_145 : decode cX1_extreme 145 = .ok (.ireturn, 1) := dk_172 (dk_at dksX1_extreme_6 2 rfl rfl)
abbrev cX1_bestMend : ByteArray := prog_1_method_54_code
def yX1_bestMend : MethodName := ⟨RX1, "bestMend", "(I)I"⟩
def dkwX1_bestMend_0 : List UInt8 := [42, 27, 182, 0, 150, 42, 27, 4, 4, 182, 1, 110, 172]
abbrev dktX1_bestMend_0 : List UInt8 := dkwX1_bestMend_0 ++ []
theorem dksX1_bestMend_0 : cX1_bestMend.data.toList.drop 0 = dktX1_bestMend_0 := by decide +kernel
theorem dX1_bestMend_0 : decode cX1_bestMend 0 = .ok (.aload_n 0, 1) := dk_42 (dk_at dksX1_bestMend_0 0 rfl rfl)
theorem dX1_bestMend_1 : decode cX1_bestMend 1 = .ok (.iload_n 1, 1) := dk_27 (dk_at dksX1_bestMend_0 1 rfl rfl)
theorem dX1_bestMend_2 : decode cX1_bestMend 2 = .ok (.invokevirtual 150, 3) := dk_182 0 150 (dk_at dksX1_bestMend_0 2 rfl rfl)
theorem dX1_bestMend_5 : decode cX1_bestMend 5 = .ok (.aload_n 0, 1) := dk_42 (dk_at dksX1_bestMend_0 5 rfl rfl)
theorem dX1_bestMend_6 : decode cX1_bestMend 6 = .ok (.iload_n 1, 1) := dk_27 (dk_at dksX1_bestMend_0 6 rfl rfl)
theorem dX1_bestMend_7 : decode cX1_bestMend 7 = .ok (.iconst 1, 1) := dk_4 (dk_at dksX1_bestMend_0 7 rfl rfl)
theorem dX1_bestMend_8 : decode cX1_bestMend 8 = .ok (.iconst 1, 1) := dk_4 (dk_at dksX1_bestMend_0 8 rfl rfl)
theorem dX1_bestMend_9 : decode cX1_bestMend 9 = .ok (.invokevirtual 366, 3) := dk_182 1 110 (dk_at dksX1_bestMend_0 9 rfl rfl)
theorem dX1_bestMend_12 : decode cX1_bestMend 12 = .ok (.ireturn, 1) := dk_172 (dk_at dksX1_bestMend_0 12 rfl rfl)
abbrev cX1_worstLoss : ByteArray := prog_1_method_55_code
def yX1_worstLoss : MethodName := ⟨RX1, "worstLoss", "(I)I"⟩
def dkwX1_worstLoss_0 : List UInt8 := [42, 27, 182, 0, 150, 42, 27, 3, 2, 182, 1, 110, 172]
abbrev dktX1_worstLoss_0 : List UInt8 := dkwX1_worstLoss_0 ++ []
theorem dksX1_worstLoss_0 : cX1_worstLoss.data.toList.drop 0 = dktX1_worstLoss_0 := by decide +kernel
theorem dX1_worstLoss_0 : decode cX1_worstLoss 0 = .ok (.aload_n 0, 1) := dk_42 (dk_at dksX1_worstLoss_0 0 rfl rfl)
theorem dX1_worstLoss_1 : decode cX1_worstLoss 1 = .ok (.iload_n 1, 1) := dk_27 (dk_at dksX1_worstLoss_0 1 rfl rfl)
theorem dX1_worstLoss_2 : decode cX1_worstLoss 2 = .ok (.invokevirtual 150, 3) := dk_182 0 150 (dk_at dksX1_worstLoss_0 2 rfl rfl)
theorem dX1_worstLoss_5 : decode cX1_worstLoss 5 = .ok (.aload_n 0, 1) := dk_42 (dk_at dksX1_worstLoss_0 5 rfl rfl)
theorem dX1_worstLoss_6 : decode cX1_worstLoss 6 = .ok (.iload_n 1, 1) := dk_27 (dk_at dksX1_worstLoss_0 6 rfl rfl)
theorem dX1_worstLoss_7 : decode cX1_worstLoss 7 = .ok (.iconst 0, 1) := dk_3 (dk_at dksX1_worstLoss_0 7 rfl rfl)
theorem dX1_worstLoss_8 : decode cX1_worstLoss 8 = .ok (.iconst (-1), 1) := dk_2 (dk_at dksX1_worstLoss_0 8 rfl rfl)
theorem dX1_worstLoss_9 : decode cX1_worstLoss 9 = .ok (.invokevirtual 366, 3) := dk_182 1 110 (dk_at dksX1_worstLoss_0 9 rfl rfl)
theorem dX1_worstLoss_12 : decode cX1_worstLoss 12 = .ok (.ireturn, 1) := dk_172 (dk_at dksX1_worstLoss_0 12 rfl rfl)
abbrev cX1_leastGap : ByteArray := prog_1_method_56_code
def yX1_leastGap : MethodName := ⟨RX1, "leastGap", "(I)I"⟩
def dkwX1_leastGap_2 : List UInt8 := [153, 0, 6, 21, 4, 172, 132, 4, 1, 167, 255, 227, 2, 172]
abbrev dktX1_leastGap_2 : List UInt8 := dkwX1_leastGap_2 ++ []
def dkwX1_leastGap_1 : List UInt8 := [54, 4, 21, 4, 16, 12, 163, 0, 28, 44, 180, 0, 199, 3, 21, 4, 79, 45, 27, 182, 0, 220]
abbrev dktX1_leastGap_1 : List UInt8 := dkwX1_leastGap_1 ++ dktX1_leastGap_2
def dkwX1_leastGap_0 : List UInt8 := [42, 27, 182, 0, 150, 42, 180, 0, 14, 182, 0, 125, 77, 187, 0, 216, 89, 44, 183, 0, 218, 78, 4]
abbrev dktX1_leastGap_0 : List UInt8 := dkwX1_leastGap_0 ++ dktX1_leastGap_1
theorem dksX1_leastGap_0 : cX1_leastGap.data.toList.drop 0 = dktX1_leastGap_0 := by decide +kernel
theorem dksX1_leastGap_1 : cX1_leastGap.data.toList.drop 23 = dktX1_leastGap_1 := dk_seg dksX1_leastGap_0 23 rfl rfl
theorem dksX1_leastGap_2 : cX1_leastGap.data.toList.drop 45 = dktX1_leastGap_2 := dk_seg dksX1_leastGap_1 22 rfl rfl
theorem dX1_leastGap_0 : decode cX1_leastGap 0 = .ok (.aload_n 0, 1) := dk_42 (dk_at dksX1_leastGap_0 0 rfl rfl)
theorem dX1_leastGap_1 : decode cX1_leastGap 1 = .ok (.iload_n 1, 1) := dk_27 (dk_at dksX1_leastGap_0 1 rfl rfl)
theorem dX1_leastGap_2 : decode cX1_leastGap 2 = .ok (.invokevirtual 150, 3) := dk_182 0 150 (dk_at dksX1_leastGap_0 2 rfl rfl)
theorem dX1_leastGap_5 : decode cX1_leastGap 5 = .ok (.aload_n 0, 1) := dk_42 (dk_at dksX1_leastGap_0 5 rfl rfl)
theorem dX1_leastGap_6 : decode cX1_leastGap 6 = .ok (.getfield 14, 3) := dk_180 0 14 (dk_at dksX1_leastGap_0 6 rfl rfl)
theorem dX1_leastGap_9 : decode cX1_leastGap 9 = .ok (.invokevirtual 125, 3) := dk_182 0 125 (dk_at dksX1_leastGap_0 9 rfl rfl)
theorem dX1_leastGap_12 : decode cX1_leastGap 12 = .ok (.astore_n 2, 1) := dk_77 (dk_at dksX1_leastGap_0 12 rfl rfl)
theorem dX1_leastGap_13 : decode cX1_leastGap 13 = .ok (.new 216, 3) := dk_187 0 216 (dk_at dksX1_leastGap_0 13 rfl rfl)
theorem dX1_leastGap_16 : decode cX1_leastGap 16 = .ok (.dup, 1) := dk_89 (dk_at dksX1_leastGap_0 16 rfl rfl)
theorem dX1_leastGap_17 : decode cX1_leastGap 17 = .ok (.aload_n 2, 1) := dk_44 (dk_at dksX1_leastGap_0 17 rfl rfl)
theorem dX1_leastGap_18 : decode cX1_leastGap 18 = .ok (.invokespecial 218, 3) := dk_183 0 218 (dk_at dksX1_leastGap_0 18 rfl rfl)
theorem dX1_leastGap_21 : decode cX1_leastGap 21 = .ok (.astore_n 3, 1) := dk_78 (dk_at dksX1_leastGap_0 21 rfl rfl)
theorem dX1_leastGap_22 : decode cX1_leastGap 22 = .ok (.iconst 1, 1) := dk_4 (dk_at dksX1_leastGap_0 22 rfl rfl)
theorem dX1_leastGap_23 : decode cX1_leastGap 23 = .ok (.istore 4, 2) := dk_54 4 (dk_at dksX1_leastGap_1 0 rfl rfl)
theorem dX1_leastGap_25 : decode cX1_leastGap 25 = .ok (.iload 4, 2) := dk_21 4 (dk_at dksX1_leastGap_1 2 rfl rfl)
theorem dX1_leastGap_27 : decode cX1_leastGap 27 = .ok (.bipush 12, 2) := dk_16 12 (dk_at dksX1_leastGap_1 4 rfl rfl)
theorem dX1_leastGap_29 : decode cX1_leastGap 29 = .ok (.if_icmp .gt 28, 3) := dk_163 0 28 (dk_at dksX1_leastGap_1 6 rfl rfl)
theorem dX1_leastGap_32 : decode cX1_leastGap 32 = .ok (.aload_n 2, 1) := dk_44 (dk_at dksX1_leastGap_1 9 rfl rfl)
theorem dX1_leastGap_33 : decode cX1_leastGap 33 = .ok (.getfield 199, 3) := dk_180 0 199 (dk_at dksX1_leastGap_1 10 rfl rfl)
theorem dX1_leastGap_36 : decode cX1_leastGap 36 = .ok (.iconst 0, 1) := dk_3 (dk_at dksX1_leastGap_1 13 rfl rfl)
theorem dX1_leastGap_37 : decode cX1_leastGap 37 = .ok (.iload 4, 2) := dk_21 4 (dk_at dksX1_leastGap_1 14 rfl rfl)
theorem dX1_leastGap_39 : decode cX1_leastGap 39 = .ok (.iastore, 1) := dk_79 (dk_at dksX1_leastGap_1 16 rfl rfl)
theorem dX1_leastGap_40 : decode cX1_leastGap 40 = .ok (.aload_n 3, 1) := dk_45 (dk_at dksX1_leastGap_1 17 rfl rfl)
theorem dX1_leastGap_41 : decode cX1_leastGap 41 = .ok (.iload_n 1, 1) := dk_27 (dk_at dksX1_leastGap_1 18 rfl rfl)
theorem dX1_leastGap_42 : decode cX1_leastGap 42 = .ok (.invokevirtual 220, 3) := dk_182 0 220 (dk_at dksX1_leastGap_1 19 rfl rfl)
theorem dX1_leastGap_45 : decode cX1_leastGap 45 = .ok (.ifCond .eq 6, 3) := dk_153 0 6 (dk_at dksX1_leastGap_2 0 rfl rfl)
theorem dX1_leastGap_48 : decode cX1_leastGap 48 = .ok (.iload 4, 2) := dk_21 4 (dk_at dksX1_leastGap_2 3 rfl rfl)
theorem dX1_leastGap_50 : decode cX1_leastGap 50 = .ok (.ireturn, 1) := dk_172 (dk_at dksX1_leastGap_2 5 rfl rfl)
theorem dX1_leastGap_51 : decode cX1_leastGap 51 = .ok (.iinc 4 1, 3) := dk_132 4 1 (dk_at dksX1_leastGap_2 6 rfl rfl)
theorem dX1_leastGap_54 : decode cX1_leastGap 54 = .ok (.goto (-29), 3) := dk_167 255 227 (dk_at dksX1_leastGap_2 9 rfl rfl)
theorem dX1_leastGap_57 : decode cX1_leastGap 57 = .ok (.iconst (-1), 1) := dk_2 (dk_at dksX1_leastGap_2 12 rfl rfl)
theorem dX1_leastGap_58 : decode cX1_leastGap 58 = .ok (.ireturn, 1) := dk_172 (dk_at dksX1_leastGap_2 13 rfl rfl)
abbrev cX1_meanBits : ByteArray := prog_1_method_59_code
def yX1_meanBits : MethodName := ⟨RX1, "meanBits", "(I)I"⟩
def dkwX1_meanBits_1 : List UInt8 := [182, 1, 142, 134, 44, 182, 1, 133, 134, 110, 184, 1, 136, 172]
abbrev dktX1_meanBits_1 : List UInt8 := dkwX1_meanBits_1 ++ []
def dkwX1_meanBits_0 : List UInt8 := [42, 27, 182, 1, 32, 77, 44, 198, 0, 10, 44, 182, 1, 133, 154, 0, 8, 11, 184, 1, 136, 172, 44]
abbrev dktX1_meanBits_0 : List UInt8 := dkwX1_meanBits_0 ++ dktX1_meanBits_1
theorem dksX1_meanBits_0 : cX1_meanBits.data.toList.drop 0 = dktX1_meanBits_0 := by decide +kernel
theorem dksX1_meanBits_1 : cX1_meanBits.data.toList.drop 23 = dktX1_meanBits_1 := dk_seg dksX1_meanBits_0 23 rfl rfl
theorem dX1_meanBits_0 : decode cX1_meanBits 0 = .ok (.aload_n 0, 1) := dk_42 (dk_at dksX1_meanBits_0 0 rfl rfl)
theorem dX1_meanBits_1 : decode cX1_meanBits 1 = .ok (.iload_n 1, 1) := dk_27 (dk_at dksX1_meanBits_0 1 rfl rfl)
theorem dX1_meanBits_2 : decode cX1_meanBits 2 = .ok (.invokevirtual 288, 3) := dk_182 1 32 (dk_at dksX1_meanBits_0 2 rfl rfl)
theorem dX1_meanBits_5 : decode cX1_meanBits 5 = .ok (.astore_n 2, 1) := dk_77 (dk_at dksX1_meanBits_0 5 rfl rfl)
theorem dX1_meanBits_6 : decode cX1_meanBits 6 = .ok (.aload_n 2, 1) := dk_44 (dk_at dksX1_meanBits_0 6 rfl rfl)
theorem dX1_meanBits_7 : decode cX1_meanBits 7 = .ok (.ifnull 10, 3) := dk_198 0 10 (dk_at dksX1_meanBits_0 7 rfl rfl)
theorem dX1_meanBits_10 : decode cX1_meanBits 10 = .ok (.aload_n 2, 1) := dk_44 (dk_at dksX1_meanBits_0 10 rfl rfl)
theorem dX1_meanBits_11 : decode cX1_meanBits 11 = .ok (.invokevirtual 389, 3) := dk_182 1 133 (dk_at dksX1_meanBits_0 11 rfl rfl)
theorem dX1_meanBits_14 : decode cX1_meanBits 14 = .ok (.ifCond .ne 8, 3) := dk_154 0 8 (dk_at dksX1_meanBits_0 14 rfl rfl)
theorem dX1_meanBits_17 : decode cX1_meanBits 17 = .ok (.fconst 0, 1) := dk_11 (dk_at dksX1_meanBits_0 17 rfl rfl)
theorem dX1_meanBits_18 : decode cX1_meanBits 18 = .ok (.invokestatic 392, 3) := dk_184 1 136 (dk_at dksX1_meanBits_0 18 rfl rfl)
theorem dX1_meanBits_21 : decode cX1_meanBits 21 = .ok (.ireturn, 1) := dk_172 (dk_at dksX1_meanBits_0 21 rfl rfl)
theorem dX1_meanBits_22 : decode cX1_meanBits 22 = .ok (.aload_n 2, 1) := dk_44 (dk_at dksX1_meanBits_0 22 rfl rfl)
theorem dX1_meanBits_23 : decode cX1_meanBits 23 = .ok (.invokevirtual 398, 3) := dk_182 1 142 (dk_at dksX1_meanBits_1 0 rfl rfl)
theorem dX1_meanBits_26 : decode cX1_meanBits 26 = .ok (.i2f, 1) := dk_134 (dk_at dksX1_meanBits_1 3 rfl rfl)
theorem dX1_meanBits_27 : decode cX1_meanBits 27 = .ok (.aload_n 2, 1) := dk_44 (dk_at dksX1_meanBits_1 4 rfl rfl)
theorem dX1_meanBits_28 : decode cX1_meanBits 28 = .ok (.invokevirtual 389, 3) := dk_182 1 133 (dk_at dksX1_meanBits_1 5 rfl rfl)
theorem dX1_meanBits_31 : decode cX1_meanBits 31 = .ok (.i2f, 1) := dk_134 (dk_at dksX1_meanBits_1 8 rfl rfl)
theorem dX1_meanBits_32 : decode cX1_meanBits 32 = .ok (.fdiv, 1) := dk_110 (dk_at dksX1_meanBits_1 9 rfl rfl)
theorem dX1_meanBits_33 : decode cX1_meanBits 33 = .ok (.invokestatic 392, 3) := dk_184 1 136 (dk_at dksX1_meanBits_1 10 rfl rfl)
theorem dX1_meanBits_36 : decode cX1_meanBits 36 = .ok (.ireturn, 1) := dk_172 (dk_at dksX1_meanBits_1 13 rfl rfl)
abbrev cX1_marksOf : ByteArray := prog_1_method_64_code
def yX1_marksOf : MethodName := ⟨RX1, "marksOf", "(LTrailMarkers$Guide;)[I"⟩
def dkwX1_marksOf_3 : List UInt8 := [21, 4, 25, 5, 182, 1, 177, 79, 132, 4, 1, 167, 255, 191, 45, 176]
abbrev dktX1_marksOf_3 : List UInt8 := dkwX1_marksOf_3 ++ []
def dkwX1_marksOf_2 : List UInt8 := [44, 182, 1, 168, 184, 1, 169, 58, 5, 44, 43, 180, 1, 117, 21, 4, 50, 25, 5, 182, 1, 173, 87, 45]
abbrev dktX1_marksOf_2 : List UInt8 := dkwX1_marksOf_2 ++ dktX1_marksOf_3
def dkwX1_marksOf_1 : List UInt8 := [162, 0, 62, 44, 43, 180, 1, 117, 21, 4, 50, 182, 1, 162, 192, 1, 166, 58, 5, 25, 5, 199, 0, 26]
abbrev dktX1_marksOf_1 : List UInt8 := dkwX1_marksOf_1 ++ dktX1_marksOf_2
def dkwX1_marksOf_0 : List UInt8 := [187, 1, 159, 89, 183, 1, 161, 77, 43, 180, 1, 114, 188, 10, 78, 3, 54, 4, 21, 4, 43, 180, 1, 114]
abbrev dktX1_marksOf_0 : List UInt8 := dkwX1_marksOf_0 ++ dktX1_marksOf_1
theorem dksX1_marksOf_0 : cX1_marksOf.data.toList.drop 0 = dktX1_marksOf_0 := by decide +kernel
theorem dksX1_marksOf_1 : cX1_marksOf.data.toList.drop 24 = dktX1_marksOf_1 := dk_seg dksX1_marksOf_0 24 rfl rfl
theorem dksX1_marksOf_2 : cX1_marksOf.data.toList.drop 48 = dktX1_marksOf_2 := dk_seg dksX1_marksOf_1 24 rfl rfl
theorem dksX1_marksOf_3 : cX1_marksOf.data.toList.drop 72 = dktX1_marksOf_3 := dk_seg dksX1_marksOf_2 24 rfl rfl
theorem dX1_marksOf_0 : decode cX1_marksOf 0 = .ok (.new 415, 3) := dk_187 1 159 (dk_at dksX1_marksOf_0 0 rfl rfl)
theorem dX1_marksOf_3 : decode cX1_marksOf 3 = .ok (.dup, 1) := dk_89 (dk_at dksX1_marksOf_0 3 rfl rfl)
theorem dX1_marksOf_4 : decode cX1_marksOf 4 = .ok (.invokespecial 417, 3) := dk_183 1 161 (dk_at dksX1_marksOf_0 4 rfl rfl)
theorem dX1_marksOf_7 : decode cX1_marksOf 7 = .ok (.astore_n 2, 1) := dk_77 (dk_at dksX1_marksOf_0 7 rfl rfl)
theorem dX1_marksOf_8 : decode cX1_marksOf 8 = .ok (.aload_n 1, 1) := dk_43 (dk_at dksX1_marksOf_0 8 rfl rfl)
theorem dX1_marksOf_9 : decode cX1_marksOf 9 = .ok (.getfield 370, 3) := dk_180 1 114 (dk_at dksX1_marksOf_0 9 rfl rfl)
theorem dX1_marksOf_12 : decode cX1_marksOf 12 = .ok (.newarray .int, 2) := dk_188_10 (dk_at dksX1_marksOf_0 12 rfl rfl)
theorem dX1_marksOf_14 : decode cX1_marksOf 14 = .ok (.astore_n 3, 1) := dk_78 (dk_at dksX1_marksOf_0 14 rfl rfl)
theorem dX1_marksOf_15 : decode cX1_marksOf 15 = .ok (.iconst 0, 1) := dk_3 (dk_at dksX1_marksOf_0 15 rfl rfl)
theorem dX1_marksOf_16 : decode cX1_marksOf 16 = .ok (.istore 4, 2) := dk_54 4 (dk_at dksX1_marksOf_0 16 rfl rfl)
theorem dX1_marksOf_18 : decode cX1_marksOf 18 = .ok (.iload 4, 2) := dk_21 4 (dk_at dksX1_marksOf_0 18 rfl rfl)
theorem dX1_marksOf_20 : decode cX1_marksOf 20 = .ok (.aload_n 1, 1) := dk_43 (dk_at dksX1_marksOf_0 20 rfl rfl)
theorem dX1_marksOf_21 : decode cX1_marksOf 21 = .ok (.getfield 370, 3) := dk_180 1 114 (dk_at dksX1_marksOf_0 21 rfl rfl)
theorem dX1_marksOf_24 : decode cX1_marksOf 24 = .ok (.if_icmp .ge 62, 3) := dk_162 0 62 (dk_at dksX1_marksOf_1 0 rfl rfl)
theorem dX1_marksOf_27 : decode cX1_marksOf 27 = .ok (.aload_n 2, 1) := dk_44 (dk_at dksX1_marksOf_1 3 rfl rfl)
theorem dX1_marksOf_28 : decode cX1_marksOf 28 = .ok (.aload_n 1, 1) := dk_43 (dk_at dksX1_marksOf_1 4 rfl rfl)
theorem dX1_marksOf_29 : decode cX1_marksOf 29 = .ok (.getfield 373, 3) := dk_180 1 117 (dk_at dksX1_marksOf_1 5 rfl rfl)
theorem dX1_marksOf_32 : decode cX1_marksOf 32 = .ok (.iload 4, 2) := dk_21 4 (dk_at dksX1_marksOf_1 8 rfl rfl)
theorem dX1_marksOf_34 : decode cX1_marksOf 34 = .ok (.aaload, 1) := dk_50 (dk_at dksX1_marksOf_1 10 rfl rfl)
theorem dX1_marksOf_35 : decode cX1_marksOf 35 = .ok (.invokevirtual 418, 3) := dk_182 1 162 (dk_at dksX1_marksOf_1 11 rfl rfl)
theorem dX1_marksOf_38 : decode cX1_marksOf 38 = .ok (.checkcast 422, 3) := dk_192 1 166 (dk_at dksX1_marksOf_1 14 rfl rfl)
theorem dX1_marksOf_41 : decode cX1_marksOf 41 = .ok (.astore 5, 2) := dk_58 5 (dk_at dksX1_marksOf_1 17 rfl rfl)
theorem dX1_marksOf_43 : decode cX1_marksOf 43 = .ok (.aload 5, 2) := dk_25 5 (dk_at dksX1_marksOf_1 19 rfl rfl)
theorem dX1_marksOf_45 : decode cX1_marksOf 45 = .ok (.ifnonnull 26, 3) := dk_199 0 26 (dk_at dksX1_marksOf_1 21 rfl rfl)
theorem dX1_marksOf_48 : decode cX1_marksOf 48 = .ok (.aload_n 2, 1) := dk_44 (dk_at dksX1_marksOf_2 0 rfl rfl)
theorem dX1_marksOf_49 : decode cX1_marksOf 49 = .ok (.invokevirtual 424, 3) := dk_182 1 168 (dk_at dksX1_marksOf_2 1 rfl rfl)
theorem dX1_marksOf_52 : decode cX1_marksOf 52 = .ok (.invokestatic 425, 3) := dk_184 1 169 (dk_at dksX1_marksOf_2 4 rfl rfl)
theorem dX1_marksOf_55 : decode cX1_marksOf 55 = .ok (.astore 5, 2) := dk_58 5 (dk_at dksX1_marksOf_2 7 rfl rfl)
theorem dX1_marksOf_57 : decode cX1_marksOf 57 = .ok (.aload_n 2, 1) := dk_44 (dk_at dksX1_marksOf_2 9 rfl rfl)
theorem dX1_marksOf_58 : decode cX1_marksOf 58 = .ok (.aload_n 1, 1) := dk_43 (dk_at dksX1_marksOf_2 10 rfl rfl)
theorem dX1_marksOf_59 : decode cX1_marksOf 59 = .ok (.getfield 373, 3) := dk_180 1 117 (dk_at dksX1_marksOf_2 11 rfl rfl)
theorem dX1_marksOf_62 : decode cX1_marksOf 62 = .ok (.iload 4, 2) := dk_21 4 (dk_at dksX1_marksOf_2 14 rfl rfl)
theorem dX1_marksOf_64 : decode cX1_marksOf 64 = .ok (.aaload, 1) := dk_50 (dk_at dksX1_marksOf_2 16 rfl rfl)
theorem dX1_marksOf_65 : decode cX1_marksOf 65 = .ok (.aload 5, 2) := dk_25 5 (dk_at dksX1_marksOf_2 17 rfl rfl)
theorem dX1_marksOf_67 : decode cX1_marksOf 67 = .ok (.invokevirtual 429, 3) := dk_182 1 173 (dk_at dksX1_marksOf_2 19 rfl rfl)
theorem dX1_marksOf_70 : decode cX1_marksOf 70 = .ok (.pop, 1) := dk_87 (dk_at dksX1_marksOf_2 22 rfl rfl)
theorem dX1_marksOf_71 : decode cX1_marksOf 71 = .ok (.aload_n 3, 1) := dk_45 (dk_at dksX1_marksOf_2 23 rfl rfl)
theorem dX1_marksOf_72 : decode cX1_marksOf 72 = .ok (.iload 4, 2) := dk_21 4 (dk_at dksX1_marksOf_3 0 rfl rfl)
theorem dX1_marksOf_74 : decode cX1_marksOf 74 = .ok (.aload 5, 2) := dk_25 5 (dk_at dksX1_marksOf_3 2 rfl rfl)
theorem dX1_marksOf_76 : decode cX1_marksOf 76 = .ok (.invokevirtual 433, 3) := dk_182 1 177 (dk_at dksX1_marksOf_3 4 rfl rfl)
theorem dX1_marksOf_79 : decode cX1_marksOf 79 = .ok (.iastore, 1) := dk_79 (dk_at dksX1_marksOf_3 7 rfl rfl)
theorem dX1_marksOf_80 : decode cX1_marksOf 80 = .ok (.iinc 4 1, 3) := dk_132 4 1 (dk_at dksX1_marksOf_3 8 rfl rfl)
theorem dX1_marksOf_83 : decode cX1_marksOf 83 = .ok (.goto (-65), 3) := dk_167 255 191 (dk_at dksX1_marksOf_3 11 rfl rfl)
theorem dX1_marksOf_86 : decode cX1_marksOf 86 = .ok (.aload_n 3, 1) := dk_45 (dk_at dksX1_marksOf_3 14 rfl rfl)
theorem dX1_marksOf_87 : decode cX1_marksOf 87 = .ok (.areturn, 1) := dk_176 (dk_at dksX1_marksOf_3 15 rfl rfl)
abbrev cX1_show : ByteArray := prog_1_method_61_code
def yX1_show : MethodName := ⟨RX1, "show", "(Ljava/lang/StringBuilder;)I"⟩
def dkwX1_show_0 : List UInt8 := [42, 43, 182, 1, 144, 181, 0, 31, 42, 180, 0, 31, 182, 1, 150, 172]
abbrev dktX1_show_0 : List UInt8 := dkwX1_show_0 ++ []
theorem dksX1_show_0 : cX1_show.data.toList.drop 0 = dktX1_show_0 := by decide +kernel
theorem dX1_show_0 : decode cX1_show 0 = .ok (.aload_n 0, 1) := dk_42 (dk_at dksX1_show_0 0 rfl rfl)
theorem dX1_show_1 : decode cX1_show 1 = .ok (.aload_n 1, 1) := dk_43 (dk_at dksX1_show_0 1 rfl rfl)
theorem dX1_show_2 : decode cX1_show 2 = .ok (.invokevirtual 400, 3) := dk_182 1 144 (dk_at dksX1_show_0 2 rfl rfl)
theorem dX1_show_5 : decode cX1_show 5 = .ok (.putfield 31, 3) := dk_181 0 31 (dk_at dksX1_show_0 5 rfl rfl)
theorem dX1_show_8 : decode cX1_show 8 = .ok (.aload_n 0, 1) := dk_42 (dk_at dksX1_show_0 8 rfl rfl)
theorem dX1_show_9 : decode cX1_show 9 = .ok (.getfield 31, 3) := dk_180 0 31 (dk_at dksX1_show_0 9 rfl rfl)
theorem dX1_show_12 : decode cX1_show 12 = .ok (.invokevirtual 406, 3) := dk_182 1 150 (dk_at dksX1_show_0 12 rfl rfl)
theorem dX1_show_15 : decode cX1_show 15 = .ok (.ireturn, 1) := dk_172 (dk_at dksX1_show_0 15 rfl rfl)
abbrev cX1_isSame : ByteArray := prog_1_method_63_code
def yX1_isSame : MethodName := ⟨RX1, "isSame", "([IIII)Z"⟩
def dkwX1_isSame_1 : List UInt8 := [159, 0, 5, 3, 172, 132, 5, 1, 167, 255, 229, 4, 172]
abbrev dktX1_isSame_1 : List UInt8 := dkwX1_isSame_1 ++ []
def dkwX1_isSame_0 : List UInt8 := [3, 54, 5, 21, 5, 21, 4, 162, 0, 26, 43, 28, 21, 5, 96, 46, 43, 29, 21, 5, 96, 46]
abbrev dktX1_isSame_0 : List UInt8 := dkwX1_isSame_0 ++ dktX1_isSame_1
theorem dksX1_isSame_0 : cX1_isSame.data.toList.drop 0 = dktX1_isSame_0 := by decide +kernel
theorem dksX1_isSame_1 : cX1_isSame.data.toList.drop 22 = dktX1_isSame_1 := dk_seg dksX1_isSame_0 22 rfl rfl
theorem dX1_isSame_0 : decode cX1_isSame 0 = .ok (.iconst 0, 1) := dk_3 (dk_at dksX1_isSame_0 0 rfl rfl)
theorem dX1_isSame_1 : decode cX1_isSame 1 = .ok (.istore 5, 2) := dk_54 5 (dk_at dksX1_isSame_0 1 rfl rfl)
theorem dX1_isSame_3 : decode cX1_isSame 3 = .ok (.iload 5, 2) := dk_21 5 (dk_at dksX1_isSame_0 3 rfl rfl)
theorem dX1_isSame_5 : decode cX1_isSame 5 = .ok (.iload 4, 2) := dk_21 4 (dk_at dksX1_isSame_0 5 rfl rfl)
theorem dX1_isSame_7 : decode cX1_isSame 7 = .ok (.if_icmp .ge 26, 3) := dk_162 0 26 (dk_at dksX1_isSame_0 7 rfl rfl)
theorem dX1_isSame_10 : decode cX1_isSame 10 = .ok (.aload_n 1, 1) := dk_43 (dk_at dksX1_isSame_0 10 rfl rfl)
theorem dX1_isSame_11 : decode cX1_isSame 11 = .ok (.iload_n 2, 1) := dk_28 (dk_at dksX1_isSame_0 11 rfl rfl)
theorem dX1_isSame_12 : decode cX1_isSame 12 = .ok (.iload 5, 2) := dk_21 5 (dk_at dksX1_isSame_0 12 rfl rfl)
theorem dX1_isSame_14 : decode cX1_isSame 14 = .ok (.iadd, 1) := dk_96 (dk_at dksX1_isSame_0 14 rfl rfl)
theorem dX1_isSame_15 : decode cX1_isSame 15 = .ok (.iaload, 1) := dk_46 (dk_at dksX1_isSame_0 15 rfl rfl)
theorem dX1_isSame_16 : decode cX1_isSame 16 = .ok (.aload_n 1, 1) := dk_43 (dk_at dksX1_isSame_0 16 rfl rfl)
theorem dX1_isSame_17 : decode cX1_isSame 17 = .ok (.iload_n 3, 1) := dk_29 (dk_at dksX1_isSame_0 17 rfl rfl)
theorem dX1_isSame_18 : decode cX1_isSame 18 = .ok (.iload 5, 2) := dk_21 5 (dk_at dksX1_isSame_0 18 rfl rfl)
theorem dX1_isSame_20 : decode cX1_isSame 20 = .ok (.iadd, 1) := dk_96 (dk_at dksX1_isSame_0 20 rfl rfl)
theorem dX1_isSame_21 : decode cX1_isSame 21 = .ok (.iaload, 1) := dk_46 (dk_at dksX1_isSame_0 21 rfl rfl)
theorem dX1_isSame_22 : decode cX1_isSame 22 = .ok (.if_icmp .eq 5, 3) := dk_159 0 5 (dk_at dksX1_isSame_1 0 rfl rfl)
theorem dX1_isSame_25 : decode cX1_isSame 25 = .ok (.iconst 0, 1) := dk_3 (dk_at dksX1_isSame_1 3 rfl rfl)
theorem dX1_isSame_26 : decode cX1_isSame 26 = .ok (.ireturn, 1) := dk_172 (dk_at dksX1_isSame_1 4 rfl rfl)
theorem dX1_isSame_27 : decode cX1_isSame 27 = .ok (.iinc 5 1, 3) := dk_132 5 1 (dk_at dksX1_isSame_1 5 rfl rfl)
theorem dX1_isSame_30 : decode cX1_isSame 30 = .ok (.goto (-27), 3) := dk_167 255 229 (dk_at dksX1_isSame_1 8 rfl rfl)
theorem dX1_isSame_33 : decode cX1_isSame 33 = .ok (.iconst 1, 1) := dk_4 (dk_at dksX1_isSame_1 11 rfl rfl)
theorem dX1_isSame_34 : decode cX1_isSame 34 = .ok (.ireturn, 1) := dk_172 (dk_at dksX1_isSame_1 12 rfl rfl)
abbrev cX1_timesAt : ByteArray := prog_1_method_62_code
def yX1_timesAt : MethodName := ⟨RX1, "timesAt", "([IIII)I"⟩
def dkwX1_timesAt_2 : List UInt8 := [21, 5, 172]
abbrev dktX1_timesAt_2 : List UInt8 := dkwX1_timesAt_2 ++ []
def dkwX1_timesAt_1 : List UInt8 := [43, 29, 29, 21, 5, 21, 4, 104, 96, 21, 4, 182, 1, 155, 153, 0, 9, 132, 5, 1, 167, 255, 215]
abbrev dktX1_timesAt_1 : List UInt8 := dkwX1_timesAt_1 ++ dktX1_timesAt_2
def dkwX1_timesAt_0 : List UInt8 := [4, 54, 5, 21, 5, 16, 9, 162, 0, 40, 29, 21, 5, 4, 96, 21, 4, 104, 96, 28, 163, 0, 27, 42]
abbrev dktX1_timesAt_0 : List UInt8 := dkwX1_timesAt_0 ++ dktX1_timesAt_1
theorem dksX1_timesAt_0 : cX1_timesAt.data.toList.drop 0 = dktX1_timesAt_0 := by decide +kernel
theorem dksX1_timesAt_1 : cX1_timesAt.data.toList.drop 24 = dktX1_timesAt_1 := dk_seg dksX1_timesAt_0 24 rfl rfl
theorem dksX1_timesAt_2 : cX1_timesAt.data.toList.drop 47 = dktX1_timesAt_2 := dk_seg dksX1_timesAt_1 23 rfl rfl
theorem dX1_timesAt_0 : decode cX1_timesAt 0 = .ok (.iconst 1, 1) := dk_4 (dk_at dksX1_timesAt_0 0 rfl rfl)
theorem dX1_timesAt_1 : decode cX1_timesAt 1 = .ok (.istore 5, 2) := dk_54 5 (dk_at dksX1_timesAt_0 1 rfl rfl)
theorem dX1_timesAt_3 : decode cX1_timesAt 3 = .ok (.iload 5, 2) := dk_21 5 (dk_at dksX1_timesAt_0 3 rfl rfl)
theorem dX1_timesAt_5 : decode cX1_timesAt 5 = .ok (.bipush 9, 2) := dk_16 9 (dk_at dksX1_timesAt_0 5 rfl rfl)
theorem dX1_timesAt_7 : decode cX1_timesAt 7 = .ok (.if_icmp .ge 40, 3) := dk_162 0 40 (dk_at dksX1_timesAt_0 7 rfl rfl)
theorem dX1_timesAt_10 : decode cX1_timesAt 10 = .ok (.iload_n 3, 1) := dk_29 (dk_at dksX1_timesAt_0 10 rfl rfl)
theorem dX1_timesAt_11 : decode cX1_timesAt 11 = .ok (.iload 5, 2) := dk_21 5 (dk_at dksX1_timesAt_0 11 rfl rfl)
theorem dX1_timesAt_13 : decode cX1_timesAt 13 = .ok (.iconst 1, 1) := dk_4 (dk_at dksX1_timesAt_0 13 rfl rfl)
theorem dX1_timesAt_14 : decode cX1_timesAt 14 = .ok (.iadd, 1) := dk_96 (dk_at dksX1_timesAt_0 14 rfl rfl)
theorem dX1_timesAt_15 : decode cX1_timesAt 15 = .ok (.iload 4, 2) := dk_21 4 (dk_at dksX1_timesAt_0 15 rfl rfl)
theorem dX1_timesAt_17 : decode cX1_timesAt 17 = .ok (.imul, 1) := dk_104 (dk_at dksX1_timesAt_0 17 rfl rfl)
theorem dX1_timesAt_18 : decode cX1_timesAt 18 = .ok (.iadd, 1) := dk_96 (dk_at dksX1_timesAt_0 18 rfl rfl)
theorem dX1_timesAt_19 : decode cX1_timesAt 19 = .ok (.iload_n 2, 1) := dk_28 (dk_at dksX1_timesAt_0 19 rfl rfl)
theorem dX1_timesAt_20 : decode cX1_timesAt 20 = .ok (.if_icmp .gt 27, 3) := dk_163 0 27 (dk_at dksX1_timesAt_0 20 rfl rfl)
theorem dX1_timesAt_23 : decode cX1_timesAt 23 = .ok (.aload_n 0, 1) := dk_42 (dk_at dksX1_timesAt_0 23 rfl rfl)
theorem dX1_timesAt_24 : decode cX1_timesAt 24 = .ok (.aload_n 1, 1) := dk_43 (dk_at dksX1_timesAt_1 0 rfl rfl)
theorem dX1_timesAt_25 : decode cX1_timesAt 25 = .ok (.iload_n 3, 1) := dk_29 (dk_at dksX1_timesAt_1 1 rfl rfl)
theorem dX1_timesAt_26 : decode cX1_timesAt 26 = .ok (.iload_n 3, 1) := dk_29 (dk_at dksX1_timesAt_1 2 rfl rfl)
theorem dX1_timesAt_27 : decode cX1_timesAt 27 = .ok (.iload 5, 2) := dk_21 5 (dk_at dksX1_timesAt_1 3 rfl rfl)
theorem dX1_timesAt_29 : decode cX1_timesAt 29 = .ok (.iload 4, 2) := dk_21 4 (dk_at dksX1_timesAt_1 5 rfl rfl)
theorem dX1_timesAt_31 : decode cX1_timesAt 31 = .ok (.imul, 1) := dk_104 (dk_at dksX1_timesAt_1 7 rfl rfl)
theorem dX1_timesAt_32 : decode cX1_timesAt 32 = .ok (.iadd, 1) := dk_96 (dk_at dksX1_timesAt_1 8 rfl rfl)
theorem dX1_timesAt_33 : decode cX1_timesAt 33 = .ok (.iload 4, 2) := dk_21 4 (dk_at dksX1_timesAt_1 9 rfl rfl)
theorem dX1_timesAt_35 : decode cX1_timesAt 35 = .ok (.invokevirtual 411, 3) := dk_182 1 155 (dk_at dksX1_timesAt_1 11 rfl rfl)
theorem dX1_timesAt_38 : decode cX1_timesAt 38 = .ok (.ifCond .eq 9, 3) := dk_153 0 9 (dk_at dksX1_timesAt_1 14 rfl rfl)
theorem dX1_timesAt_41 : decode cX1_timesAt 41 = .ok (.iinc 5 1, 3) := dk_132 5 1 (dk_at dksX1_timesAt_1 17 rfl rfl)
theorem dX1_timesAt_44 : decode cX1_timesAt 44 = .ok (.goto (-41), 3) := dk_167 255 215 (dk_at dksX1_timesAt_1 20 rfl rfl)
theorem dX1_timesAt_47 : decode cX1_timesAt 47 = .ok (.iload 5, 2) := dk_21 5 (dk_at dksX1_timesAt_2 0 rfl rfl)
theorem dX1_timesAt_49 : decode cX1_timesAt 49 = .ok (.ireturn, 1) := dk_172 (dk_at dksX1_timesAt_2 2 rfl rfl)
abbrev cX1_writeRoute : ByteArray := prog_1_method_65_code
def yX1_writeRoute : MethodName := ⟨RX1, "writeRoute", "(I)I"⟩
def dkwX1_writeRoute_8 : List UInt8 := [54, 6, 167, 255, 104, 42, 45, 182, 1, 200, 172]
abbrev dktX1_writeRoute_8 : List UInt8 := dkwX1_writeRoute_8 ++ []
def dkwX1_writeRoute_7 : List UInt8 := [167, 255, 232, 21, 8, 4, 164, 0, 10, 45, 16, 41, 182, 1, 193, 87, 21, 6, 21, 8, 21, 7, 104, 96]
abbrev dktX1_writeRoute_7 : List UInt8 := dkwX1_writeRoute_7 ++ dktX1_writeRoute_8
def dkwX1_writeRoute_6 : List UInt8 := [21, 9, 21, 7, 162, 0, 23, 44, 180, 1, 117, 21, 6, 21, 9, 96, 50, 45, 182, 1, 196, 132, 9, 1]
abbrev dktX1_writeRoute_6 : List UInt8 := dkwX1_writeRoute_6 ++ dktX1_writeRoute_7
def dkwX1_writeRoute_5 : List UInt8 := [167, 255, 194, 21, 8, 4, 164, 0, 15, 45, 21, 8, 182, 1, 189, 16, 40, 182, 1, 193, 87, 3, 54, 9]
abbrev dktX1_writeRoute_5 : List UInt8 := dkwX1_writeRoute_5 ++ dktX1_writeRoute_6
def dkwX1_writeRoute_4 : List UInt8 := [21, 10, 21, 9, 104, 21, 8, 21, 7, 104, 164, 0, 11, 21, 9, 54, 7, 21, 10, 54, 8, 132, 9, 1]
abbrev dktX1_writeRoute_4 : List UInt8 := dkwX1_writeRoute_4 ++ dktX1_writeRoute_5
def dkwX1_writeRoute_3 : List UInt8 := [21, 5, 21, 6, 21, 9, 182, 1, 185, 54, 10, 21, 10, 4, 164, 0, 30, 21, 8, 4, 159, 0, 16]
abbrev dktX1_writeRoute_3 : List UInt8 := dkwX1_writeRoute_3 ++ dktX1_writeRoute_4
def dkwX1_writeRoute_2 : List UInt8 := [54, 7, 4, 54, 8, 4, 54, 9, 21, 6, 5, 21, 9, 104, 96, 21, 5, 163, 0, 56, 42, 25, 4]
abbrev dktX1_writeRoute_2 : List UInt8 := dkwX1_writeRoute_2 ++ dktX1_writeRoute_3
def dkwX1_writeRoute_1 : List UInt8 := [42, 44, 182, 1, 181, 58, 4, 25, 4, 190, 54, 5, 3, 54, 6, 21, 6, 21, 5, 162, 0, 151, 4]
abbrev dktX1_writeRoute_1 : List UInt8 := dkwX1_writeRoute_1 ++ dktX1_writeRoute_2
def dkwX1_writeRoute_0 : List UInt8 := [42, 27, 182, 1, 32, 77, 187, 1, 145, 89, 183, 1, 180, 78, 44, 199, 0, 9, 3, 188, 10, 167, 0, 8]
abbrev dktX1_writeRoute_0 : List UInt8 := dkwX1_writeRoute_0 ++ dktX1_writeRoute_1
theorem dksX1_writeRoute_0 : cX1_writeRoute.data.toList.drop 0 = dktX1_writeRoute_0 := by decide +kernel
theorem dksX1_writeRoute_1 : cX1_writeRoute.data.toList.drop 24 = dktX1_writeRoute_1 := dk_seg dksX1_writeRoute_0 24 rfl rfl
theorem dksX1_writeRoute_2 : cX1_writeRoute.data.toList.drop 47 = dktX1_writeRoute_2 := dk_seg dksX1_writeRoute_1 23 rfl rfl
theorem dksX1_writeRoute_3 : cX1_writeRoute.data.toList.drop 70 = dktX1_writeRoute_3 := dk_seg dksX1_writeRoute_2 23 rfl rfl
theorem dksX1_writeRoute_4 : cX1_writeRoute.data.toList.drop 93 = dktX1_writeRoute_4 := dk_seg dksX1_writeRoute_3 23 rfl rfl
theorem dksX1_writeRoute_5 : cX1_writeRoute.data.toList.drop 117 = dktX1_writeRoute_5 := dk_seg dksX1_writeRoute_4 24 rfl rfl
theorem dksX1_writeRoute_6 : cX1_writeRoute.data.toList.drop 141 = dktX1_writeRoute_6 := dk_seg dksX1_writeRoute_5 24 rfl rfl
theorem dksX1_writeRoute_7 : cX1_writeRoute.data.toList.drop 165 = dktX1_writeRoute_7 := dk_seg dksX1_writeRoute_6 24 rfl rfl
theorem dksX1_writeRoute_8 : cX1_writeRoute.data.toList.drop 189 = dktX1_writeRoute_8 := dk_seg dksX1_writeRoute_7 24 rfl rfl
theorem dX1_writeRoute_0 : decode cX1_writeRoute 0 = .ok (.aload_n 0, 1) := dk_42 (dk_at dksX1_writeRoute_0 0 rfl rfl)
theorem dX1_writeRoute_1 : decode cX1_writeRoute 1 = .ok (.iload_n 1, 1) := dk_27 (dk_at dksX1_writeRoute_0 1 rfl rfl)
theorem dX1_writeRoute_2 : decode cX1_writeRoute 2 = .ok (.invokevirtual 288, 3) := dk_182 1 32 (dk_at dksX1_writeRoute_0 2 rfl rfl)
theorem dX1_writeRoute_5 : decode cX1_writeRoute 5 = .ok (.astore_n 2, 1) := dk_77 (dk_at dksX1_writeRoute_0 5 rfl rfl)
theorem dX1_writeRoute_6 : decode cX1_writeRoute 6 = .ok (.new 401, 3) := dk_187 1 145 (dk_at dksX1_writeRoute_0 6 rfl rfl)
theorem dX1_writeRoute_9 : decode cX1_writeRoute 9 = .ok (.dup, 1) := dk_89 (dk_at dksX1_writeRoute_0 9 rfl rfl)
theorem dX1_writeRoute_10 : decode cX1_writeRoute 10 = .ok (.invokespecial 436, 3) := dk_183 1 180 (dk_at dksX1_writeRoute_0 10 rfl rfl)
theorem dX1_writeRoute_13 : decode cX1_writeRoute 13 = .ok (.astore_n 3, 1) := dk_78 (dk_at dksX1_writeRoute_0 13 rfl rfl)
theorem dX1_writeRoute_14 : decode cX1_writeRoute 14 = .ok (.aload_n 2, 1) := dk_44 (dk_at dksX1_writeRoute_0 14 rfl rfl)
theorem dX1_writeRoute_15 : decode cX1_writeRoute 15 = .ok (.ifnonnull 9, 3) := dk_199 0 9 (dk_at dksX1_writeRoute_0 15 rfl rfl)
theorem dX1_writeRoute_18 : decode cX1_writeRoute 18 = .ok (.iconst 0, 1) := dk_3 (dk_at dksX1_writeRoute_0 18 rfl rfl)
theorem dX1_writeRoute_19 : decode cX1_writeRoute 19 = .ok (.newarray .int, 2) := dk_188_10 (dk_at dksX1_writeRoute_0 19 rfl rfl)
theorem dX1_writeRoute_21 : decode cX1_writeRoute 21 = .ok (.goto 8, 3) := dk_167 0 8 (dk_at dksX1_writeRoute_0 21 rfl rfl)
theorem dX1_writeRoute_24 : decode cX1_writeRoute 24 = .ok (.aload_n 0, 1) := dk_42 (dk_at dksX1_writeRoute_1 0 rfl rfl)
theorem dX1_writeRoute_25 : decode cX1_writeRoute 25 = .ok (.aload_n 2, 1) := dk_44 (dk_at dksX1_writeRoute_1 1 rfl rfl)
theorem dX1_writeRoute_26 : decode cX1_writeRoute 26 = .ok (.invokevirtual 437, 3) := dk_182 1 181 (dk_at dksX1_writeRoute_1 2 rfl rfl)
theorem dX1_writeRoute_29 : decode cX1_writeRoute 29 = .ok (.astore 4, 2) := dk_58 4 (dk_at dksX1_writeRoute_1 5 rfl rfl)
theorem dX1_writeRoute_31 : decode cX1_writeRoute 31 = .ok (.aload 4, 2) := dk_25 4 (dk_at dksX1_writeRoute_1 7 rfl rfl)
theorem dX1_writeRoute_33 : decode cX1_writeRoute 33 = .ok (.arraylength, 1) := dk_190 (dk_at dksX1_writeRoute_1 9 rfl rfl)
theorem dX1_writeRoute_34 : decode cX1_writeRoute 34 = .ok (.istore 5, 2) := dk_54 5 (dk_at dksX1_writeRoute_1 10 rfl rfl)
theorem dX1_writeRoute_36 : decode cX1_writeRoute 36 = .ok (.iconst 0, 1) := dk_3 (dk_at dksX1_writeRoute_1 12 rfl rfl)
theorem dX1_writeRoute_37 : decode cX1_writeRoute 37 = .ok (.istore 6, 2) := dk_54 6 (dk_at dksX1_writeRoute_1 13 rfl rfl)
theorem dX1_writeRoute_39 : decode cX1_writeRoute 39 = .ok (.iload 6, 2) := dk_21 6 (dk_at dksX1_writeRoute_1 15 rfl rfl)
theorem dX1_writeRoute_41 : decode cX1_writeRoute 41 = .ok (.iload 5, 2) := dk_21 5 (dk_at dksX1_writeRoute_1 17 rfl rfl)
theorem dX1_writeRoute_43 : decode cX1_writeRoute 43 = .ok (.if_icmp .ge 151, 3) := dk_162 0 151 (dk_at dksX1_writeRoute_1 19 rfl rfl)
theorem dX1_writeRoute_46 : decode cX1_writeRoute 46 = .ok (.iconst 1, 1) := dk_4 (dk_at dksX1_writeRoute_1 22 rfl rfl)
theorem dX1_writeRoute_47 : decode cX1_writeRoute 47 = .ok (.istore 7, 2) := dk_54 7 (dk_at dksX1_writeRoute_2 0 rfl rfl)
theorem dX1_writeRoute_49 : decode cX1_writeRoute 49 = .ok (.iconst 1, 1) := dk_4 (dk_at dksX1_writeRoute_2 2 rfl rfl)
theorem dX1_writeRoute_50 : decode cX1_writeRoute 50 = .ok (.istore 8, 2) := dk_54 8 (dk_at dksX1_writeRoute_2 3 rfl rfl)
theorem dX1_writeRoute_52 : decode cX1_writeRoute 52 = .ok (.iconst 1, 1) := dk_4 (dk_at dksX1_writeRoute_2 5 rfl rfl)
theorem dX1_writeRoute_53 : decode cX1_writeRoute 53 = .ok (.istore 9, 2) := dk_54 9 (dk_at dksX1_writeRoute_2 6 rfl rfl)
theorem dX1_writeRoute_55 : decode cX1_writeRoute 55 = .ok (.iload 6, 2) := dk_21 6 (dk_at dksX1_writeRoute_2 8 rfl rfl)
theorem dX1_writeRoute_57 : decode cX1_writeRoute 57 = .ok (.iconst 2, 1) := dk_5 (dk_at dksX1_writeRoute_2 10 rfl rfl)
theorem dX1_writeRoute_58 : decode cX1_writeRoute 58 = .ok (.iload 9, 2) := dk_21 9 (dk_at dksX1_writeRoute_2 11 rfl rfl)
theorem dX1_writeRoute_60 : decode cX1_writeRoute 60 = .ok (.imul, 1) := dk_104 (dk_at dksX1_writeRoute_2 13 rfl rfl)
theorem dX1_writeRoute_61 : decode cX1_writeRoute 61 = .ok (.iadd, 1) := dk_96 (dk_at dksX1_writeRoute_2 14 rfl rfl)
theorem dX1_writeRoute_62 : decode cX1_writeRoute 62 = .ok (.iload 5, 2) := dk_21 5 (dk_at dksX1_writeRoute_2 15 rfl rfl)
theorem dX1_writeRoute_64 : decode cX1_writeRoute 64 = .ok (.if_icmp .gt 56, 3) := dk_163 0 56 (dk_at dksX1_writeRoute_2 17 rfl rfl)
theorem dX1_writeRoute_67 : decode cX1_writeRoute 67 = .ok (.aload_n 0, 1) := dk_42 (dk_at dksX1_writeRoute_2 20 rfl rfl)
theorem dX1_writeRoute_68 : decode cX1_writeRoute 68 = .ok (.aload 4, 2) := dk_25 4 (dk_at dksX1_writeRoute_2 21 rfl rfl)
theorem dX1_writeRoute_70 : decode cX1_writeRoute 70 = .ok (.iload 5, 2) := dk_21 5 (dk_at dksX1_writeRoute_3 0 rfl rfl)
theorem dX1_writeRoute_72 : decode cX1_writeRoute 72 = .ok (.iload 6, 2) := dk_21 6 (dk_at dksX1_writeRoute_3 2 rfl rfl)
theorem dX1_writeRoute_74 : decode cX1_writeRoute 74 = .ok (.iload 9, 2) := dk_21 9 (dk_at dksX1_writeRoute_3 4 rfl rfl)
theorem dX1_writeRoute_76 : decode cX1_writeRoute 76 = .ok (.invokevirtual 441, 3) := dk_182 1 185 (dk_at dksX1_writeRoute_3 6 rfl rfl)
theorem dX1_writeRoute_79 : decode cX1_writeRoute 79 = .ok (.istore 10, 2) := dk_54 10 (dk_at dksX1_writeRoute_3 9 rfl rfl)
theorem dX1_writeRoute_81 : decode cX1_writeRoute 81 = .ok (.iload 10, 2) := dk_21 10 (dk_at dksX1_writeRoute_3 11 rfl rfl)
theorem dX1_writeRoute_83 : decode cX1_writeRoute 83 = .ok (.iconst 1, 1) := dk_4 (dk_at dksX1_writeRoute_3 13 rfl rfl)
theorem dX1_writeRoute_84 : decode cX1_writeRoute 84 = .ok (.if_icmp .le 30, 3) := dk_164 0 30 (dk_at dksX1_writeRoute_3 14 rfl rfl)
theorem dX1_writeRoute_87 : decode cX1_writeRoute 87 = .ok (.iload 8, 2) := dk_21 8 (dk_at dksX1_writeRoute_3 17 rfl rfl)
theorem dX1_writeRoute_89 : decode cX1_writeRoute 89 = .ok (.iconst 1, 1) := dk_4 (dk_at dksX1_writeRoute_3 19 rfl rfl)
theorem dX1_writeRoute_90 : decode cX1_writeRoute 90 = .ok (.if_icmp .eq 16, 3) := dk_159 0 16 (dk_at dksX1_writeRoute_3 20 rfl rfl)
theorem dX1_writeRoute_93 : decode cX1_writeRoute 93 = .ok (.iload 10, 2) := dk_21 10 (dk_at dksX1_writeRoute_4 0 rfl rfl)
theorem dX1_writeRoute_95 : decode cX1_writeRoute 95 = .ok (.iload 9, 2) := dk_21 9 (dk_at dksX1_writeRoute_4 2 rfl rfl)
theorem dX1_writeRoute_97 : decode cX1_writeRoute 97 = .ok (.imul, 1) := dk_104 (dk_at dksX1_writeRoute_4 4 rfl rfl)
theorem dX1_writeRoute_98 : decode cX1_writeRoute 98 = .ok (.iload 8, 2) := dk_21 8 (dk_at dksX1_writeRoute_4 5 rfl rfl)
theorem dX1_writeRoute_100 : decode cX1_writeRoute 100 = .ok (.iload 7, 2) := dk_21 7 (dk_at dksX1_writeRoute_4 7 rfl rfl)
theorem dX1_writeRoute_102 : decode cX1_writeRoute 102 = .ok (.imul, 1) := dk_104 (dk_at dksX1_writeRoute_4 9 rfl rfl)
theorem dX1_writeRoute_103 : decode cX1_writeRoute 103 = .ok (.if_icmp .le 11, 3) := dk_164 0 11 (dk_at dksX1_writeRoute_4 10 rfl rfl)
theorem dX1_writeRoute_106 : decode cX1_writeRoute 106 = .ok (.iload 9, 2) := dk_21 9 (dk_at dksX1_writeRoute_4 13 rfl rfl)
theorem dX1_writeRoute_108 : decode cX1_writeRoute 108 = .ok (.istore 7, 2) := dk_54 7 (dk_at dksX1_writeRoute_4 15 rfl rfl)
theorem dX1_writeRoute_110 : decode cX1_writeRoute 110 = .ok (.iload 10, 2) := dk_21 10 (dk_at dksX1_writeRoute_4 17 rfl rfl)
theorem dX1_writeRoute_112 : decode cX1_writeRoute 112 = .ok (.istore 8, 2) := dk_54 8 (dk_at dksX1_writeRoute_4 19 rfl rfl)
theorem dX1_writeRoute_114 : decode cX1_writeRoute 114 = .ok (.iinc 9 1, 3) := dk_132 9 1 (dk_at dksX1_writeRoute_4 21 rfl rfl)
theorem dX1_writeRoute_117 : decode cX1_writeRoute 117 = .ok (.goto (-62), 3) := dk_167 255 194 (dk_at dksX1_writeRoute_5 0 rfl rfl)
theorem dX1_writeRoute_120 : decode cX1_writeRoute 120 = .ok (.iload 8, 2) := dk_21 8 (dk_at dksX1_writeRoute_5 3 rfl rfl)
theorem dX1_writeRoute_122 : decode cX1_writeRoute 122 = .ok (.iconst 1, 1) := dk_4 (dk_at dksX1_writeRoute_5 5 rfl rfl)
theorem dX1_writeRoute_123 : decode cX1_writeRoute 123 = .ok (.if_icmp .le 15, 3) := dk_164 0 15 (dk_at dksX1_writeRoute_5 6 rfl rfl)
theorem dX1_writeRoute_126 : decode cX1_writeRoute 126 = .ok (.aload_n 3, 1) := dk_45 (dk_at dksX1_writeRoute_5 9 rfl rfl)
theorem dX1_writeRoute_127 : decode cX1_writeRoute 127 = .ok (.iload 8, 2) := dk_21 8 (dk_at dksX1_writeRoute_5 10 rfl rfl)
theorem dX1_writeRoute_129 : decode cX1_writeRoute 129 = .ok (.invokevirtual 445, 3) := dk_182 1 189 (dk_at dksX1_writeRoute_5 12 rfl rfl)
theorem dX1_writeRoute_132 : decode cX1_writeRoute 132 = .ok (.bipush 40, 2) := dk_16 40 (dk_at dksX1_writeRoute_5 15 rfl rfl)
theorem dX1_writeRoute_134 : decode cX1_writeRoute 134 = .ok (.invokevirtual 449, 3) := dk_182 1 193 (dk_at dksX1_writeRoute_5 17 rfl rfl)
theorem dX1_writeRoute_137 : decode cX1_writeRoute 137 = .ok (.pop, 1) := dk_87 (dk_at dksX1_writeRoute_5 20 rfl rfl)
theorem dX1_writeRoute_138 : decode cX1_writeRoute 138 = .ok (.iconst 0, 1) := dk_3 (dk_at dksX1_writeRoute_5 21 rfl rfl)
theorem dX1_writeRoute_139 : decode cX1_writeRoute 139 = .ok (.istore 9, 2) := dk_54 9 (dk_at dksX1_writeRoute_5 22 rfl rfl)
theorem dX1_writeRoute_141 : decode cX1_writeRoute 141 = .ok (.iload 9, 2) := dk_21 9 (dk_at dksX1_writeRoute_6 0 rfl rfl)
theorem dX1_writeRoute_143 : decode cX1_writeRoute 143 = .ok (.iload 7, 2) := dk_21 7 (dk_at dksX1_writeRoute_6 2 rfl rfl)
theorem dX1_writeRoute_145 : decode cX1_writeRoute 145 = .ok (.if_icmp .ge 23, 3) := dk_162 0 23 (dk_at dksX1_writeRoute_6 4 rfl rfl)
theorem dX1_writeRoute_148 : decode cX1_writeRoute 148 = .ok (.aload_n 2, 1) := dk_44 (dk_at dksX1_writeRoute_6 7 rfl rfl)
theorem dX1_writeRoute_149 : decode cX1_writeRoute 149 = .ok (.getfield 373, 3) := dk_180 1 117 (dk_at dksX1_writeRoute_6 8 rfl rfl)
theorem dX1_writeRoute_152 : decode cX1_writeRoute 152 = .ok (.iload 6, 2) := dk_21 6 (dk_at dksX1_writeRoute_6 11 rfl rfl)
theorem dX1_writeRoute_154 : decode cX1_writeRoute 154 = .ok (.iload 9, 2) := dk_21 9 (dk_at dksX1_writeRoute_6 13 rfl rfl)
theorem dX1_writeRoute_156 : decode cX1_writeRoute 156 = .ok (.iadd, 1) := dk_96 (dk_at dksX1_writeRoute_6 15 rfl rfl)
theorem dX1_writeRoute_157 : decode cX1_writeRoute 157 = .ok (.aaload, 1) := dk_50 (dk_at dksX1_writeRoute_6 16 rfl rfl)
theorem dX1_writeRoute_158 : decode cX1_writeRoute 158 = .ok (.aload_n 3, 1) := dk_45 (dk_at dksX1_writeRoute_6 17 rfl rfl)
theorem dX1_writeRoute_159 : decode cX1_writeRoute 159 = .ok (.invokevirtual 452, 3) := dk_182 1 196 (dk_at dksX1_writeRoute_6 18 rfl rfl)
theorem dX1_writeRoute_162 : decode cX1_writeRoute 162 = .ok (.iinc 9 1, 3) := dk_132 9 1 (dk_at dksX1_writeRoute_6 21 rfl rfl)
theorem dX1_writeRoute_165 : decode cX1_writeRoute 165 = .ok (.goto (-24), 3) := dk_167 255 232 (dk_at dksX1_writeRoute_7 0 rfl rfl)
theorem dX1_writeRoute_168 : decode cX1_writeRoute 168 = .ok (.iload 8, 2) := dk_21 8 (dk_at dksX1_writeRoute_7 3 rfl rfl)
theorem dX1_writeRoute_170 : decode cX1_writeRoute 170 = .ok (.iconst 1, 1) := dk_4 (dk_at dksX1_writeRoute_7 5 rfl rfl)
theorem dX1_writeRoute_171 : decode cX1_writeRoute 171 = .ok (.if_icmp .le 10, 3) := dk_164 0 10 (dk_at dksX1_writeRoute_7 6 rfl rfl)
theorem dX1_writeRoute_174 : decode cX1_writeRoute 174 = .ok (.aload_n 3, 1) := dk_45 (dk_at dksX1_writeRoute_7 9 rfl rfl)
theorem dX1_writeRoute_175 : decode cX1_writeRoute 175 = .ok (.bipush 41, 2) := dk_16 41 (dk_at dksX1_writeRoute_7 10 rfl rfl)
theorem dX1_writeRoute_177 : decode cX1_writeRoute 177 = .ok (.invokevirtual 449, 3) := dk_182 1 193 (dk_at dksX1_writeRoute_7 12 rfl rfl)
theorem dX1_writeRoute_180 : decode cX1_writeRoute 180 = .ok (.pop, 1) := dk_87 (dk_at dksX1_writeRoute_7 15 rfl rfl)
theorem dX1_writeRoute_181 : decode cX1_writeRoute 181 = .ok (.iload 6, 2) := dk_21 6 (dk_at dksX1_writeRoute_7 16 rfl rfl)
theorem dX1_writeRoute_183 : decode cX1_writeRoute 183 = .ok (.iload 8, 2) := dk_21 8 (dk_at dksX1_writeRoute_7 18 rfl rfl)
theorem dX1_writeRoute_185 : decode cX1_writeRoute 185 = .ok (.iload 7, 2) := dk_21 7 (dk_at dksX1_writeRoute_7 20 rfl rfl)
theorem dX1_writeRoute_187 : decode cX1_writeRoute 187 = .ok (.imul, 1) := dk_104 (dk_at dksX1_writeRoute_7 22 rfl rfl)
theorem dX1_writeRoute_188 : decode cX1_writeRoute 188 = .ok (.iadd, 1) := dk_96 (dk_at dksX1_writeRoute_7 23 rfl rfl)
theorem dX1_writeRoute_189 : decode cX1_writeRoute 189 = .ok (.istore 6, 2) := dk_54 6 (dk_at dksX1_writeRoute_8 0 rfl rfl)
theorem dX1_writeRoute_191 : decode cX1_writeRoute 191 = .ok (.goto (-152), 3) := dk_167 255 104 (dk_at dksX1_writeRoute_8 2 rfl rfl)
theorem dX1_writeRoute_194 : decode cX1_writeRoute 194 = .ok (.aload_n 0, 1) := dk_42 (dk_at dksX1_writeRoute_8 5 rfl rfl)
theorem dX1_writeRoute_195 : decode cX1_writeRoute 195 = .ok (.aload_n 3, 1) := dk_45 (dk_at dksX1_writeRoute_8 6 rfl rfl)
theorem dX1_writeRoute_196 : decode cX1_writeRoute 196 = .ok (.invokevirtual 456, 3) := dk_182 1 200 (dk_at dksX1_writeRoute_8 7 rfl rfl)
theorem dX1_writeRoute_199 : decode cX1_writeRoute 199 = .ok (.ireturn, 1) := dk_172 (dk_at dksX1_writeRoute_8 10 rfl rfl)
abbrev cX1_writeRow : ByteArray := prog_1_method_66_code
def yX1_writeRow : MethodName := ⟨RX1, "writeRow", "(I)I"⟩
def dkwX1_writeRow_5 : List UInt8 := [182, 1, 206, 182, 1, 193, 87, 132, 3, 1, 167, 255, 153, 42, 44, 182, 1, 200, 172]
abbrev dktX1_writeRow_5 : List UInt8 := dkwX1_writeRow_5 ++ []
def dkwX1_writeRow_4 : List UInt8 := [153, 0, 8, 16, 120, 167, 0, 22, 19, 1, 204, 42, 180, 0, 14, 180, 0, 146, 21, 4, 50, 180, 0, 169]
abbrev dktX1_writeRow_4 : List UInt8 := dkwX1_writeRow_4 ++ dktX1_writeRow_5
def dkwX1_writeRow_3 : List UInt8 := [16, 46, 182, 1, 193, 87, 167, 0, 48, 44, 42, 180, 0, 14, 180, 0, 146, 21, 4, 50, 180, 0, 227]
abbrev dktX1_writeRow_3 : List UInt8 := dkwX1_writeRow_3 ++ dktX1_writeRow_4
def dkwX1_writeRow_2 : List UInt8 := [21, 4, 2, 160, 0, 30, 44, 42, 180, 0, 14, 29, 27, 182, 0, 183, 153, 0, 8, 16, 35, 167, 0, 5]
abbrev dktX1_writeRow_2 : List UInt8 := dkwX1_writeRow_2 ++ dktX1_writeRow_3
def dkwX1_writeRow_1 : List UInt8 := [62, 29, 42, 180, 0, 14, 180, 0, 137, 162, 0, 98, 42, 180, 0, 14, 29, 27, 182, 1, 0, 54, 4]
abbrev dktX1_writeRow_1 : List UInt8 := dkwX1_writeRow_1 ++ dktX1_writeRow_2
def dkwX1_writeRow_0 : List UInt8 := [42, 27, 3, 42, 180, 0, 14, 180, 0, 140, 4, 100, 182, 0, 88, 187, 1, 145, 89, 183, 1, 180, 77, 3]
abbrev dktX1_writeRow_0 : List UInt8 := dkwX1_writeRow_0 ++ dktX1_writeRow_1
theorem dksX1_writeRow_0 : cX1_writeRow.data.toList.drop 0 = dktX1_writeRow_0 := by decide +kernel
theorem dksX1_writeRow_1 : cX1_writeRow.data.toList.drop 24 = dktX1_writeRow_1 := dk_seg dksX1_writeRow_0 24 rfl rfl
theorem dksX1_writeRow_2 : cX1_writeRow.data.toList.drop 47 = dktX1_writeRow_2 := dk_seg dksX1_writeRow_1 23 rfl rfl
theorem dksX1_writeRow_3 : cX1_writeRow.data.toList.drop 71 = dktX1_writeRow_3 := dk_seg dksX1_writeRow_2 24 rfl rfl
theorem dksX1_writeRow_4 : cX1_writeRow.data.toList.drop 94 = dktX1_writeRow_4 := dk_seg dksX1_writeRow_3 23 rfl rfl
theorem dksX1_writeRow_5 : cX1_writeRow.data.toList.drop 118 = dktX1_writeRow_5 := dk_seg dksX1_writeRow_4 24 rfl rfl
theorem dX1_writeRow_0 : decode cX1_writeRow 0 = .ok (.aload_n 0, 1) := dk_42 (dk_at dksX1_writeRow_0 0 rfl rfl)
theorem dX1_writeRow_1 : decode cX1_writeRow 1 = .ok (.iload_n 1, 1) := dk_27 (dk_at dksX1_writeRow_0 1 rfl rfl)
theorem dX1_writeRow_2 : decode cX1_writeRow 2 = .ok (.iconst 0, 1) := dk_3 (dk_at dksX1_writeRow_0 2 rfl rfl)
theorem dX1_writeRow_3 : decode cX1_writeRow 3 = .ok (.aload_n 0, 1) := dk_42 (dk_at dksX1_writeRow_0 3 rfl rfl)
theorem dX1_writeRow_4 : decode cX1_writeRow 4 = .ok (.getfield 14, 3) := dk_180 0 14 (dk_at dksX1_writeRow_0 4 rfl rfl)
theorem dX1_writeRow_7 : decode cX1_writeRow 7 = .ok (.getfield 140, 3) := dk_180 0 140 (dk_at dksX1_writeRow_0 7 rfl rfl)
theorem dX1_writeRow_10 : decode cX1_writeRow 10 = .ok (.iconst 1, 1) := dk_4 (dk_at dksX1_writeRow_0 10 rfl rfl)
theorem dX1_writeRow_11 : decode cX1_writeRow 11 = .ok (.isub, 1) := dk_100 (dk_at dksX1_writeRow_0 11 rfl rfl)
theorem dX1_writeRow_12 : decode cX1_writeRow 12 = .ok (.invokevirtual 88, 3) := dk_182 0 88 (dk_at dksX1_writeRow_0 12 rfl rfl)
theorem dX1_writeRow_15 : decode cX1_writeRow 15 = .ok (.new 401, 3) := dk_187 1 145 (dk_at dksX1_writeRow_0 15 rfl rfl)
theorem dX1_writeRow_18 : decode cX1_writeRow 18 = .ok (.dup, 1) := dk_89 (dk_at dksX1_writeRow_0 18 rfl rfl)
theorem dX1_writeRow_19 : decode cX1_writeRow 19 = .ok (.invokespecial 436, 3) := dk_183 1 180 (dk_at dksX1_writeRow_0 19 rfl rfl)
theorem dX1_writeRow_22 : decode cX1_writeRow 22 = .ok (.astore_n 2, 1) := dk_77 (dk_at dksX1_writeRow_0 22 rfl rfl)
theorem dX1_writeRow_23 : decode cX1_writeRow 23 = .ok (.iconst 0, 1) := dk_3 (dk_at dksX1_writeRow_0 23 rfl rfl)
theorem dX1_writeRow_24 : decode cX1_writeRow 24 = .ok (.istore_n 3, 1) := dk_62 (dk_at dksX1_writeRow_1 0 rfl rfl)
theorem dX1_writeRow_25 : decode cX1_writeRow 25 = .ok (.iload_n 3, 1) := dk_29 (dk_at dksX1_writeRow_1 1 rfl rfl)
theorem dX1_writeRow_26 : decode cX1_writeRow 26 = .ok (.aload_n 0, 1) := dk_42 (dk_at dksX1_writeRow_1 2 rfl rfl)
theorem dX1_writeRow_27 : decode cX1_writeRow 27 = .ok (.getfield 14, 3) := dk_180 0 14 (dk_at dksX1_writeRow_1 3 rfl rfl)
theorem dX1_writeRow_30 : decode cX1_writeRow 30 = .ok (.getfield 137, 3) := dk_180 0 137 (dk_at dksX1_writeRow_1 6 rfl rfl)
theorem dX1_writeRow_33 : decode cX1_writeRow 33 = .ok (.if_icmp .ge 98, 3) := dk_162 0 98 (dk_at dksX1_writeRow_1 9 rfl rfl)
theorem dX1_writeRow_36 : decode cX1_writeRow 36 = .ok (.aload_n 0, 1) := dk_42 (dk_at dksX1_writeRow_1 12 rfl rfl)
theorem dX1_writeRow_37 : decode cX1_writeRow 37 = .ok (.getfield 14, 3) := dk_180 0 14 (dk_at dksX1_writeRow_1 13 rfl rfl)
theorem dX1_writeRow_40 : decode cX1_writeRow 40 = .ok (.iload_n 3, 1) := dk_29 (dk_at dksX1_writeRow_1 16 rfl rfl)
theorem dX1_writeRow_41 : decode cX1_writeRow 41 = .ok (.iload_n 1, 1) := dk_27 (dk_at dksX1_writeRow_1 17 rfl rfl)
theorem dX1_writeRow_42 : decode cX1_writeRow 42 = .ok (.invokevirtual 256, 3) := dk_182 1 0 (dk_at dksX1_writeRow_1 18 rfl rfl)
theorem dX1_writeRow_45 : decode cX1_writeRow 45 = .ok (.istore 4, 2) := dk_54 4 (dk_at dksX1_writeRow_1 21 rfl rfl)
theorem dX1_writeRow_47 : decode cX1_writeRow 47 = .ok (.iload 4, 2) := dk_21 4 (dk_at dksX1_writeRow_2 0 rfl rfl)
theorem dX1_writeRow_49 : decode cX1_writeRow 49 = .ok (.iconst (-1), 1) := dk_2 (dk_at dksX1_writeRow_2 2 rfl rfl)
theorem dX1_writeRow_50 : decode cX1_writeRow 50 = .ok (.if_icmp .ne 30, 3) := dk_160 0 30 (dk_at dksX1_writeRow_2 3 rfl rfl)
theorem dX1_writeRow_53 : decode cX1_writeRow 53 = .ok (.aload_n 2, 1) := dk_44 (dk_at dksX1_writeRow_2 6 rfl rfl)
theorem dX1_writeRow_54 : decode cX1_writeRow 54 = .ok (.aload_n 0, 1) := dk_42 (dk_at dksX1_writeRow_2 7 rfl rfl)
theorem dX1_writeRow_55 : decode cX1_writeRow 55 = .ok (.getfield 14, 3) := dk_180 0 14 (dk_at dksX1_writeRow_2 8 rfl rfl)
theorem dX1_writeRow_58 : decode cX1_writeRow 58 = .ok (.iload_n 3, 1) := dk_29 (dk_at dksX1_writeRow_2 11 rfl rfl)
theorem dX1_writeRow_59 : decode cX1_writeRow 59 = .ok (.iload_n 1, 1) := dk_27 (dk_at dksX1_writeRow_2 12 rfl rfl)
theorem dX1_writeRow_60 : decode cX1_writeRow 60 = .ok (.invokevirtual 183, 3) := dk_182 0 183 (dk_at dksX1_writeRow_2 13 rfl rfl)
theorem dX1_writeRow_63 : decode cX1_writeRow 63 = .ok (.ifCond .eq 8, 3) := dk_153 0 8 (dk_at dksX1_writeRow_2 16 rfl rfl)
theorem dX1_writeRow_66 : decode cX1_writeRow 66 = .ok (.bipush 35, 2) := dk_16 35 (dk_at dksX1_writeRow_2 19 rfl rfl)
theorem dX1_writeRow_68 : decode cX1_writeRow 68 = .ok (.goto 5, 3) := dk_167 0 5 (dk_at dksX1_writeRow_2 21 rfl rfl)
theorem dX1_writeRow_71 : decode cX1_writeRow 71 = .ok (.bipush 46, 2) := dk_16 46 (dk_at dksX1_writeRow_3 0 rfl rfl)
theorem dX1_writeRow_73 : decode cX1_writeRow 73 = .ok (.invokevirtual 449, 3) := dk_182 1 193 (dk_at dksX1_writeRow_3 2 rfl rfl)
theorem dX1_writeRow_76 : decode cX1_writeRow 76 = .ok (.pop, 1) := dk_87 (dk_at dksX1_writeRow_3 5 rfl rfl)
theorem dX1_writeRow_77 : decode cX1_writeRow 77 = .ok (.goto 48, 3) := dk_167 0 48 (dk_at dksX1_writeRow_3 6 rfl rfl)
theorem dX1_writeRow_80 : decode cX1_writeRow 80 = .ok (.aload_n 2, 1) := dk_44 (dk_at dksX1_writeRow_3 9 rfl rfl)
theorem dX1_writeRow_81 : decode cX1_writeRow 81 = .ok (.aload_n 0, 1) := dk_42 (dk_at dksX1_writeRow_3 10 rfl rfl)
theorem dX1_writeRow_82 : decode cX1_writeRow 82 = .ok (.getfield 14, 3) := dk_180 0 14 (dk_at dksX1_writeRow_3 11 rfl rfl)
theorem dX1_writeRow_85 : decode cX1_writeRow 85 = .ok (.getfield 146, 3) := dk_180 0 146 (dk_at dksX1_writeRow_3 14 rfl rfl)
theorem dX1_writeRow_88 : decode cX1_writeRow 88 = .ok (.iload 4, 2) := dk_21 4 (dk_at dksX1_writeRow_3 17 rfl rfl)
theorem dX1_writeRow_90 : decode cX1_writeRow 90 = .ok (.aaload, 1) := dk_50 (dk_at dksX1_writeRow_3 19 rfl rfl)
theorem dX1_writeRow_91 : decode cX1_writeRow 91 = .ok (.getfield 227, 3) := dk_180 0 227 (dk_at dksX1_writeRow_3 20 rfl rfl)
theorem dX1_writeRow_94 : decode cX1_writeRow 94 = .ok (.ifCond .eq 8, 3) := dk_153 0 8 (dk_at dksX1_writeRow_4 0 rfl rfl)
theorem dX1_writeRow_97 : decode cX1_writeRow 97 = .ok (.bipush 120, 2) := dk_16 120 (dk_at dksX1_writeRow_4 3 rfl rfl)
theorem dX1_writeRow_99 : decode cX1_writeRow 99 = .ok (.goto 22, 3) := dk_167 0 22 (dk_at dksX1_writeRow_4 5 rfl rfl)
theorem dX1_writeRow_102 : decode cX1_writeRow 102 = .ok (.ldc_w 460, 3) := dk_19 1 204 (dk_at dksX1_writeRow_4 8 rfl rfl)
theorem dX1_writeRow_105 : decode cX1_writeRow 105 = .ok (.aload_n 0, 1) := dk_42 (dk_at dksX1_writeRow_4 11 rfl rfl)
theorem dX1_writeRow_106 : decode cX1_writeRow 106 = .ok (.getfield 14, 3) := dk_180 0 14 (dk_at dksX1_writeRow_4 12 rfl rfl)
theorem dX1_writeRow_109 : decode cX1_writeRow 109 = .ok (.getfield 146, 3) := dk_180 0 146 (dk_at dksX1_writeRow_4 15 rfl rfl)
theorem dX1_writeRow_112 : decode cX1_writeRow 112 = .ok (.iload 4, 2) := dk_21 4 (dk_at dksX1_writeRow_4 18 rfl rfl)
theorem dX1_writeRow_114 : decode cX1_writeRow 114 = .ok (.aaload, 1) := dk_50 (dk_at dksX1_writeRow_4 20 rfl rfl)
theorem dX1_writeRow_115 : decode cX1_writeRow 115 = .ok (.getfield 169, 3) := dk_180 0 169 (dk_at dksX1_writeRow_4 21 rfl rfl)
theorem dX1_writeRow_118 : decode cX1_writeRow 118 = .ok (.invokevirtual 462, 3) := dk_182 1 206 (dk_at dksX1_writeRow_5 0 rfl rfl)
theorem dX1_writeRow_121 : decode cX1_writeRow 121 = .ok (.invokevirtual 449, 3) := dk_182 1 193 (dk_at dksX1_writeRow_5 3 rfl rfl)
theorem dX1_writeRow_124 : decode cX1_writeRow 124 = .ok (.pop, 1) := dk_87 (dk_at dksX1_writeRow_5 6 rfl rfl)
theorem dX1_writeRow_125 : decode cX1_writeRow 125 = .ok (.iinc 3 1, 3) := dk_132 3 1 (dk_at dksX1_writeRow_5 7 rfl rfl)
theorem dX1_writeRow_128 : decode cX1_writeRow 128 = .ok (.goto (-103), 3) := dk_167 255 153 (dk_at dksX1_writeRow_5 10 rfl rfl)
theorem dX1_writeRow_131 : decode cX1_writeRow 131 = .ok (.aload_n 0, 1) := dk_42 (dk_at dksX1_writeRow_5 13 rfl rfl)
theorem dX1_writeRow_132 : decode cX1_writeRow 132 = .ok (.aload_n 2, 1) := dk_44 (dk_at dksX1_writeRow_5 14 rfl rfl)
theorem dX1_writeRow_133 : decode cX1_writeRow 133 = .ok (.invokevirtual 456, 3) := dk_182 1 200 (dk_at dksX1_writeRow_5 15 rfl rfl)
theorem dX1_writeRow_136 : decode cX1_writeRow 136 = .ok (.ireturn, 1) := dk_172 (dk_at dksX1_writeRow_5 18 rfl rfl)
theorem q163 : (Jvm.Cond.initialized "java/lang/IllegalStateException") ∈ lw_all := lw_g (lw_at lw_m1 26 rfl) rfl
theorem q164 : (Jvm.Cond.initialized "java/lang/IndexOutOfBoundsException") ∈ lw_all := lw_g (lw_at lw_m1 27 rfl) rfl
theorem q172 : (Jvm.Cond.initialized "java/util/LinkedHashSet") ∈ lw_all := lw_g (lw_at lw_m1 35 rfl) rfl
theorem q201 : (Jvm.Cond.classLink "TrailMarkers" (58 : Nat) "TrailMarkers$PlaceException") ∈ lw_all := lw_g (lw_at lw_m1 64 rfl) rfl
theorem q202 : (Jvm.Cond.methodLink "TrailMarkers" (3 : Nat) ({ cls := "java/lang/Object", name := "<init>", desc := "()V" } : Jvm.MethodName)) ∈ lw_all := lw_g (lw_at lw_m1 65 rfl) rfl
theorem q205 : (Jvm.Cond.classLink "TrailMarkers" (9 : Nat) "TrailMarkers$Trails") ∈ lw_all := lw_g (lw_at lw_m1 68 rfl) rfl
theorem q207 : (Jvm.Cond.methodLink "TrailMarkers" (11 : Nat) ({ cls := "TrailMarkers$Trails", name := "<init>", desc := "(IIII)V" } : Jvm.MethodName)) ∈ lw_all := lw_g (lw_at lw_m1 70 rfl) rfl
theorem q215 : (Jvm.Cond.fieldLink "TrailMarkers" (137 : Nat) "TrailMarkers$Trails" "width" "I") ∈ lw_all := lw_g (lw_at lw_m1 78 rfl) rfl
theorem q218 : (Jvm.Cond.fieldLink "TrailMarkers" (140 : Nat) "TrailMarkers$Trails" "height" "I") ∈ lw_all := lw_g (lw_at lw_m1 81 rfl) rfl
theorem q223 : (Jvm.Cond.fieldLink "TrailMarkers" (146 : Nat) "TrailMarkers$Trails" "posts" "[LTrailMarkers$Post;") ∈ lw_all := lw_g (lw_at lw_m1 86 rfl) rfl
theorem q225 : (Jvm.Cond.fieldLink "TrailMarkers" (111 : Nat) "TrailMarkers$Trails" "postCount" "I") ∈ lw_all := lw_g (lw_at lw_m1 88 rfl) rfl
theorem q229 : (Jvm.Cond.fieldLink "TrailMarkers" (190 : Nat) "TrailMarkers$Trails" "blocks" "I") ∈ lw_all := lw_g (lw_at lw_m1 92 rfl) rfl
theorem q234 : (Jvm.Cond.fieldLink "TrailMarkers" (199 : Nat) "TrailMarkers$Trails" "settings" "[I") ∈ lw_all := lw_g (lw_at lw_m1 97 rfl) rfl
theorem q253 : (Jvm.Cond.classLink "TrailMarkers" (35 : Nat) "java/util/ArrayDeque") ∈ lw_all := lw_g (lw_at lw_m1 116 rfl) rfl
theorem q254 : (Jvm.Cond.instantiable "java/util/ArrayDeque" (3 : Nat)) ∈ lw_all := lw_g (lw_at lw_m1 117 rfl) rfl
theorem q255 : (Jvm.Cond.methodLink "TrailMarkers" (37 : Nat) ({ cls := "java/util/ArrayDeque", name := "<init>", desc := "()V" } : Jvm.MethodName)) ∈ lw_all := lw_g (lw_at lw_m1 118 rfl) rfl
theorem q256 : (Jvm.Cond.instanceMethod ({ cls := "java/util/ArrayDeque", name := "<init>", desc := "()V" } : Jvm.MethodName)) ∈ lw_all := lw_g (lw_at lw_m1 119 rfl) rfl
theorem q257 : (Jvm.Cond.code ({ cls := "java/util/ArrayDeque", name := "<init>", desc := "()V" } : Jvm.MethodName) prog_49_method_3_code (1 : Nat) (Option.none : Option Jvm.ClassFile.FieldType)) ∈ lw_all := lw_g (lw_at lw_m1 120 rfl) rfl
theorem q274 : (Jvm.Cond.arrayOver (Jvm.ClassFile.FieldType.object "TrailMarkers$Trails")) ∈ lw_tbl := lw_at lw_m1 137 rfl
theorem q275 : (Jvm.Cond.methodLink "TrailMarkers" (46 : Nat) ({ cls := "TrailMarkers", name := "lay", desc := "([II)V" } : Jvm.MethodName)) ∈ lw_all := lw_g (lw_at lw_m1 138 rfl) rfl
theorem q277 : (Jvm.Cond.instanceMethod ({ cls := "TrailMarkers", name := "lay", desc := "([II)V" } : Jvm.MethodName)) ∈ lw_all := lw_g (lw_at lw_m1 140 rfl) rfl
theorem q278 : (Jvm.Cond.code ({ cls := "TrailMarkers", name := "lay", desc := "([II)V" } : Jvm.MethodName) prog_1_method_6_code (4 : Nat) (Option.none : Option Jvm.ClassFile.FieldType)) ∈ lw_all := lw_g (lw_at lw_m1 141 rfl) rfl
theorem q279 : (Jvm.Cond.classLink "TrailMarkers" (60 : Nat) "TrailMarkers$Post") ∈ lw_all := lw_g (lw_at lw_m1 142 rfl) rfl
theorem q281 : (Jvm.Cond.methodLink "TrailMarkers" (62 : Nat) ({ cls := "TrailMarkers$Post", name := "<init>", desc := "(IIIIZ)V" } : Jvm.MethodName)) ∈ lw_all := lw_g (lw_at lw_m1 144 rfl) rfl
theorem q297 : (Jvm.Cond.fieldLink "TrailMarkers" (172 : Nat) "TrailMarkers$Post" "colour" "I") ∈ lw_all := lw_g (lw_at lw_m1 160 rfl) rfl
theorem q300 : (Jvm.Cond.fieldLink "TrailMarkers" (169 : Nat) "TrailMarkers$Post" "arrow" "I") ∈ lw_all := lw_g (lw_at lw_m1 163 rfl) rfl
theorem q303 : (Jvm.Cond.fieldLink "TrailMarkers" (227 : Nat) "TrailMarkers$Post" "isMissing" "Z") ∈ lw_all := lw_g (lw_at lw_m1 166 rfl) rfl
theorem q315 : (Jvm.Cond.methodLink "TrailMarkers" (65 : Nat) ({ cls := "TrailMarkers$Trails", name := "add", desc := "(LTrailMarkers$Post;)I" } : Jvm.MethodName)) ∈ lw_all := lw_g (lw_at lw_m1 178 rfl) rfl
theorem q410 : (Jvm.Cond.methodLink "TrailMarkers" (50 : Nat) ({ cls := "TrailMarkers$Trails", name := "change", desc := "(IZ)V" } : Jvm.MethodName)) ∈ lw_all := lw_g (lw_at lw_m2 33 rfl) rfl
theorem q420 : (Jvm.Cond.methodLink "TrailMarkers" (54 : Nat) ({ cls := "TrailMarkers$Trails", name := "layBlock", desc := "(II)V" } : Jvm.MethodName)) ∈ lw_all := lw_g (lw_at lw_m2 43 rfl) rfl
theorem q424 : (Jvm.Cond.fieldLink "TrailMarkers" (14 : Nat) "TrailMarkers" "trails" "LTrailMarkers$Trails;") ∈ lw_all := lw_g (lw_at lw_m2 47 rfl) rfl
theorem q426 : (Jvm.Cond.fieldLink "TrailMarkers" (18 : Nat) "TrailMarkers" "input" "[B") ∈ lw_all := lw_g (lw_at lw_m2 49 rfl) rfl
theorem q428 : (Jvm.Cond.fieldLink "TrailMarkers" (81 : Nat) "TrailMarkers" "inputLength" "I") ∈ lw_all := lw_g (lw_at lw_m2 51 rfl) rfl
theorem q429 : (Jvm.Cond.fieldLink "TrailMarkers" (131 : Nat) "TrailMarkers" "errorCode" "I") ∈ lw_all := lw_g (lw_at lw_m2 52 rfl) rfl
theorem q430 : (Jvm.Cond.fieldLink "TrailMarkers" (22 : Nat) "TrailMarkers" "errorOffset" "I") ∈ lw_all := lw_g (lw_at lw_m2 53 rfl) rfl
theorem q431 : (Jvm.Cond.fieldLink "TrailMarkers" (26 : Nat) "TrailMarkers" "errorReason" "I") ∈ lw_all := lw_g (lw_at lw_m2 54 rfl) rfl
theorem q432 : (Jvm.Cond.fieldLink "TrailMarkers" (31 : Nat) "TrailMarkers" "output" "Ljava/lang/String;") ∈ lw_all := lw_g (lw_at lw_m2 55 rfl) rfl
theorem q433 : (Jvm.Cond.fieldLink "TrailMarkers" (38 : Nat) "TrailMarkers" "changes" "Ljava/util/ArrayDeque;") ∈ lw_all := lw_g (lw_at lw_m2 56 rfl) rfl
theorem q434 : (Jvm.Cond.fieldLink "TrailMarkers" (42 : Nat) "TrailMarkers" "saved" "[LTrailMarkers$Trails;") ∈ lw_all := lw_g (lw_at lw_m2 57 rfl) rfl
theorem q458 : (Jvm.Cond.methodLink "TrailMarkers" (84 : Nat) ({ cls := "TrailMarkers", name := "putBytes", desc := "(I)V" } : Jvm.MethodName)) ∈ lw_all := lw_g (lw_at lw_m2 81 rfl) rfl
theorem q460 : (Jvm.Cond.instanceMethod ({ cls := "TrailMarkers", name := "putBytes", desc := "(I)V" } : Jvm.MethodName)) ∈ lw_all := lw_g (lw_at lw_m2 83 rfl) rfl
theorem q461 : (Jvm.Cond.code ({ cls := "TrailMarkers", name := "putBytes", desc := "(I)V" } : Jvm.MethodName) prog_1_method_9_code (3 : Nat) (Option.none : Option Jvm.ClassFile.FieldType)) ∈ lw_all := lw_g (lw_at lw_m2 84 rfl) rfl
theorem q466 : (Jvm.Cond.classLink "TrailMarkers" (114 : Nat) "TrailMarkers$TextException") ∈ lw_all := lw_g (lw_at lw_m2 89 rfl) rfl
theorem q467 : (Jvm.Cond.classLink "TrailMarkers" (92 : Nat) "TrailMarkers$Reader") ∈ lw_all := lw_g (lw_at lw_m2 90 rfl) rfl
theorem q468 : (Jvm.Cond.instantiable "TrailMarkers$Reader" (9 : Nat)) ∈ lw_all := lw_g (lw_at lw_m2 91 rfl) rfl
theorem q469 : (Jvm.Cond.methodLink "TrailMarkers" (94 : Nat) ({ cls := "TrailMarkers$Reader", name := "<init>", desc := "(LTrailMarkers;LTrailMarkers$Trails;)V" } : Jvm.MethodName)) ∈ lw_all := lw_g (lw_at lw_m2 92 rfl) rfl
theorem q470 : (Jvm.Cond.instanceMethod ({ cls := "TrailMarkers$Reader", name := "<init>", desc := "(LTrailMarkers;LTrailMarkers$Trails;)V" } : Jvm.MethodName)) ∈ lw_all := lw_g (lw_at lw_m2 93 rfl) rfl
theorem q471 : (Jvm.Cond.code ({ cls := "TrailMarkers$Reader", name := "<init>", desc := "(LTrailMarkers;LTrailMarkers$Trails;)V" } : Jvm.MethodName) prog_7_method_1_code (3 : Nat) (Option.none : Option Jvm.ClassFile.FieldType)) ∈ lw_all := lw_g (lw_at lw_m2 94 rfl) rfl
theorem q502 : (Jvm.Cond.methodLink "TrailMarkers" (97 : Nat) ({ cls := "TrailMarkers$Reader", name := "head", desc := "()LTrailMarkers$Trails;" } : Jvm.MethodName)) ∈ lw_all := lw_g (lw_at lw_m2 125 rfl) rfl
theorem q503 : (Jvm.Cond.instanceMethod ({ cls := "TrailMarkers$Reader", name := "head", desc := "()LTrailMarkers$Trails;" } : Jvm.MethodName)) ∈ lw_all := lw_g (lw_at lw_m2 126 rfl) rfl
theorem q504 : (Jvm.Cond.selects "TrailMarkers$Reader" ({ cls := "TrailMarkers$Reader", name := "head", desc := "()LTrailMarkers$Trails;" } : Jvm.MethodName) ({ cls := "TrailMarkers$Reader", name := "head", desc := "()LTrailMarkers$Trails;" } : Jvm.MethodName)) ∈ lw_all := lw_g (lw_at lw_m2 127 rfl) rfl
theorem q505 : (Jvm.Cond.code ({ cls := "TrailMarkers$Reader", name := "head", desc := "()LTrailMarkers$Trails;" } : Jvm.MethodName) prog_7_method_7_code (4 : Nat) (Option.some (Jvm.ClassFile.FieldType.object "TrailMarkers$Trails"))) ∈ lw_all := lw_g (lw_at lw_m2 128 rfl) rfl
theorem q820 : (Jvm.Cond.fieldLink "TrailMarkers" (116 : Nat) "TrailMarkers$TextException" "code" "I") ∈ lw_all := lw_g (lw_at lw_m3 203 rfl) rfl
theorem q822 : (Jvm.Cond.fieldLink "TrailMarkers" (119 : Nat) "TrailMarkers$TextException" "offset" "I") ∈ lw_all := lw_g (lw_at lw_m3 205 rfl) rfl
theorem q852 : (Jvm.Cond.methodLink "TrailMarkers" (101 : Nat) ({ cls := "TrailMarkers$Reader", name := "commands", desc := "()I" } : Jvm.MethodName)) ∈ lw_all := lw_g (lw_at lw_m3 235 rfl) rfl
theorem q853 : (Jvm.Cond.instanceMethod ({ cls := "TrailMarkers$Reader", name := "commands", desc := "()I" } : Jvm.MethodName)) ∈ lw_all := lw_g (lw_at lw_m3 236 rfl) rfl
theorem q854 : (Jvm.Cond.selects "TrailMarkers$Reader" ({ cls := "TrailMarkers$Reader", name := "commands", desc := "()I" } : Jvm.MethodName) ({ cls := "TrailMarkers$Reader", name := "commands", desc := "()I" } : Jvm.MethodName)) ∈ lw_all := lw_g (lw_at lw_m3 237 rfl) rfl
theorem q855 : (Jvm.Cond.codeWith ({ cls := "TrailMarkers$Reader", name := "commands", desc := "()I" } : Jvm.MethodName) prog_7_method_8_code (3 : Nat) (Option.some Jvm.ClassFile.FieldType.int) [((15 : Nat), (19 : Nat), (22 : Nat), (101 : Nat))]) ∈ lw_all := lw_g (lw_at lw_m3 238 rfl) rfl
theorem q1002 : (Jvm.Cond.methodLink "TrailMarkers" (104 : Nat) ({ cls := "TrailMarkers", name := "report", desc := "(III)V" } : Jvm.MethodName)) ∈ lw_all := lw_g (lw_at lw_m4 145 rfl) rfl
theorem q1004 : (Jvm.Cond.instanceMethod ({ cls := "TrailMarkers", name := "report", desc := "(III)V" } : Jvm.MethodName)) ∈ lw_all := lw_g (lw_at lw_m4 147 rfl) rfl
theorem q1005 : (Jvm.Cond.code ({ cls := "TrailMarkers", name := "report", desc := "(III)V" } : Jvm.MethodName) prog_1_method_13_code (4 : Nat) (Option.none : Option Jvm.ClassFile.FieldType)) ∈ lw_all := lw_g (lw_at lw_m4 148 rfl) rfl
theorem q1006 : (Jvm.Cond.methodLink "TrailMarkers" (107 : Nat) ({ cls := "TrailMarkers", name := "become", desc := "(LTrailMarkers$Trails;)V" } : Jvm.MethodName)) ∈ lw_all := lw_g (lw_at lw_m4 149 rfl) rfl
theorem q1008 : (Jvm.Cond.instanceMethod ({ cls := "TrailMarkers", name := "become", desc := "(LTrailMarkers$Trails;)V" } : Jvm.MethodName)) ∈ lw_all := lw_g (lw_at lw_m4 151 rfl) rfl
theorem q1009 : (Jvm.Cond.code ({ cls := "TrailMarkers", name := "become", desc := "(LTrailMarkers$Trails;)V" } : Jvm.MethodName) prog_1_method_7_code (2 : Nat) (Option.none : Option Jvm.ClassFile.FieldType)) ∈ lw_all := lw_g (lw_at lw_m4 152 rfl) rfl
theorem q1010 : (Jvm.Cond.methodLink "TrailMarkers" (69 : Nat) ({ cls := "java/util/ArrayDeque", name := "size", desc := "()I" } : Jvm.MethodName)) ∈ lw_all := lw_g (lw_at lw_m4 153 rfl) rfl
theorem q1011 : (Jvm.Cond.instanceMethod ({ cls := "java/util/ArrayDeque", name := "size", desc := "()I" } : Jvm.MethodName)) ∈ lw_all := lw_g (lw_at lw_m4 154 rfl) rfl
theorem q1012 : (Jvm.Cond.selects "java/util/ArrayDeque" ({ cls := "java/util/ArrayDeque", name := "size", desc := "()I" } : Jvm.MethodName) ({ cls := "java/util/ArrayDeque", name := "size", desc := "()I" } : Jvm.MethodName)) ∈ lw_all := lw_g (lw_at lw_m4 155 rfl) rfl
theorem q1013 : (Jvm.Cond.code ({ cls := "java/util/ArrayDeque", name := "size", desc := "()I" } : Jvm.MethodName) prog_49_method_37_code (1 : Nat) (Option.some Jvm.ClassFile.FieldType.int)) ∈ lw_all := lw_g (lw_at lw_m4 156 rfl) rfl
theorem q1017 : (Jvm.Cond.methodLink "TrailMarkers" (73 : Nat) ({ cls := "java/util/ArrayDeque", name := "removeFirst", desc := "()Ljava/lang/Object;" } : Jvm.MethodName)) ∈ lw_all := lw_g (lw_at lw_m4 160 rfl) rfl
theorem q1018 : (Jvm.Cond.instanceMethod ({ cls := "java/util/ArrayDeque", name := "removeFirst", desc := "()Ljava/lang/Object;" } : Jvm.MethodName)) ∈ lw_all := lw_g (lw_at lw_m4 161 rfl) rfl
theorem q1019 : (Jvm.Cond.selects "java/util/ArrayDeque" ({ cls := "java/util/ArrayDeque", name := "removeFirst", desc := "()Ljava/lang/Object;" } : Jvm.MethodName) ({ cls := "java/util/ArrayDeque", name := "removeFirst", desc := "()Ljava/lang/Object;" } : Jvm.MethodName)) ∈ lw_all := lw_g (lw_at lw_m4 162 rfl) rfl
theorem q1020 : (Jvm.Cond.code ({ cls := "java/util/ArrayDeque", name := "removeFirst", desc := "()Ljava/lang/Object;" } : Jvm.MethodName) prog_49_method_18_code (2 : Nat) (Option.some (Jvm.ClassFile.FieldType.object "java/lang/Object"))) ∈ lw_all := lw_g (lw_at lw_m4 163 rfl) rfl
theorem q1031 : (Jvm.Cond.methodLink "TrailMarkers" (77 : Nat) ({ cls := "java/util/ArrayDeque", name := "addLast", desc := "(Ljava/lang/Object;)V" } : Jvm.MethodName)) ∈ lw_all := lw_g (lw_at lw_m4 174 rfl) rfl
theorem q1032 : (Jvm.Cond.instanceMethod ({ cls := "java/util/ArrayDeque", name := "addLast", desc := "(Ljava/lang/Object;)V" } : Jvm.MethodName)) ∈ lw_all := lw_g (lw_at lw_m4 175 rfl) rfl
theorem q1033 : (Jvm.Cond.selects "java/util/ArrayDeque" ({ cls := "java/util/ArrayDeque", name := "addLast", desc := "(Ljava/lang/Object;)V" } : Jvm.MethodName) ({ cls := "java/util/ArrayDeque", name := "addLast", desc := "(Ljava/lang/Object;)V" } : Jvm.MethodName)) ∈ lw_all := lw_g (lw_at lw_m4 176 rfl) rfl
theorem q1034 : (Jvm.Cond.code ({ cls := "java/util/ArrayDeque", name := "addLast", desc := "(Ljava/lang/Object;)V" } : Jvm.MethodName) prog_49_method_13_code (3 : Nat) (Option.none : Option Jvm.ClassFile.FieldType)) ∈ lw_all := lw_g (lw_at lw_m4 177 rfl) rfl
theorem q1045 : (Jvm.Cond.instantiable "java/lang/IllegalStateException" (6 : Nat)) ∈ lw_all := lw_g (lw_at lw_m4 188 rfl) rfl
theorem q1107 : (Jvm.Cond.methodLink "TrailMarkers" (122 : Nat) ({ cls := "TrailMarkers$TextException", name := "reason", desc := "()I" } : Jvm.MethodName)) ∈ lw_all := lw_g (lw_at lw_m5 10 rfl) rfl
theorem q1108 : (Jvm.Cond.instanceMethod ({ cls := "TrailMarkers$TextException", name := "reason", desc := "()I" } : Jvm.MethodName)) ∈ lw_all := lw_g (lw_at lw_m5 11 rfl) rfl
theorem q1109 : (Jvm.Cond.selects "TrailMarkers$TextException" ({ cls := "TrailMarkers$TextException", name := "reason", desc := "()I" } : Jvm.MethodName) ({ cls := "TrailMarkers$TextException", name := "reason", desc := "()I" } : Jvm.MethodName)) ∈ lw_all := lw_g (lw_at lw_m5 12 rfl) rfl
theorem q1110 : (Jvm.Cond.code ({ cls := "TrailMarkers$TextException", name := "reason", desc := "()I" } : Jvm.MethodName) prog_8_method_3_code (3 : Nat) (Option.some Jvm.ClassFile.FieldType.int)) ∈ lw_all := lw_g (lw_at lw_m5 13 rfl) rfl
theorem q1122 : (Jvm.Cond.methodLink "TrailMarkers" (125 : Nat) ({ cls := "TrailMarkers$Trails", name := "copy", desc := "()LTrailMarkers$Trails;" } : Jvm.MethodName)) ∈ lw_all := lw_g (lw_at lw_m5 25 rfl) rfl
theorem q1123 : (Jvm.Cond.instanceMethod ({ cls := "TrailMarkers$Trails", name := "copy", desc := "()LTrailMarkers$Trails;" } : Jvm.MethodName)) ∈ lw_all := lw_g (lw_at lw_m5 26 rfl) rfl
theorem q1124 : (Jvm.Cond.selects "TrailMarkers$Trails" ({ cls := "TrailMarkers$Trails", name := "copy", desc := "()LTrailMarkers$Trails;" } : Jvm.MethodName) ({ cls := "TrailMarkers$Trails", name := "copy", desc := "()LTrailMarkers$Trails;" } : Jvm.MethodName)) ∈ lw_all := lw_g (lw_at lw_m5 27 rfl) rfl
theorem q1125 : (Jvm.Cond.code ({ cls := "TrailMarkers$Trails", name := "copy", desc := "()LTrailMarkers$Trails;" } : Jvm.MethodName) prog_9_method_2_code (2 : Nat) (Option.some (Jvm.ClassFile.FieldType.object "TrailMarkers$Trails"))) ∈ lw_all := lw_g (lw_at lw_m5 28 rfl) rfl
theorem q1129 : (Jvm.Cond.methodLink "TrailMarkers" (128 : Nat) ({ cls := "TrailMarkers$Reader", name := "advance", desc := "()V" } : Jvm.MethodName)) ∈ lw_all := lw_g (lw_at lw_m5 32 rfl) rfl
theorem q1134 : (Jvm.Cond.classLink "TrailMarkers" (216 : Nat) "TrailMarkers$Guide") ∈ lw_all := lw_g (lw_at lw_m5 37 rfl) rfl
theorem q1135 : (Jvm.Cond.instantiable "TrailMarkers$Guide" (19 : Nat)) ∈ lw_all := lw_g (lw_at lw_m5 38 rfl) rfl
theorem q1136 : (Jvm.Cond.methodLink "TrailMarkers" (218 : Nat) ({ cls := "TrailMarkers$Guide", name := "<init>", desc := "(LTrailMarkers$Trails;)V" } : Jvm.MethodName)) ∈ lw_all := lw_g (lw_at lw_m5 39 rfl) rfl
theorem q1137 : (Jvm.Cond.instanceMethod ({ cls := "TrailMarkers$Guide", name := "<init>", desc := "(LTrailMarkers$Trails;)V" } : Jvm.MethodName)) ∈ lw_all := lw_g (lw_at lw_m5 40 rfl) rfl
theorem q1138 : (Jvm.Cond.code ({ cls := "TrailMarkers$Guide", name := "<init>", desc := "(LTrailMarkers$Trails;)V" } : Jvm.MethodName) prog_3_method_1_code (2 : Nat) (Option.none : Option Jvm.ClassFile.FieldType)) ∈ lw_all := lw_g (lw_at lw_m5 41 rfl) rfl
theorem q1148 : (Jvm.Cond.fieldLink "TrailMarkers" (242 : Nat) "TrailMarkers$Way" "next" "I") ∈ lw_all := lw_g (lw_at lw_m5 51 rfl) rfl
theorem q1151 : (Jvm.Cond.fieldLink "TrailMarkers" (247 : Nat) "TrailMarkers$Way" "total" "I") ∈ lw_all := lw_g (lw_at lw_m5 54 rfl) rfl
theorem q1154 : (Jvm.Cond.fieldLink "TrailMarkers" (250 : Nat) "TrailMarkers$Way" "turns" "I") ∈ lw_all := lw_g (lw_at lw_m5 57 rfl) rfl
theorem q1157 : (Jvm.Cond.fieldLink "TrailMarkers" (345 : Nat) "TrailMarkers$Way" "lengths" "[I") ∈ lw_all := lw_g (lw_at lw_m5 60 rfl) rfl
theorem q1184 : (Jvm.Cond.fieldLink "TrailMarkers" (342 : Nat) "TrailMarkers$Walk" "steps" "I") ∈ lw_all := lw_g (lw_at lw_m5 87 rfl) rfl
theorem q1186 : (Jvm.Cond.fieldLink "TrailMarkers" (337 : Nat) "TrailMarkers$Walk" "stop" "I") ∈ lw_all := lw_g (lw_at lw_m5 89 rfl) rfl
theorem q1210 : (Jvm.Cond.fieldLink "TrailMarkers" (281 : Nat) "TrailMarkers$Guide" "route" "[I") ∈ lw_all := lw_g (lw_at lw_m5 113 rfl) rfl
theorem q1212 : (Jvm.Cond.fieldLink "TrailMarkers" (294 : Nat) "TrailMarkers$Guide" "routePosts" "I") ∈ lw_all := lw_g (lw_at lw_m5 115 rfl) rfl
theorem q1214 : (Jvm.Cond.fieldLink "TrailMarkers" (300 : Nat) "TrailMarkers$Guide" "cells" "[I") ∈ lw_all := lw_g (lw_at lw_m5 117 rfl) rfl
theorem q1216 : (Jvm.Cond.fieldLink "TrailMarkers" (297 : Nat) "TrailMarkers$Guide" "cellCount" "I") ∈ lw_all := lw_g (lw_at lw_m5 119 rfl) rfl
theorem q1218 : (Jvm.Cond.fieldLink "TrailMarkers" (275 : Nat) "TrailMarkers$Guide" "guessed" "[I") ∈ lw_all := lw_g (lw_at lw_m5 121 rfl) rfl
theorem q1220 : (Jvm.Cond.fieldLink "TrailMarkers" (268 : Nat) "TrailMarkers$Guide" "guesses" "I") ∈ lw_all := lw_g (lw_at lw_m5 123 rfl) rfl
theorem q1222 : (Jvm.Cond.fieldLink "TrailMarkers" (373 : Nat) "TrailMarkers$Guide" "legs" "[LTrailMarkers$Leg;") ∈ lw_all := lw_g (lw_at lw_m5 125 rfl) rfl
theorem q1224 : (Jvm.Cond.fieldLink "TrailMarkers" (370 : Nat) "TrailMarkers$Guide" "legCount" "I") ∈ lw_all := lw_g (lw_at lw_m5 127 rfl) rfl
theorem q1268 : (Jvm.Cond.methodLink "TrailMarkers" (284 : Nat) ({ cls := "TrailMarkers$Guide", name := "follow", desc := "(I)LTrailMarkers$Guide;" } : Jvm.MethodName)) ∈ lw_all := lw_g (lw_at lw_m5 171 rfl) rfl
theorem q1342 : (Jvm.Cond.fieldLink "TrailMarkers" (377 : Nat) "TrailMarkers$Leg" "steps" "I") ∈ lw_all := lw_g (lw_at lw_m6 5 rfl) rfl
theorem q1353 : (Jvm.Cond.methodLink "TrailMarkers" (380 : Nat) ({ cls := "java/lang/Math", name := "abs", desc := "(I)I" } : Jvm.MethodName)) ∈ lw_all := lw_g (lw_at lw_m6 16 rfl) rfl
theorem q1356 : (Jvm.Cond.methodLink "TrailMarkers" (385 : Nat) ({ cls := "TrailMarkers", name := "faults", desc := "(LTrailMarkers$Guide;)I" } : Jvm.MethodName)) ∈ lw_all := lw_g (lw_at lw_m6 19 rfl) rfl
theorem q1358 : (Jvm.Cond.instanceMethod ({ cls := "TrailMarkers", name := "faults", desc := "(LTrailMarkers$Guide;)I" } : Jvm.MethodName)) ∈ lw_all := lw_g (lw_at lw_m6 21 rfl) rfl
theorem q1359 : (Jvm.Cond.code ({ cls := "TrailMarkers", name := "faults", desc := "(LTrailMarkers$Guide;)I" } : Jvm.MethodName) prog_1_method_58_code (6 : Nat) (Option.some Jvm.ClassFile.FieldType.int)) ∈ lw_all := lw_g (lw_at lw_m6 22 rfl) rfl
theorem q1360 : (Jvm.Cond.methodLink "TrailMarkers" (183 : Nat) ({ cls := "TrailMarkers$Trails", name := "isBlock", desc := "(II)Z" } : Jvm.MethodName)) ∈ lw_all := lw_g (lw_at lw_m6 23 rfl) rfl
theorem q1365 : (Jvm.Cond.methodLink "TrailMarkers" (210 : Nat) ({ cls := "TrailMarkers", name := "allStanding", desc := "()I" } : Jvm.MethodName)) ∈ lw_all := lw_g (lw_at lw_m6 28 rfl) rfl
theorem q1367 : (Jvm.Cond.instanceMethod ({ cls := "TrailMarkers", name := "allStanding", desc := "()I" } : Jvm.MethodName)) ∈ lw_all := lw_g (lw_at lw_m6 30 rfl) rfl
theorem q1368 : (Jvm.Cond.code ({ cls := "TrailMarkers", name := "allStanding", desc := "()I" } : Jvm.MethodName) prog_1_method_31_code (3 : Nat) (Option.some Jvm.ClassFile.FieldType.int)) ∈ lw_all := lw_g (lw_at lw_m6 31 rfl) rfl
theorem q1369 : (Jvm.Cond.methodLink "TrailMarkers" (175 : Nat) ({ cls := "TrailMarkers$Trails", name := "standing", desc := "(I)I" } : Jvm.MethodName)) ∈ lw_all := lw_g (lw_at lw_m6 32 rfl) rfl
theorem q1374 : (Jvm.Cond.methodLink "TrailMarkers" (259 : Nat) ({ cls := "TrailMarkers$Guide", name := "metOf", desc := "(I)I" } : Jvm.MethodName)) ∈ lw_all := lw_g (lw_at lw_m6 37 rfl) rfl
theorem q1387 : (Jvm.Cond.methodLink "TrailMarkers" (406 : Nat) ({ cls := "java/lang/String", name := "length", desc := "()I" } : Jvm.MethodName)) ∈ lw_all := lw_g (lw_at lw_m6 50 rfl) rfl
theorem q1388 : (Jvm.Cond.methodLink "TrailMarkers" (462 : Nat) ({ cls := "java/lang/String", name := "charAt", desc := "(I)C" } : Jvm.MethodName)) ∈ lw_all := lw_g (lw_at lw_m6 51 rfl) rfl
theorem q1397 : (Jvm.Cond.methodLink "TrailMarkers" (88 : Nat) ({ cls := "TrailMarkers", name := "need", desc := "(III)V" } : Jvm.MethodName)) ∈ lw_all := lw_g (lw_at lw_m6 60 rfl) rfl
theorem q1399 : (Jvm.Cond.instanceMethod ({ cls := "TrailMarkers", name := "need", desc := "(III)V" } : Jvm.MethodName)) ∈ lw_all := lw_g (lw_at lw_m6 62 rfl) rfl
theorem q1400 : (Jvm.Cond.code ({ cls := "TrailMarkers", name := "need", desc := "(III)V" } : Jvm.MethodName) prog_1_method_15_code (4 : Nat) (Option.none : Option Jvm.ClassFile.FieldType)) ∈ lw_all := lw_g (lw_at lw_m6 63 rfl) rfl
theorem q1401 : (Jvm.Cond.classLink "TrailMarkers" (134 : Nat) "java/lang/IllegalArgumentException") ∈ lw_all := lw_g (lw_at lw_m6 64 rfl) rfl
theorem q1402 : (Jvm.Cond.methodLink "TrailMarkers" (136 : Nat) ({ cls := "java/lang/IllegalArgumentException", name := "<init>", desc := "()V" } : Jvm.MethodName)) ∈ lw_all := lw_g (lw_at lw_m6 65 rfl) rfl
theorem q1403 : (Jvm.Cond.instanceMethod ({ cls := "java/lang/IllegalArgumentException", name := "<init>", desc := "()V" } : Jvm.MethodName)) ∈ lw_all := lw_g (lw_at lw_m6 66 rfl) rfl
theorem q1404 : (Jvm.Cond.code ({ cls := "java/lang/IllegalArgumentException", name := "<init>", desc := "()V" } : Jvm.MethodName) prog_25_method_1_code (1 : Nat) (Option.none : Option Jvm.ClassFile.FieldType)) ∈ lw_all := lw_g (lw_at lw_m6 67 rfl) rfl
theorem q1443 : (Jvm.Cond.methodLink "TrailMarkers" (150 : Nat) ({ cls := "TrailMarkers", name := "needColour", desc := "(I)V" } : Jvm.MethodName)) ∈ lw_all := lw_g (lw_at lw_m6 106 rfl) rfl
theorem q1445 : (Jvm.Cond.instanceMethod ({ cls := "TrailMarkers", name := "needColour", desc := "(I)V" } : Jvm.MethodName)) ∈ lw_all := lw_g (lw_at lw_m6 108 rfl) rfl
theorem q1446 : (Jvm.Cond.code ({ cls := "TrailMarkers", name := "needColour", desc := "(I)V" } : Jvm.MethodName) prog_1_method_18_code (2 : Nat) (Option.none : Option Jvm.ClassFile.FieldType)) ∈ lw_all := lw_g (lw_at lw_m6 109 rfl) rfl
theorem q1447 : (Jvm.Cond.classLink "TrailMarkers" (143 : Nat) "java/lang/IndexOutOfBoundsException") ∈ lw_all := lw_g (lw_at lw_m6 110 rfl) rfl
theorem q1448 : (Jvm.Cond.instantiable "java/lang/IndexOutOfBoundsException" (6 : Nat)) ∈ lw_all := lw_g (lw_at lw_m6 111 rfl) rfl
theorem q1456 : (Jvm.Cond.methodLink "TrailMarkers" (145 : Nat) ({ cls := "java/lang/IndexOutOfBoundsException", name := "<init>", desc := "()V" } : Jvm.MethodName)) ∈ lw_all := lw_g (lw_at lw_m6 119 rfl) rfl
theorem q1457 : (Jvm.Cond.instanceMethod ({ cls := "java/lang/IndexOutOfBoundsException", name := "<init>", desc := "()V" } : Jvm.MethodName)) ∈ lw_all := lw_g (lw_at lw_m6 120 rfl) rfl
theorem q1458 : (Jvm.Cond.code ({ cls := "java/lang/IndexOutOfBoundsException", name := "<init>", desc := "()V" } : Jvm.MethodName) prog_27_method_1_code (1 : Nat) (Option.none : Option Jvm.ClassFile.FieldType)) ∈ lw_all := lw_g (lw_at lw_m6 121 rfl) rfl
theorem q1462 : (Jvm.Cond.methodLink "TrailMarkers" (153 : Nat) ({ cls := "TrailMarkers", name := "needCell", desc := "(II)V" } : Jvm.MethodName)) ∈ lw_all := lw_g (lw_at lw_m6 125 rfl) rfl
theorem q1464 : (Jvm.Cond.instanceMethod ({ cls := "TrailMarkers", name := "needCell", desc := "(II)V" } : Jvm.MethodName)) ∈ lw_all := lw_g (lw_at lw_m6 127 rfl) rfl
theorem q1465 : (Jvm.Cond.code ({ cls := "TrailMarkers", name := "needCell", desc := "(II)V" } : Jvm.MethodName) prog_1_method_16_code (3 : Nat) (Option.none : Option Jvm.ClassFile.FieldType)) ∈ lw_all := lw_g (lw_at lw_m6 128 rfl) rfl
theorem q1466 : (Jvm.Cond.classLink "TrailMarkers" (156 : Nat) "java/lang/IllegalStateException") ∈ lw_all := lw_g (lw_at lw_m6 129 rfl) rfl
theorem q1467 : (Jvm.Cond.methodLink "TrailMarkers" (158 : Nat) ({ cls := "java/lang/IllegalStateException", name := "<init>", desc := "()V" } : Jvm.MethodName)) ∈ lw_all := lw_g (lw_at lw_m6 130 rfl) rfl
theorem q1468 : (Jvm.Cond.instanceMethod ({ cls := "java/lang/IllegalStateException", name := "<init>", desc := "()V" } : Jvm.MethodName)) ∈ lw_all := lw_g (lw_at lw_m6 131 rfl) rfl
theorem q1469 : (Jvm.Cond.code ({ cls := "java/lang/IllegalStateException", name := "<init>", desc := "()V" } : Jvm.MethodName) prog_26_method_1_code (1 : Nat) (Option.none : Option Jvm.ClassFile.FieldType)) ∈ lw_all := lw_g (lw_at lw_m6 132 rfl) rfl
theorem q1478 : (Jvm.Cond.methodLink "TrailMarkers" (159 : Nat) ({ cls := "TrailMarkers", name := "needPost", desc := "(I)LTrailMarkers$Post;" } : Jvm.MethodName)) ∈ lw_all := lw_g (lw_at lw_m6 141 rfl) rfl
theorem q1480 : (Jvm.Cond.instanceMethod ({ cls := "TrailMarkers", name := "needPost", desc := "(I)LTrailMarkers$Post;" } : Jvm.MethodName)) ∈ lw_all := lw_g (lw_at lw_m6 143 rfl) rfl
theorem q1481 : (Jvm.Cond.code ({ cls := "TrailMarkers", name := "needPost", desc := "(I)LTrailMarkers$Post;" } : Jvm.MethodName) prog_1_method_17_code (2 : Nat) (Option.some (Jvm.ClassFile.FieldType.object "TrailMarkers$Post"))) ∈ lw_all := lw_g (lw_at lw_m6 144 rfl) rfl
theorem q1482 : (Jvm.Cond.methodLink "TrailMarkers" (163 : Nat) ({ cls := "TrailMarkers$Trails", name := "drop", desc := "(I)V" } : Jvm.MethodName)) ∈ lw_all := lw_g (lw_at lw_m6 145 rfl) rfl
theorem q1483 : (Jvm.Cond.instanceMethod ({ cls := "TrailMarkers$Trails", name := "drop", desc := "(I)V" } : Jvm.MethodName)) ∈ lw_all := lw_g (lw_at lw_m6 146 rfl) rfl
theorem q1484 : (Jvm.Cond.selects "TrailMarkers$Trails" ({ cls := "TrailMarkers$Trails", name := "drop", desc := "(I)V" } : Jvm.MethodName) ({ cls := "TrailMarkers$Trails", name := "drop", desc := "(I)V" } : Jvm.MethodName)) ∈ lw_all := lw_g (lw_at lw_m6 147 rfl) rfl
theorem q1485 : (Jvm.Cond.code ({ cls := "TrailMarkers$Trails", name := "drop", desc := "(I)V" } : Jvm.MethodName) prog_9_method_10_code (3 : Nat) (Option.none : Option Jvm.ClassFile.FieldType)) ∈ lw_all := lw_g (lw_at lw_m6 148 rfl) rfl
theorem q1493 : (Jvm.Cond.methodLink "TrailMarkers" (166 : Nat) ({ cls := "TrailMarkers$Post", name := "turned", desc := "(I)LTrailMarkers$Post;" } : Jvm.MethodName)) ∈ lw_all := lw_g (lw_at lw_m6 156 rfl) rfl
theorem q1501 : (Jvm.Cond.methodLink "TrailMarkers" (179 : Nat) ({ cls := "TrailMarkers", name := "changeState", desc := "(IZ)I" } : Jvm.MethodName)) ∈ lw_all := lw_g (lw_at lw_m6 164 rfl) rfl
theorem q1503 : (Jvm.Cond.instanceMethod ({ cls := "TrailMarkers", name := "changeState", desc := "(IZ)I" } : Jvm.MethodName)) ∈ lw_all := lw_g (lw_at lw_m6 166 rfl) rfl
theorem q1504 : (Jvm.Cond.codeWith ({ cls := "TrailMarkers", name := "changeState", desc := "(IZ)I" } : Jvm.MethodName) prog_1_method_22_code (6 : Nat) (Option.some Jvm.ClassFile.FieldType.int) [((18 : Nat), (39 : Nat), (40 : Nat), (58 : Nat))]) ∈ lw_all := lw_g (lw_at lw_m6 167 rfl) rfl
theorem q1519 : (Jvm.Cond.methodLink "TrailMarkers" (187 : Nat) ({ cls := "TrailMarkers$Trails", name := "takeBlock", desc := "(II)V" } : Jvm.MethodName)) ∈ lw_all := lw_g (lw_at lw_m6 182 rfl) rfl
theorem q1520 : (Jvm.Cond.instanceMethod ({ cls := "TrailMarkers$Trails", name := "takeBlock", desc := "(II)V" } : Jvm.MethodName)) ∈ lw_all := lw_g (lw_at lw_m6 183 rfl) rfl
theorem q1521 : (Jvm.Cond.selects "TrailMarkers$Trails" ({ cls := "TrailMarkers$Trails", name := "takeBlock", desc := "(II)V" } : Jvm.MethodName) ({ cls := "TrailMarkers$Trails", name := "takeBlock", desc := "(II)V" } : Jvm.MethodName)) ∈ lw_all := lw_g (lw_at lw_m6 184 rfl) rfl
theorem q1522 : (Jvm.Cond.code ({ cls := "TrailMarkers$Trails", name := "takeBlock", desc := "(II)V" } : Jvm.MethodName) prog_9_method_12_code (3 : Nat) (Option.none : Option Jvm.ClassFile.FieldType)) ∈ lw_all := lw_g (lw_at lw_m6 185 rfl) rfl
theorem q1530 : (Jvm.Cond.methodLink "TrailMarkers" (193 : Nat) ({ cls := "TrailMarkers", name := "leastOf", desc := "(I)I" } : Jvm.MethodName)) ∈ lw_all := lw_g (lw_at lw_m6 193 rfl) rfl
theorem q1531 : (Jvm.Cond.static ({ cls := "TrailMarkers", name := "leastOf", desc := "(I)I" } : Jvm.MethodName)) ∈ lw_all := lw_g (lw_at lw_m6 194 rfl) rfl
theorem q1532 : (Jvm.Cond.code ({ cls := "TrailMarkers", name := "leastOf", desc := "(I)I" } : Jvm.MethodName) prog_1_method_4_code (1 : Nat) (Option.some Jvm.ClassFile.FieldType.int)) ∈ lw_all := lw_g (lw_at lw_m6 195 rfl) rfl
theorem q1533 : (Jvm.Cond.methodLink "TrailMarkers" (196 : Nat) ({ cls := "TrailMarkers", name := "mostOf", desc := "(I)I" } : Jvm.MethodName)) ∈ lw_all := lw_g (lw_at lw_m6 196 rfl) rfl
theorem q1534 : (Jvm.Cond.static ({ cls := "TrailMarkers", name := "mostOf", desc := "(I)I" } : Jvm.MethodName)) ∈ lw_all := lw_g (lw_at lw_m6 197 rfl) rfl
theorem q1535 : (Jvm.Cond.code ({ cls := "TrailMarkers", name := "mostOf", desc := "(I)I" } : Jvm.MethodName) prog_1_method_3_code (1 : Nat) (Option.some Jvm.ClassFile.FieldType.int)) ∈ lw_all := lw_g (lw_at lw_m6 198 rfl) rfl
theorem q1543 : (Jvm.Cond.methodLink "TrailMarkers" (203 : Nat) ({ cls := "java/util/ArrayDeque", name := "isEmpty", desc := "()Z" } : Jvm.MethodName)) ∈ lw_all := lw_g (lw_at lw_m6 206 rfl) rfl
theorem q1544 : (Jvm.Cond.instanceMethod ({ cls := "java/util/ArrayDeque", name := "isEmpty", desc := "()Z" } : Jvm.MethodName)) ∈ lw_all := lw_g (lw_at lw_m6 207 rfl) rfl
theorem q1545 : (Jvm.Cond.selects "java/util/ArrayDeque" ({ cls := "java/util/ArrayDeque", name := "isEmpty", desc := "()Z" } : Jvm.MethodName) ({ cls := "java/util/ArrayDeque", name := "isEmpty", desc := "()Z" } : Jvm.MethodName)) ∈ lw_all := lw_g (lw_at lw_m6 208 rfl) rfl
theorem q1546 : (Jvm.Cond.code ({ cls := "java/util/ArrayDeque", name := "isEmpty", desc := "()Z" } : Jvm.MethodName) prog_49_method_38_code (1 : Nat) (Option.some Jvm.ClassFile.FieldType.boolean)) ∈ lw_all := lw_g (lw_at lw_m6 209 rfl) rfl
theorem q1547 : (Jvm.Cond.methodLink "TrailMarkers" (207 : Nat) ({ cls := "java/util/ArrayDeque", name := "removeLast", desc := "()Ljava/lang/Object;" } : Jvm.MethodName)) ∈ lw_all := lw_g (lw_at lw_m6 210 rfl) rfl
theorem q1548 : (Jvm.Cond.instanceMethod ({ cls := "java/util/ArrayDeque", name := "removeLast", desc := "()Ljava/lang/Object;" } : Jvm.MethodName)) ∈ lw_all := lw_g (lw_at lw_m6 211 rfl) rfl
theorem q1549 : (Jvm.Cond.selects "java/util/ArrayDeque" ({ cls := "java/util/ArrayDeque", name := "removeLast", desc := "()Ljava/lang/Object;" } : Jvm.MethodName) ({ cls := "java/util/ArrayDeque", name := "removeLast", desc := "()Ljava/lang/Object;" } : Jvm.MethodName)) ∈ lw_all := lw_g (lw_at lw_m6 212 rfl) rfl
theorem q1550 : (Jvm.Cond.code ({ cls := "java/util/ArrayDeque", name := "removeLast", desc := "()Ljava/lang/Object;" } : Jvm.MethodName) prog_49_method_19_code (2 : Nat) (Option.some (Jvm.ClassFile.FieldType.object "java/lang/Object"))) ∈ lw_all := lw_g (lw_at lw_m6 213 rfl) rfl
theorem q1579 : (Jvm.Cond.methodLink "TrailMarkers" (213 : Nat) ({ cls := "TrailMarkers", name := "completeColours", desc := "()I" } : Jvm.MethodName)) ∈ lw_all := lw_g (lw_at lw_m7 2 rfl) rfl
theorem q1581 : (Jvm.Cond.instanceMethod ({ cls := "TrailMarkers", name := "completeColours", desc := "()I" } : Jvm.MethodName)) ∈ lw_all := lw_g (lw_at lw_m7 4 rfl) rfl
theorem q1582 : (Jvm.Cond.code ({ cls := "TrailMarkers", name := "completeColours", desc := "()I" } : Jvm.MethodName) prog_1_method_32_code (4 : Nat) (Option.some Jvm.ClassFile.FieldType.int)) ∈ lw_all := lw_g (lw_at lw_m7 5 rfl) rfl
theorem q1583 : (Jvm.Cond.methodLink "TrailMarkers" (220 : Nat) ({ cls := "TrailMarkers$Guide", name := "isComplete", desc := "(I)Z" } : Jvm.MethodName)) ∈ lw_all := lw_g (lw_at lw_m7 6 rfl) rfl
theorem q1584 : (Jvm.Cond.instanceMethod ({ cls := "TrailMarkers$Guide", name := "isComplete", desc := "(I)Z" } : Jvm.MethodName)) ∈ lw_all := lw_g (lw_at lw_m7 7 rfl) rfl
theorem q1585 : (Jvm.Cond.selects "TrailMarkers$Guide" ({ cls := "TrailMarkers$Guide", name := "isComplete", desc := "(I)Z" } : Jvm.MethodName) ({ cls := "TrailMarkers$Guide", name := "isComplete", desc := "(I)Z" } : Jvm.MethodName)) ∈ lw_all := lw_g (lw_at lw_m7 8 rfl) rfl
theorem q1586 : (Jvm.Cond.code ({ cls := "TrailMarkers$Guide", name := "isComplete", desc := "(I)Z" } : Jvm.MethodName) prog_3_method_15_code (3 : Nat) (Option.some Jvm.ClassFile.FieldType.boolean)) ∈ lw_all := lw_g (lw_at lw_m7 9 rfl) rfl
theorem q1596 : (Jvm.Cond.methodLink "TrailMarkers" (224 : Nat) ({ cls := "TrailMarkers$Post", name := "cell", desc := "()I" } : Jvm.MethodName)) ∈ lw_all := lw_g (lw_at lw_m7 19 rfl) rfl
theorem q1597 : (Jvm.Cond.methodLink "TrailMarkers" (231 : Nat) ({ cls := "TrailMarkers", name := "comingFrom", desc := "(I)I" } : Jvm.MethodName)) ∈ lw_all := lw_g (lw_at lw_m7 20 rfl) rfl
theorem q1599 : (Jvm.Cond.instanceMethod ({ cls := "TrailMarkers", name := "comingFrom", desc := "(I)I" } : Jvm.MethodName)) ∈ lw_all := lw_g (lw_at lw_m7 22 rfl) rfl
theorem q1600 : (Jvm.Cond.code ({ cls := "TrailMarkers", name := "comingFrom", desc := "(I)I" } : Jvm.MethodName) prog_1_method_35_code (5 : Nat) (Option.some Jvm.ClassFile.FieldType.int)) ∈ lw_all := lw_g (lw_at lw_m7 23 rfl) rfl
theorem q1601 : (Jvm.Cond.methodLink "TrailMarkers" (253 : Nat) ({ cls := "TrailMarkers$Post", name := "standsFor", desc := "(I)Z" } : Jvm.MethodName)) ∈ lw_all := lw_g (lw_at lw_m7 24 rfl) rfl
theorem q1602 : (Jvm.Cond.methodLink "TrailMarkers" (238 : Nat) ({ cls := "TrailMarkers$Guide", name := "find", desc := "(I)LTrailMarkers$Way;" } : Jvm.MethodName)) ∈ lw_all := lw_g (lw_at lw_m7 25 rfl) rfl
theorem q1603 : (Jvm.Cond.methodLink "TrailMarkers" (234 : Nat) ({ cls := "TrailMarkers", name := "onward", desc := "(II)I" } : Jvm.MethodName)) ∈ lw_all := lw_g (lw_at lw_m7 26 rfl) rfl
theorem q1605 : (Jvm.Cond.instanceMethod ({ cls := "TrailMarkers", name := "onward", desc := "(II)I" } : Jvm.MethodName)) ∈ lw_all := lw_g (lw_at lw_m7 28 rfl) rfl
theorem q1606 : (Jvm.Cond.code ({ cls := "TrailMarkers", name := "onward", desc := "(II)I" } : Jvm.MethodName) prog_1_method_34_code (4 : Nat) (Option.some Jvm.ClassFile.FieldType.int)) ∈ lw_all := lw_g (lw_at lw_m7 29 rfl) rfl
theorem q1614 : (Jvm.Cond.methodLink "TrailMarkers" (256 : Nat) ({ cls := "TrailMarkers$Trails", name := "postAt", desc := "(II)I" } : Jvm.MethodName)) ∈ lw_all := lw_g (lw_at lw_m7 37 rfl) rfl
theorem q1622 : (Jvm.Cond.methodLink "TrailMarkers" (262 : Nat) ({ cls := "TrailMarkers", name := "postsOf", desc := "(I)I" } : Jvm.MethodName)) ∈ lw_all := lw_g (lw_at lw_m7 45 rfl) rfl
theorem q1624 : (Jvm.Cond.instanceMethod ({ cls := "TrailMarkers", name := "postsOf", desc := "(I)I" } : Jvm.MethodName)) ∈ lw_all := lw_g (lw_at lw_m7 47 rfl) rfl
theorem q1625 : (Jvm.Cond.code ({ cls := "TrailMarkers", name := "postsOf", desc := "(I)I" } : Jvm.MethodName) prog_1_method_38_code (4 : Nat) (Option.some Jvm.ClassFile.FieldType.int)) ∈ lw_all := lw_g (lw_at lw_m7 48 rfl) rfl
theorem q1626 : (Jvm.Cond.methodLink "TrailMarkers" (265 : Nat) ({ cls := "TrailMarkers$Trails", name := "begin", desc := "(I)I" } : Jvm.MethodName)) ∈ lw_all := lw_g (lw_at lw_m7 49 rfl) rfl
theorem q1627 : (Jvm.Cond.methodLink "TrailMarkers" (271 : Nat) ({ cls := "TrailMarkers", name := "rightGuesses", desc := "(LTrailMarkers$Guide;I)I" } : Jvm.MethodName)) ∈ lw_all := lw_g (lw_at lw_m7 50 rfl) rfl
theorem q1629 : (Jvm.Cond.instanceMethod ({ cls := "TrailMarkers", name := "rightGuesses", desc := "(LTrailMarkers$Guide;I)I" } : Jvm.MethodName)) ∈ lw_all := lw_g (lw_at lw_m7 52 rfl) rfl
theorem q1630 : (Jvm.Cond.code ({ cls := "TrailMarkers", name := "rightGuesses", desc := "(LTrailMarkers$Guide;I)I" } : Jvm.MethodName) prog_1_method_39_code (5 : Nat) (Option.some Jvm.ClassFile.FieldType.int)) ∈ lw_all := lw_g (lw_at lw_m7 53 rfl) rfl
theorem q1631 : (Jvm.Cond.methodLink "TrailMarkers" (278 : Nat) ({ cls := "TrailMarkers$Trails", name := "hasMissingAt", desc := "(II)Z" } : Jvm.MethodName)) ∈ lw_all := lw_g (lw_at lw_m7 54 rfl) rfl
theorem q1632 : (Jvm.Cond.instanceMethod ({ cls := "TrailMarkers$Trails", name := "hasMissingAt", desc := "(II)Z" } : Jvm.MethodName)) ∈ lw_all := lw_g (lw_at lw_m7 55 rfl) rfl
theorem q1633 : (Jvm.Cond.selects "TrailMarkers$Trails" ({ cls := "TrailMarkers$Trails", name := "hasMissingAt", desc := "(II)Z" } : Jvm.MethodName) ({ cls := "TrailMarkers$Trails", name := "hasMissingAt", desc := "(II)Z" } : Jvm.MethodName)) ∈ lw_all := lw_g (lw_at lw_m7 56 rfl) rfl
theorem q1634 : (Jvm.Cond.code ({ cls := "TrailMarkers$Trails", name := "hasMissingAt", desc := "(II)Z" } : Jvm.MethodName) prog_9_method_16_code (4 : Nat) (Option.some Jvm.ClassFile.FieldType.boolean)) ∈ lw_all := lw_g (lw_at lw_m7 57 rfl) rfl
theorem q1649 : (Jvm.Cond.methodLink "TrailMarkers" (288 : Nat) ({ cls := "TrailMarkers", name := "routeFrom", desc := "(I)LTrailMarkers$Guide;" } : Jvm.MethodName)) ∈ lw_all := lw_g (lw_at lw_m7 72 rfl) rfl
theorem q1651 : (Jvm.Cond.instanceMethod ({ cls := "TrailMarkers", name := "routeFrom", desc := "(I)LTrailMarkers$Guide;" } : Jvm.MethodName)) ∈ lw_all := lw_g (lw_at lw_m7 74 rfl) rfl
theorem q1652 : (Jvm.Cond.code ({ cls := "TrailMarkers", name := "routeFrom", desc := "(I)LTrailMarkers$Guide;" } : Jvm.MethodName) prog_1_method_41_code (2 : Nat) (Option.some (Jvm.ClassFile.FieldType.object "TrailMarkers$Guide"))) ∈ lw_all := lw_g (lw_at lw_m7 75 rfl) rfl
theorem q1653 : (Jvm.Cond.methodLink "TrailMarkers" (291 : Nat) ({ cls := "TrailMarkers$Guide", name := "figure", desc := "(I)I" } : Jvm.MethodName)) ∈ lw_all := lw_g (lw_at lw_m7 76 rfl) rfl
theorem q1654 : (Jvm.Cond.instanceMethod ({ cls := "TrailMarkers$Guide", name := "figure", desc := "(I)I" } : Jvm.MethodName)) ∈ lw_all := lw_g (lw_at lw_m7 77 rfl) rfl
theorem q1655 : (Jvm.Cond.selects "TrailMarkers$Guide" ({ cls := "TrailMarkers$Guide", name := "figure", desc := "(I)I" } : Jvm.MethodName) ({ cls := "TrailMarkers$Guide", name := "figure", desc := "(I)I" } : Jvm.MethodName)) ∈ lw_all := lw_g (lw_at lw_m7 78 rfl) rfl
theorem q1656 : (Jvm.Cond.code ({ cls := "TrailMarkers$Guide", name := "figure", desc := "(I)I" } : Jvm.MethodName) prog_3_method_13_code (2 : Nat) (Option.some Jvm.ClassFile.FieldType.int)) ∈ lw_all := lw_g (lw_at lw_m7 79 rfl) rfl
theorem q1685 : (Jvm.Cond.methodLink "TrailMarkers" (315 : Nat) ({ cls := "TrailMarkers", name := "cellsOf", desc := "(I)Ljava/util/LinkedHashSet;" } : Jvm.MethodName)) ∈ lw_all := lw_g (lw_at lw_m7 108 rfl) rfl
theorem q1687 : (Jvm.Cond.instanceMethod ({ cls := "TrailMarkers", name := "cellsOf", desc := "(I)Ljava/util/LinkedHashSet;" } : Jvm.MethodName)) ∈ lw_all := lw_g (lw_at lw_m7 110 rfl) rfl
theorem q1688 : (Jvm.Cond.code ({ cls := "TrailMarkers", name := "cellsOf", desc := "(I)Ljava/util/LinkedHashSet;" } : Jvm.MethodName) prog_1_method_46_code (5 : Nat) (Option.some (Jvm.ClassFile.FieldType.object "java/util/LinkedHashSet"))) ∈ lw_all := lw_g (lw_at lw_m7 111 rfl) rfl
theorem q1689 : (Jvm.Cond.classLink "TrailMarkers" (303 : Nat) "java/util/LinkedHashSet") ∈ lw_all := lw_g (lw_at lw_m7 112 rfl) rfl
theorem q1690 : (Jvm.Cond.instantiable "java/util/LinkedHashSet" (1 : Nat)) ∈ lw_all := lw_g (lw_at lw_m7 113 rfl) rfl
theorem q1691 : (Jvm.Cond.methodLink "TrailMarkers" (305 : Nat) ({ cls := "java/util/LinkedHashSet", name := "<init>", desc := "()V" } : Jvm.MethodName)) ∈ lw_all := lw_g (lw_at lw_m7 114 rfl) rfl
theorem q1692 : (Jvm.Cond.instanceMethod ({ cls := "java/util/LinkedHashSet", name := "<init>", desc := "()V" } : Jvm.MethodName)) ∈ lw_all := lw_g (lw_at lw_m7 115 rfl) rfl
theorem q1693 : (Jvm.Cond.code ({ cls := "java/util/LinkedHashSet", name := "<init>", desc := "()V" } : Jvm.MethodName) prog_67_method_3_code (1 : Nat) (Option.none : Option Jvm.ClassFile.FieldType)) ∈ lw_all := lw_g (lw_at lw_m7 116 rfl) rfl
theorem q2177 : (Jvm.Cond.methodLink "TrailMarkers" (306 : Nat) ({ cls := "TrailMarkers$Cell", name := "ofTold", desc := "(I)LTrailMarkers$Cell;" } : Jvm.MethodName)) ∈ lw_all := lw_g (lw_at lw_m9 120 rfl) rfl
theorem q2178 : (Jvm.Cond.static ({ cls := "TrailMarkers$Cell", name := "ofTold", desc := "(I)LTrailMarkers$Cell;" } : Jvm.MethodName)) ∈ lw_all := lw_g (lw_at lw_m9 121 rfl) rfl
theorem q2179 : (Jvm.Cond.code ({ cls := "TrailMarkers$Cell", name := "ofTold", desc := "(I)LTrailMarkers$Cell;" } : Jvm.MethodName) prog_2_method_2_code (1 : Nat) (Option.some (Jvm.ClassFile.FieldType.object "TrailMarkers$Cell"))) ∈ lw_all := lw_g (lw_at lw_m9 122 rfl) rfl
theorem q2193 : (Jvm.Cond.methodLink "TrailMarkers" (312 : Nat) ({ cls := "java/util/LinkedHashSet", name := "add", desc := "(Ljava/lang/Object;)Z" } : Jvm.MethodName)) ∈ lw_all := lw_g (lw_at lw_m9 136 rfl) rfl
theorem q2194 : (Jvm.Cond.sameMethod "java/util/LinkedHashSet" "java/util/HashSet" "add" "(Ljava/lang/Object;)Z") ∈ lw_all := lw_g (lw_at lw_m9 137 rfl) rfl
theorem q2196 : (Jvm.Cond.selects "java/util/LinkedHashSet" ({ cls := "java/util/LinkedHashSet", name := "add", desc := "(Ljava/lang/Object;)Z" } : Jvm.MethodName) ({ cls := "java/util/HashSet", name := "add", desc := "(Ljava/lang/Object;)Z" } : Jvm.MethodName)) ∈ lw_all := lw_g (lw_at lw_m9 139 rfl) rfl
theorem q2197 : (Jvm.Cond.instanceMethod ({ cls := "java/util/HashSet", name := "add", desc := "(Ljava/lang/Object;)Z" } : Jvm.MethodName)) ∈ lw_all := lw_g (lw_at lw_m9 140 rfl) rfl
theorem q2198 : (Jvm.Cond.code ({ cls := "java/util/HashSet", name := "add", desc := "(Ljava/lang/Object;)Z" } : Jvm.MethodName) prog_60_method_10_code (2 : Nat) (Option.some Jvm.ClassFile.FieldType.boolean)) ∈ lw_all := lw_g (lw_at lw_m9 141 rfl) rfl
theorem q2593 : (Jvm.Cond.instanceMethod ({ cls := "java/lang/Integer", name := "intValue", desc := "()I" } : Jvm.MethodName)) ∈ lw_all := lw_g (lw_at lw_m11 56 rfl) rfl
theorem q2594 : (Jvm.Cond.selects "java/lang/Integer" ({ cls := "java/lang/Integer", name := "intValue", desc := "()I" } : Jvm.MethodName) ({ cls := "java/lang/Integer", name := "intValue", desc := "()I" } : Jvm.MethodName)) ∈ lw_all := lw_g (lw_at lw_m11 57 rfl) rfl
theorem q2595 : (Jvm.Cond.code ({ cls := "java/lang/Integer", name := "intValue", desc := "()I" } : Jvm.MethodName) prog_28_method_27_code (1 : Nat) (Option.some Jvm.ClassFile.FieldType.int)) ∈ lw_all := lw_g (lw_at lw_m11 58 rfl) rfl
theorem q2682 : (Jvm.Cond.methodLink "TrailMarkers" (319 : Nat) ({ cls := "java/util/LinkedHashSet", name := "iterator", desc := "()Ljava/util/Iterator;" } : Jvm.MethodName)) ∈ lw_all := lw_g (lw_at lw_m11 145 rfl) rfl
theorem q2683 : (Jvm.Cond.sameMethod "java/util/LinkedHashSet" "java/util/HashSet" "iterator" "()Ljava/util/Iterator;") ∈ lw_all := lw_g (lw_at lw_m11 146 rfl) rfl
theorem q2685 : (Jvm.Cond.selects "java/util/LinkedHashSet" ({ cls := "java/util/LinkedHashSet", name := "iterator", desc := "()Ljava/util/Iterator;" } : Jvm.MethodName) ({ cls := "java/util/HashSet", name := "iterator", desc := "()Ljava/util/Iterator;" } : Jvm.MethodName)) ∈ lw_all := lw_g (lw_at lw_m11 148 rfl) rfl
theorem q2686 : (Jvm.Cond.instanceMethod ({ cls := "java/util/HashSet", name := "iterator", desc := "()Ljava/util/Iterator;" } : Jvm.MethodName)) ∈ lw_all := lw_g (lw_at lw_m11 149 rfl) rfl
theorem q2687 : (Jvm.Cond.code ({ cls := "java/util/HashSet", name := "iterator", desc := "()Ljava/util/Iterator;" } : Jvm.MethodName) prog_60_method_6_code (1 : Nat) (Option.some (Jvm.ClassFile.FieldType.object "java/util/Iterator"))) ∈ lw_all := lw_g (lw_at lw_m11 150 rfl) rfl
theorem q2784 : (Jvm.Cond.methodLink "TrailMarkers" (323 : Nat) ({ cls := "java/util/Iterator", name := "hasNext", desc := "()Z" } : Jvm.MethodName)) ∈ lw_all := lw_g (lw_at lw_m12 7 rfl) rfl
theorem q2794 : (Jvm.Cond.selects "java/util/LinkedHashMap$LinkedKeyIterator" ({ cls := "java/util/Iterator", name := "hasNext", desc := "()Z" } : Jvm.MethodName) ({ cls := "java/util/LinkedHashMap$LinkedHashIterator", name := "hasNext", desc := "()Z" } : Jvm.MethodName)) ∈ lw_all := lw_g (lw_at lw_m12 17 rfl) rfl
theorem q2796 : (Jvm.Cond.instanceMethod ({ cls := "java/util/LinkedHashMap$LinkedHashIterator", name := "hasNext", desc := "()Z" } : Jvm.MethodName)) ∈ lw_all := lw_g (lw_at lw_m12 19 rfl) rfl
theorem q2798 : (Jvm.Cond.code ({ cls := "java/util/LinkedHashMap$LinkedHashIterator", name := "hasNext", desc := "()Z" } : Jvm.MethodName) prog_64_method_2_code (1 : Nat) (Option.some Jvm.ClassFile.FieldType.boolean)) ∈ lw_all := lw_g (lw_at lw_m12 21 rfl) rfl
theorem q2800 : (Jvm.Cond.methodLink "TrailMarkers" (328 : Nat) ({ cls := "java/util/Iterator", name := "next", desc := "()Ljava/lang/Object;" } : Jvm.MethodName)) ∈ lw_all := lw_g (lw_at lw_m12 23 rfl) rfl
theorem q2814 : (Jvm.Cond.selects "java/util/LinkedHashMap$LinkedKeyIterator" ({ cls := "java/util/Iterator", name := "next", desc := "()Ljava/lang/Object;" } : Jvm.MethodName) ({ cls := "java/util/LinkedHashMap$LinkedKeyIterator", name := "next", desc := "()Ljava/lang/Object;" } : Jvm.MethodName)) ∈ lw_all := lw_g (lw_at lw_m12 37 rfl) rfl
theorem q2816 : (Jvm.Cond.instanceMethod ({ cls := "java/util/LinkedHashMap$LinkedKeyIterator", name := "next", desc := "()Ljava/lang/Object;" } : Jvm.MethodName)) ∈ lw_all := lw_g (lw_at lw_m12 39 rfl) rfl
theorem q2818 : (Jvm.Cond.code ({ cls := "java/util/LinkedHashMap$LinkedKeyIterator", name := "next", desc := "()Ljava/lang/Object;" } : Jvm.MethodName) prog_65_method_2_code (1 : Nat) (Option.some (Jvm.ClassFile.FieldType.object "java/lang/Object"))) ∈ lw_all := lw_g (lw_at lw_m12 41 rfl) rfl
theorem q2832 : (Jvm.Cond.classLink "TrailMarkers" (307 : Nat) "TrailMarkers$Cell") ∈ lw_all := lw_g (lw_at lw_m12 55 rfl) rfl
theorem q2833 : (Jvm.Cond.methodLink "TrailMarkers" (330 : Nat) ({ cls := "java/util/LinkedHashSet", name := "contains", desc := "(Ljava/lang/Object;)Z" } : Jvm.MethodName)) ∈ lw_all := lw_g (lw_at lw_m12 56 rfl) rfl
theorem q2834 : (Jvm.Cond.sameMethod "java/util/LinkedHashSet" "java/util/HashSet" "contains" "(Ljava/lang/Object;)Z") ∈ lw_all := lw_g (lw_at lw_m12 57 rfl) rfl
theorem q2836 : (Jvm.Cond.selects "java/util/LinkedHashSet" ({ cls := "java/util/LinkedHashSet", name := "contains", desc := "(Ljava/lang/Object;)Z" } : Jvm.MethodName) ({ cls := "java/util/HashSet", name := "contains", desc := "(Ljava/lang/Object;)Z" } : Jvm.MethodName)) ∈ lw_all := lw_g (lw_at lw_m12 59 rfl) rfl
theorem q2837 : (Jvm.Cond.instanceMethod ({ cls := "java/util/HashSet", name := "contains", desc := "(Ljava/lang/Object;)Z" } : Jvm.MethodName)) ∈ lw_all := lw_g (lw_at lw_m12 60 rfl) rfl
theorem q2838 : (Jvm.Cond.code ({ cls := "java/util/HashSet", name := "contains", desc := "(Ljava/lang/Object;)Z" } : Jvm.MethodName) prog_60_method_9_code (2 : Nat) (Option.some Jvm.ClassFile.FieldType.boolean)) ∈ lw_all := lw_g (lw_at lw_m12 61 rfl) rfl
theorem q2860 : (Jvm.Cond.methodLink "TrailMarkers" (333 : Nat) ({ cls := "TrailMarkers$Guide", name := "plainFrom", desc := "(I)LTrailMarkers$Walk;" } : Jvm.MethodName)) ∈ lw_all := lw_g (lw_at lw_m12 83 rfl) rfl
theorem q2861 : (Jvm.Cond.methodLink "TrailMarkers" (348 : Nat) ({ cls := "TrailMarkers", name := "stepX", desc := "(I)I" } : Jvm.MethodName)) ∈ lw_all := lw_g (lw_at lw_m12 84 rfl) rfl
theorem q2862 : (Jvm.Cond.methodLink "TrailMarkers" (351 : Nat) ({ cls := "TrailMarkers", name := "stepY", desc := "(I)I" } : Jvm.MethodName)) ∈ lw_all := lw_g (lw_at lw_m12 85 rfl) rfl
theorem q2870 : (Jvm.Cond.methodLink "TrailMarkers" (358 : Nat) ({ cls := "TrailMarkers", name := "withOther", desc := "(I)LTrailMarkers$Trails;" } : Jvm.MethodName)) ∈ lw_all := lw_g (lw_at lw_m12 93 rfl) rfl
theorem q2872 : (Jvm.Cond.instanceMethod ({ cls := "TrailMarkers", name := "withOther", desc := "(I)LTrailMarkers$Trails;" } : Jvm.MethodName)) ∈ lw_all := lw_g (lw_at lw_m12 95 rfl) rfl
theorem q2873 : (Jvm.Cond.code ({ cls := "TrailMarkers", name := "withOther", desc := "(I)LTrailMarkers$Trails;" } : Jvm.MethodName) prog_1_method_50_code (3 : Nat) (Option.some (Jvm.ClassFile.FieldType.object "TrailMarkers$Trails"))) ∈ lw_all := lw_g (lw_at lw_m12 96 rfl) rfl
theorem q2874 : (Jvm.Cond.methodLink "TrailMarkers" (354 : Nat) ({ cls := "TrailMarkers$Post", name := "inState", desc := "(Z)LTrailMarkers$Post;" } : Jvm.MethodName)) ∈ lw_all := lw_g (lw_at lw_m12 97 rfl) rfl
theorem q2875 : (Jvm.Cond.methodLink "TrailMarkers" (362 : Nat) ({ cls := "TrailMarkers", name := "figureOf", desc := "(LTrailMarkers$Trails;II)I" } : Jvm.MethodName)) ∈ lw_all := lw_g (lw_at lw_m12 98 rfl) rfl
theorem q2877 : (Jvm.Cond.instanceMethod ({ cls := "TrailMarkers", name := "figureOf", desc := "(LTrailMarkers$Trails;II)I" } : Jvm.MethodName)) ∈ lw_all := lw_g (lw_at lw_m12 100 rfl) rfl
theorem q2878 : (Jvm.Cond.code ({ cls := "TrailMarkers", name := "figureOf", desc := "(LTrailMarkers$Trails;II)I" } : Jvm.MethodName) prog_1_method_49_code (5 : Nat) (Option.some Jvm.ClassFile.FieldType.int)) ∈ lw_all := lw_g (lw_at lw_m12 101 rfl) rfl
theorem q2893 : (Jvm.Cond.methodLink "TrailMarkers" (366 : Nat) ({ cls := "TrailMarkers", name := "extreme", desc := "(IZI)I" } : Jvm.MethodName)) ∈ lw_all := lw_g (lw_at lw_m12 116 rfl) rfl
theorem q2895 : (Jvm.Cond.instanceMethod ({ cls := "TrailMarkers", name := "extreme", desc := "(IZI)I" } : Jvm.MethodName)) ∈ lw_all := lw_g (lw_at lw_m12 118 rfl) rfl
theorem q2896 : (Jvm.Cond.code ({ cls := "TrailMarkers", name := "extreme", desc := "(IZI)I" } : Jvm.MethodName) prog_1_method_53_code (11 : Nat) (Option.some Jvm.ClassFile.FieldType.int)) ∈ lw_all := lw_g (lw_at lw_m12 119 rfl) rfl
theorem q2918 : (Jvm.Cond.methodLink "TrailMarkers" (389 : Nat) ({ cls := "TrailMarkers$Guide", name := "ways", desc := "()I" } : Jvm.MethodName)) ∈ lw_all := lw_g (lw_at lw_m12 141 rfl) rfl
theorem q2919 : (Jvm.Cond.instanceMethod ({ cls := "TrailMarkers$Guide", name := "ways", desc := "()I" } : Jvm.MethodName)) ∈ lw_all := lw_g (lw_at lw_m12 142 rfl) rfl
theorem q2920 : (Jvm.Cond.selects "TrailMarkers$Guide" ({ cls := "TrailMarkers$Guide", name := "ways", desc := "()I" } : Jvm.MethodName) ({ cls := "TrailMarkers$Guide", name := "ways", desc := "()I" } : Jvm.MethodName)) ∈ lw_all := lw_g (lw_at lw_m12 143 rfl) rfl
theorem q2921 : (Jvm.Cond.code ({ cls := "TrailMarkers$Guide", name := "ways", desc := "()I" } : Jvm.MethodName) prog_3_method_12_code (1 : Nat) (Option.some Jvm.ClassFile.FieldType.int)) ∈ lw_all := lw_g (lw_at lw_m12 144 rfl) rfl
theorem q2922 : (Jvm.Cond.methodLink "TrailMarkers" (392 : Nat) ({ cls := "java/lang/Float", name := "floatToIntBits", desc := "(F)I" } : Jvm.MethodName)) ∈ lw_all := lw_g (lw_at lw_m12 145 rfl) rfl
theorem q2923 : (Jvm.Cond.static ({ cls := "java/lang/Float", name := "floatToIntBits", desc := "(F)I" } : Jvm.MethodName)) ∈ lw_all := lw_g (lw_at lw_m12 146 rfl) rfl
theorem q2924 : (Jvm.Cond.code ({ cls := "java/lang/Float", name := "floatToIntBits", desc := "(F)I" } : Jvm.MethodName) prog_24_method_24_code (1 : Nat) (Option.some Jvm.ClassFile.FieldType.int)) ∈ lw_all := lw_g (lw_at lw_m12 147 rfl) rfl
theorem q2928 : (Jvm.Cond.methodLinkNest "TrailMarkers" (398 : Nat) ({ cls := "TrailMarkers$Guide", name := "steps", desc := "()I" } : Jvm.MethodName) "TrailMarkers") ∈ lw_tbl := lw_at lw_m12 151 rfl
theorem q2936 : (Jvm.Cond.classLink "TrailMarkers" (401 : Nat) "java/lang/StringBuilder") ∈ lw_all := lw_g (lw_at lw_m12 159 rfl) rfl
theorem q2937 : (Jvm.Cond.methodLink "TrailMarkers" (436 : Nat) ({ cls := "java/lang/StringBuilder", name := "<init>", desc := "()V" } : Jvm.MethodName)) ∈ lw_all := lw_g (lw_at lw_m12 160 rfl) rfl
theorem q2938 : (Jvm.Cond.methodLink "TrailMarkers" (437 : Nat) ({ cls := "TrailMarkers", name := "marksOf", desc := "(LTrailMarkers$Guide;)[I" } : Jvm.MethodName)) ∈ lw_all := lw_g (lw_at lw_m12 161 rfl) rfl
theorem q2940 : (Jvm.Cond.instanceMethod ({ cls := "TrailMarkers", name := "marksOf", desc := "(LTrailMarkers$Guide;)[I" } : Jvm.MethodName)) ∈ lw_all := lw_g (lw_at lw_m12 163 rfl) rfl
theorem q2941 : (Jvm.Cond.code ({ cls := "TrailMarkers", name := "marksOf", desc := "(LTrailMarkers$Guide;)[I" } : Jvm.MethodName) prog_1_method_64_code (6 : Nat) (Option.some (Jvm.ClassFile.FieldType.array Jvm.ClassFile.FieldType.int))) ∈ lw_all := lw_g (lw_at lw_m12 164 rfl) rfl
theorem q2942 : (Jvm.Cond.classLink "TrailMarkers" (415 : Nat) "java/util/LinkedHashMap") ∈ lw_all := lw_g (lw_at lw_m12 165 rfl) rfl
theorem q2943 : (Jvm.Cond.methodLink "TrailMarkers" (417 : Nat) ({ cls := "java/util/LinkedHashMap", name := "<init>", desc := "()V" } : Jvm.MethodName)) ∈ lw_all := lw_g (lw_at lw_m12 166 rfl) rfl
theorem q2944 : (Jvm.Cond.instanceMethod ({ cls := "java/util/LinkedHashMap", name := "<init>", desc := "()V" } : Jvm.MethodName)) ∈ lw_all := lw_g (lw_at lw_m12 167 rfl) rfl
theorem q2945 : (Jvm.Cond.code ({ cls := "java/util/LinkedHashMap", name := "<init>", desc := "()V" } : Jvm.MethodName) prog_62_method_16_code (1 : Nat) (Option.none : Option Jvm.ClassFile.FieldType)) ∈ lw_all := lw_g (lw_at lw_m12 168 rfl) rfl
theorem q2950 : (Jvm.Cond.methodLink "TrailMarkers" (418 : Nat) ({ cls := "java/util/LinkedHashMap", name := "get", desc := "(Ljava/lang/Object;)Ljava/lang/Object;" } : Jvm.MethodName)) ∈ lw_all := lw_g (lw_at lw_m12 173 rfl) rfl
theorem q2951 : (Jvm.Cond.instanceMethod ({ cls := "java/util/LinkedHashMap", name := "get", desc := "(Ljava/lang/Object;)Ljava/lang/Object;" } : Jvm.MethodName)) ∈ lw_all := lw_g (lw_at lw_m12 174 rfl) rfl
theorem q2952 : (Jvm.Cond.selects "java/util/LinkedHashMap" ({ cls := "java/util/LinkedHashMap", name := "get", desc := "(Ljava/lang/Object;)Ljava/lang/Object;" } : Jvm.MethodName) ({ cls := "java/util/LinkedHashMap", name := "get", desc := "(Ljava/lang/Object;)Ljava/lang/Object;" } : Jvm.MethodName)) ∈ lw_all := lw_g (lw_at lw_m12 175 rfl) rfl
theorem q2953 : (Jvm.Cond.code ({ cls := "java/util/LinkedHashMap", name := "get", desc := "(Ljava/lang/Object;)Ljava/lang/Object;" } : Jvm.MethodName) prog_62_method_20_code (3 : Nat) (Option.some (Jvm.ClassFile.FieldType.object "java/lang/Object"))) ∈ lw_all := lw_g (lw_at lw_m12 176 rfl) rfl
theorem q2959 : (Jvm.Cond.classLink "TrailMarkers" (422 : Nat) "java/lang/Integer") ∈ lw_all := lw_g (lw_at lw_m12 182 rfl) rfl
theorem q2960 : (Jvm.Cond.methodLink "TrailMarkers" (424 : Nat) ({ cls := "java/util/LinkedHashMap", name := "size", desc := "()I" } : Jvm.MethodName)) ∈ lw_all := lw_g (lw_at lw_m12 183 rfl) rfl
theorem q2961 : (Jvm.Cond.sameMethod "java/util/LinkedHashMap" "java/util/HashMap" "size" "()I") ∈ lw_all := lw_g (lw_at lw_m12 184 rfl) rfl
theorem q2963 : (Jvm.Cond.selects "java/util/LinkedHashMap" ({ cls := "java/util/LinkedHashMap", name := "size", desc := "()I" } : Jvm.MethodName) ({ cls := "java/util/HashMap", name := "size", desc := "()I" } : Jvm.MethodName)) ∈ lw_all := lw_g (lw_at lw_m12 186 rfl) rfl
theorem q2964 : (Jvm.Cond.instanceMethod ({ cls := "java/util/HashMap", name := "size", desc := "()I" } : Jvm.MethodName)) ∈ lw_all := lw_g (lw_at lw_m12 187 rfl) rfl
theorem q2965 : (Jvm.Cond.code ({ cls := "java/util/HashMap", name := "size", desc := "()I" } : Jvm.MethodName) prog_54_method_10_code (1 : Nat) (Option.some Jvm.ClassFile.FieldType.int)) ∈ lw_all := lw_g (lw_at lw_m12 188 rfl) rfl
theorem q2966 : (Jvm.Cond.methodLink "TrailMarkers" (425 : Nat) ({ cls := "java/lang/Integer", name := "valueOf", desc := "(I)Ljava/lang/Integer;" } : Jvm.MethodName)) ∈ lw_all := lw_g (lw_at lw_m12 189 rfl) rfl
theorem q2967 : (Jvm.Cond.static ({ cls := "java/lang/Integer", name := "valueOf", desc := "(I)Ljava/lang/Integer;" } : Jvm.MethodName)) ∈ lw_all := lw_g (lw_at lw_m12 190 rfl) rfl
theorem q2968 : (Jvm.Cond.code ({ cls := "java/lang/Integer", name := "valueOf", desc := "(I)Ljava/lang/Integer;" } : Jvm.MethodName) prog_28_method_22_code (1 : Nat) (Option.some (Jvm.ClassFile.FieldType.object "java/lang/Integer"))) ∈ lw_all := lw_g (lw_at lw_m12 191 rfl) rfl
theorem q2985 : (Jvm.Cond.methodLink "TrailMarkers" (429 : Nat) ({ cls := "java/util/LinkedHashMap", name := "put", desc := "(Ljava/lang/Object;Ljava/lang/Object;)Ljava/lang/Object;" } : Jvm.MethodName)) ∈ lw_all := lw_g (lw_at lw_m12 208 rfl) rfl
theorem q2986 : (Jvm.Cond.sameMethod "java/util/LinkedHashMap" "java/util/HashMap" "put" "(Ljava/lang/Object;Ljava/lang/Object;)Ljava/lang/Object;") ∈ lw_all := lw_g (lw_at lw_m12 209 rfl) rfl
theorem q2988 : (Jvm.Cond.selects "java/util/LinkedHashMap" ({ cls := "java/util/LinkedHashMap", name := "put", desc := "(Ljava/lang/Object;Ljava/lang/Object;)Ljava/lang/Object;" } : Jvm.MethodName) ({ cls := "java/util/HashMap", name := "put", desc := "(Ljava/lang/Object;Ljava/lang/Object;)Ljava/lang/Object;" } : Jvm.MethodName)) ∈ lw_all := lw_g (lw_at lw_m12 211 rfl) rfl
theorem q2989 : (Jvm.Cond.methodLink "TrailMarkers" (433 : Nat) ({ cls := "java/lang/Integer", name := "intValue", desc := "()I" } : Jvm.MethodName)) ∈ lw_all := lw_g (lw_at lw_m12 212 rfl) rfl
theorem q2990 : (Jvm.Cond.methodLink "TrailMarkers" (441 : Nat) ({ cls := "TrailMarkers", name := "timesAt", desc := "([IIII)I" } : Jvm.MethodName)) ∈ lw_all := lw_g (lw_at lw_m12 213 rfl) rfl
theorem q2992 : (Jvm.Cond.instanceMethod ({ cls := "TrailMarkers", name := "timesAt", desc := "([IIII)I" } : Jvm.MethodName)) ∈ lw_all := lw_g (lw_at lw_m12 215 rfl) rfl
theorem q2993 : (Jvm.Cond.code ({ cls := "TrailMarkers", name := "timesAt", desc := "([IIII)I" } : Jvm.MethodName) prog_1_method_62_code (6 : Nat) (Option.some Jvm.ClassFile.FieldType.int)) ∈ lw_all := lw_g (lw_at lw_m12 216 rfl) rfl
theorem q2994 : (Jvm.Cond.methodLink "TrailMarkers" (411 : Nat) ({ cls := "TrailMarkers", name := "isSame", desc := "([IIII)Z" } : Jvm.MethodName)) ∈ lw_all := lw_g (lw_at lw_m12 217 rfl) rfl
theorem q2996 : (Jvm.Cond.instanceMethod ({ cls := "TrailMarkers", name := "isSame", desc := "([IIII)Z" } : Jvm.MethodName)) ∈ lw_all := lw_g (lw_at lw_m12 219 rfl) rfl
theorem q2997 : (Jvm.Cond.code ({ cls := "TrailMarkers", name := "isSame", desc := "([IIII)Z" } : Jvm.MethodName) prog_1_method_63_code (6 : Nat) (Option.some Jvm.ClassFile.FieldType.boolean)) ∈ lw_all := lw_g (lw_at lw_m12 220 rfl) rfl
theorem q2998 : (Jvm.Cond.methodLink "TrailMarkers" (445 : Nat) ({ cls := "java/lang/StringBuilder", name := "append", desc := "(I)Ljava/lang/StringBuilder;" } : Jvm.MethodName)) ∈ lw_all := lw_g (lw_at lw_m12 221 rfl) rfl
theorem q2999 : (Jvm.Cond.methodLink "TrailMarkers" (449 : Nat) ({ cls := "java/lang/StringBuilder", name := "append", desc := "(C)Ljava/lang/StringBuilder;" } : Jvm.MethodName)) ∈ lw_all := lw_g (lw_at lw_m12 222 rfl) rfl
theorem q3000 : (Jvm.Cond.methodLink "TrailMarkers" (452 : Nat) ({ cls := "TrailMarkers$Leg", name := "write", desc := "(Ljava/lang/StringBuilder;)V" } : Jvm.MethodName)) ∈ lw_all := lw_g (lw_at lw_m12 223 rfl) rfl
theorem q3001 : (Jvm.Cond.instanceMethod ({ cls := "TrailMarkers$Leg", name := "write", desc := "(Ljava/lang/StringBuilder;)V" } : Jvm.MethodName)) ∈ lw_all := lw_g (lw_at lw_m12 224 rfl) rfl
theorem q3002 : (Jvm.Cond.selects "TrailMarkers$Leg" ({ cls := "TrailMarkers$Leg", name := "write", desc := "(Ljava/lang/StringBuilder;)V" } : Jvm.MethodName) ({ cls := "TrailMarkers$Leg", name := "write", desc := "(Ljava/lang/StringBuilder;)V" } : Jvm.MethodName)) ∈ lw_all := lw_g (lw_at lw_m12 225 rfl) rfl
theorem q3003 : (Jvm.Cond.code ({ cls := "TrailMarkers$Leg", name := "write", desc := "(Ljava/lang/StringBuilder;)V" } : Jvm.MethodName) prog_4_method_4_code (2 : Nat) (Option.none : Option Jvm.ClassFile.FieldType)) ∈ lw_all := lw_g (lw_at lw_m12 226 rfl) rfl
theorem q3008 : (Jvm.Cond.methodLink "TrailMarkers" (456 : Nat) ({ cls := "TrailMarkers", name := "show", desc := "(Ljava/lang/StringBuilder;)I" } : Jvm.MethodName)) ∈ lw_all := lw_g (lw_at lw_m12 231 rfl) rfl
theorem q3010 : (Jvm.Cond.instanceMethod ({ cls := "TrailMarkers", name := "show", desc := "(Ljava/lang/StringBuilder;)I" } : Jvm.MethodName)) ∈ lw_all := lw_g (lw_at lw_m12 233 rfl) rfl
theorem q3011 : (Jvm.Cond.code ({ cls := "TrailMarkers", name := "show", desc := "(Ljava/lang/StringBuilder;)I" } : Jvm.MethodName) prog_1_method_61_code (2 : Nat) (Option.some Jvm.ClassFile.FieldType.int)) ∈ lw_all := lw_g (lw_at lw_m12 234 rfl) rfl
theorem q3012 : (Jvm.Cond.methodLink "TrailMarkers" (400 : Nat) ({ cls := "java/lang/StringBuilder", name := "toString", desc := "()Ljava/lang/String;" } : Jvm.MethodName)) ∈ lw_all := lw_g (lw_at lw_m12 235 rfl) rfl
theorem nw_X1_9 : NW "TrailMarkers" 9 1 7 [vI 0, vI 0, vR none, vI 0, vR none, vI 0, vR none] := ⟨RX2, TX2, 7, tyX2, cf_X2, tyX2_ok, rfl, q205, q206, q139⟩
theorem fp_X1_14 : FP "TrailMarkers" 14 0 0 (tyX1 0) false := ⟨RX1, TX1, 9, "TrailMarkers", cf_X1, by decide, q424, Or.inl rfl, tyX1_ok 0 (by decide), rfl, fun h9 => nomatch h9⟩
theorem fp_X1_18 : FP "TrailMarkers" 18 0 1 (tyX1 1) true := ⟨RX1, TX1, 9, "TrailMarkers", cf_X1, by decide, q426, Or.inl rfl, tyX1_ok 1 (by decide), rfl, fun _ => rfl⟩
theorem fp_X1_22 : FP "TrailMarkers" 22 0 4 (tyX1 4) false := ⟨RX1, TX1, 9, "TrailMarkers", cf_X1, by decide, q430, Or.inl rfl, tyX1_ok 4 (by decide), rfl, fun h9 => nomatch h9⟩
theorem fp_X1_26 : FP "TrailMarkers" 26 0 5 (tyX1 5) false := ⟨RX1, TX1, 9, "TrailMarkers", cf_X1, by decide, q431, Or.inl rfl, tyX1_ok 5 (by decide), rfl, fun h9 => nomatch h9⟩
theorem fp_X1_31 : FP "TrailMarkers" 31 0 6 (tyX1 6) false := ⟨RX1, TX1, 9, "TrailMarkers", cf_X1, by decide, q432, Or.inl rfl, tyX1_ok 6 (by decide), rfl, fun h9 => nomatch h9⟩
theorem nw_X1_35 : NW "TrailMarkers" 35 12 3 [vR none, vI 0, vI 0] := ⟨RJ1, TJ1, 3, tyJ1, cf_J1, tyJ1_ok, rfl, q253, q254, q141⟩
theorem fp_X1_38 : FP "TrailMarkers" 38 0 7 (tyX1 7) true := ⟨RX1, TX1, 9, "TrailMarkers", cf_X1, by decide, q433, Or.inl rfl, tyX1_ok 7 (by decide), rfl, fun _ => rfl⟩
theorem fp_X1_42 : FP "TrailMarkers" 42 0 8 (tyX1 8) true := ⟨RX1, TX1, 9, "TrailMarkers", cf_X1, by decide, q434, Or.inl rfl, tyX1_ok 8 (by decide), rfl, fun _ => rfl⟩
theorem fa_X1_14 : FA "TrailMarkers" 14 0 0 := ⟨RX1, TX1, 9, "TrailMarkers", cf_X1, by decide, q424, Or.inl rfl⟩
theorem m_X1_54 : MV "TrailMarkers" 54 yX2_layBlock cX2_layBlock 3 (Option.none : Option Jvm.ClassFile.FieldType) 2 := ⟨q420, q421, q422, q139, q423, by decide +kernel, by decide +kernel, by decide +kernel⟩
theorem m_X1_50 : MV "TrailMarkers" 50 yX2_change cX2_change 3 (Option.none : Option Jvm.ClassFile.FieldType) 2 := ⟨q410, q411, q412, q139, q413, by decide +kernel, by decide +kernel, by decide +kernel⟩
theorem m_X1_46 : MV "TrailMarkers" 46 yX1_lay cX1_lay 4 (Option.none : Option Jvm.ClassFile.FieldType) 2 := ⟨q275, q277, qs0, q138, q278, by decide +kernel, by decide +kernel, by decide +kernel⟩
theorem m_X1_37 : MI "TrailMarkers" 37 yJ1_init cJ1_init 1 0 := ⟨q255, q256, rfl, q141, q257, by decide +kernel, by decide +kernel, by decide +kernel⟩
theorem m_X1_11 : MI "TrailMarkers" 11 yX2_init cX2_init 5 4 := ⟨q207, q208, rfl, q139, q209, by decide +kernel, by decide +kernel, by decide +kernel⟩
theorem nw_X1_60 : NW "TrailMarkers" 60 2 5 [vI 0, vI 0, vI 0, vI 0, vI 0] := ⟨RX3, TX3, 5, tyX3, cf_X3, tyX3_ok, rfl, q279, q280, q142⟩
theorem m_X1_65 : MV "TrailMarkers" 65 yX2_add cX2_add 2 (Option.some Jvm.ClassFile.FieldType.int) 1 := ⟨q315, q316, q317, q139, q318, by decide +kernel, by decide +kernel, by decide +kernel⟩
theorem m_X1_62 : MI "TrailMarkers" 62 yX3_init cX3_init 6 5 := ⟨q281, q282, rfl, q142, q283, by decide +kernel, by decide +kernel, by decide +kernel⟩
theorem fa_X1_81 : FA "TrailMarkers" 81 0 2 := ⟨RX1, TX1, 9, "TrailMarkers", cf_X1, by decide, q428, Or.inl rfl⟩
theorem m_X1_84 : MV "TrailMarkers" 84 yX1_putBytes cX1_putBytes 3 (Option.none : Option Jvm.ClassFile.FieldType) 1 := ⟨q458, q460, qs5, q138, q461, by decide +kernel, by decide +kernel, by decide +kernel⟩
theorem fa_X1_18 : FA "TrailMarkers" 18 0 1 := ⟨RX1, TX1, 9, "TrailMarkers", cf_X1, by decide, q426, Or.inl rfl⟩
theorem fp_X1_81 : FP "TrailMarkers" 81 0 2 (tyX1 2) false := ⟨RX1, TX1, 9, "TrailMarkers", cf_X1, by decide, q428, Or.inl rfl, tyX1_ok 2 (by decide), rfl, fun h9 => nomatch h9⟩
theorem nw_X1_92 : NW "TrailMarkers" 92 5 9 [vR none, vI 0, vI 0, vI 0, vI 0, vR none, vI 0, vI 0, vR none] := ⟨RX6, TX6, 9, tyX6, cf_X6, tyX6_ok, rfl, q467, q468, q155⟩
theorem fa_X1_111_X2 : FA "TrailMarkers" 111 1 3 := ⟨RX2, TX2, 7, "TrailMarkers$Trails", cf_X2, by decide, q225, Or.inl rfl⟩
theorem fa_X1_116_X7 : FA "TrailMarkers" 116 6 6 := ⟨RX7, TX7, 8, "TrailMarkers$TextException", cf_X7, by decide, q820, Or.inl rfl⟩
theorem fa_X1_119_X7 : FA "TrailMarkers" 119 6 7 := ⟨RX7, TX7, 8, "TrailMarkers$TextException", cf_X7, by decide, q822, Or.inl rfl⟩
theorem m_X1_104 : MV "TrailMarkers" 104 yX1_report cX1_report 4 (Option.none : Option Jvm.ClassFile.FieldType) 3 := ⟨q1002, q1004, qs19, q138, q1005, by decide +kernel, by decide +kernel, by decide +kernel⟩
theorem m_X1_122 : MV "TrailMarkers" 122 yX7_reason cX7_reason 3 (Option.some Jvm.ClassFile.FieldType.int) 0 := ⟨q1107, q1108, q1109, q162, q1110, by decide +kernel, by decide +kernel, by decide +kernel⟩
theorem co_6_TrailMarkers_TextException : CO 6 "TrailMarkers$TextException" := ⟨_, rfl, Or.inl rfl⟩
theorem m_X1_107 : MV "TrailMarkers" 107 yX1_become cX1_become 2 (Option.none : Option Jvm.ClassFile.FieldType) 1 := ⟨q1006, q1008, qs20, q138, q1009, by decide +kernel, by decide +kernel, by decide +kernel⟩
theorem m_X1_101 : MVX "TrailMarkers" 101 yX6_commands cX6_commands 3 (Option.some Jvm.ClassFile.FieldType.int) [((15 : Nat), (19 : Nat), (22 : Nat), (101 : Nat))] 0 := ⟨q852, q853, q854, q155, q855, by decide +kernel, by decide +kernel, by decide +kernel⟩
theorem m_X1_97 : MV "TrailMarkers" 97 yX6_head cX6_head 4 (Option.some (Jvm.ClassFile.FieldType.object "TrailMarkers$Trails")) 0 := ⟨q502, q503, q504, q155, q505, by decide +kernel, by decide +kernel, by decide +kernel⟩
theorem m_X1_94 : MI "TrailMarkers" 94 yX6_init cX6_init 3 2 := ⟨q469, q470, rfl, q155, q471, by decide +kernel, by decide +kernel, by decide +kernel⟩
theorem fp_X1_131 : FP "TrailMarkers" 131 0 3 (tyX1 3) false := ⟨RX1, TX1, 9, "TrailMarkers", cf_X1, by decide, q429, Or.inl rfl, tyX1_ok 3 (by decide), rfl, fun h9 => nomatch h9⟩
theorem fa_X1_38 : FA "TrailMarkers" 38 0 7 := ⟨RX1, TX1, 9, "TrailMarkers", cf_X1, by decide, q433, Or.inl rfl⟩
theorem m_X1_77 : MV "TrailMarkers" 77 yJ1_addLast cJ1_addLast 3 (Option.none : Option Jvm.ClassFile.FieldType) 1 := ⟨q1031, q1032, q1033, q141, q1034, by decide +kernel, by decide +kernel, by decide +kernel⟩
theorem m_X1_73 : MV "TrailMarkers" 73 yJ1_removeFirst cJ1_removeFirst 2 (Option.some (Jvm.ClassFile.FieldType.object "java/lang/Object")) 0 := ⟨q1017, q1018, q1019, q141, q1020, by decide +kernel, by decide +kernel, by decide +kernel⟩
theorem m_X1_69 : MV "TrailMarkers" 69 yJ1_size cJ1_size 1 (Option.some Jvm.ClassFile.FieldType.int) 0 := ⟨q1010, q1011, q1012, q141, q1013, by decide +kernel, by decide +kernel, by decide +kernel⟩
theorem m_X1_128 : MV "TrailMarkers" 128 yX6_advance cX6_advance 3 (Option.none : Option Jvm.ClassFile.FieldType) 0 := ⟨q1129, q507, q508, q155, q509, by decide +kernel, by decide +kernel, by decide +kernel⟩
theorem m_X1_125 : MV "TrailMarkers" 125 yX2_copy cX2_copy 2 (Option.some (Jvm.ClassFile.FieldType.object "TrailMarkers$Trails")) 0 := ⟨q1122, q1123, q1124, q139, q1125, by decide +kernel, by decide +kernel, by decide +kernel⟩
theorem nw_X1_216 : NW "TrailMarkers" 216 7 19 [vR none, vR none, vR none, vR none, vR none, vR none, vR none, vR none, vI 0, vR none, vI 0, vR none, vI 0, vR none, vI 0, vI 0, vI 0, vI 0, vI 0] := ⟨RX8, TX8, 19, tyX8, cf_X8, tyX8_ok, rfl, q1134, q1135, q166⟩
theorem fa_X1_146_X2 : FA "TrailMarkers" 146 1 2 := ⟨RX2, TX2, 7, "TrailMarkers$Trails", cf_X2, by decide, q223, Or.inl rfl⟩
theorem fa_X1_227_X3 : FA "TrailMarkers" 227 2 4 := ⟨RX3, TX3, 5, "TrailMarkers$Post", cf_X3, by decide, q303, Or.inl rfl⟩
theorem fa_X1_370_X8 : FA "TrailMarkers" 370 7 14 := ⟨RX8, TX8, 19, "TrailMarkers$Guide", cf_X8, by decide, q1224, Or.inl rfl⟩
theorem fa_X1_373_X8 : FA "TrailMarkers" 373 7 13 := ⟨RX8, TX8, 19, "TrailMarkers$Guide", cf_X8, by decide, q1222, Or.inl rfl⟩
theorem fa_X1_377_X11 : FA "TrailMarkers" 377 10 0 := ⟨RX11, TX11, 3, "TrailMarkers$Leg", cf_X11, by decide, q1342, Or.inl rfl⟩
theorem fa_X1_297_X8 : FA "TrailMarkers" 297 7 10 := ⟨RX8, TX8, 19, "TrailMarkers$Guide", cf_X8, by decide, q1216, Or.inl rfl⟩
theorem m_X1_385 : MV "TrailMarkers" 385 yX1_faults cX1_faults 6 (Option.some Jvm.ClassFile.FieldType.int) 1 := ⟨q1356, q1358, qs29, q138, q1359, by decide +kernel, by decide +kernel, by decide +kernel⟩
theorem m_X1_284 : MV "TrailMarkers" 284 yX8_follow cX8_follow 4 (Option.some (Jvm.ClassFile.FieldType.object "TrailMarkers$Guide")) 1 := ⟨q1268, q1269, q1270, q166, q1271, by decide +kernel, by decide +kernel, by decide +kernel⟩
theorem m_X1_218 : MI "TrailMarkers" 218 yX8_init cX8_init 2 1 := ⟨q1136, q1137, rfl, q166, q1138, by decide +kernel, by decide +kernel, by decide +kernel⟩
theorem fa_X1_300_X8 : FA "TrailMarkers" 300 7 9 := ⟨RX8, TX8, 19, "TrailMarkers$Guide", cf_X8, by decide, q1214, Or.inl rfl⟩
theorem m_X1_183 : MV "TrailMarkers" 183 yX2_isBlock cX2_isBlock 3 (Option.some Jvm.ClassFile.FieldType.boolean) 2 := ⟨q1360, q332, q333, q139, q334, by decide +kernel, by decide +kernel, by decide +kernel⟩
theorem m_X1_259 : MV "TrailMarkers" 259 yX8_metOf cX8_metOf 3 (Option.some Jvm.ClassFile.FieldType.int) 1 := ⟨q1374, q1375, q1376, q166, q1377, by decide +kernel, by decide +kernel, by decide +kernel⟩
theorem m_X1_210 : MV "TrailMarkers" 210 yX1_allStanding cX1_allStanding 3 (Option.some Jvm.ClassFile.FieldType.int) 0 := ⟨q1365, q1367, qs30, q138, q1368, by decide +kernel, by decide +kernel, by decide +kernel⟩
theorem m_X1_175 : MV "TrailMarkers" 175 yX2_standing cX2_standing 4 (Option.some Jvm.ClassFile.FieldType.int) 1 := ⟨q1369, q1370, q1371, q139, q1372, by decide +kernel, by decide +kernel, by decide +kernel⟩
theorem fa_X1_31 : FA "TrailMarkers" 31 0 6 := ⟨RX1, TX1, 9, "TrailMarkers", cf_X1, by decide, q432, Or.inl rfl⟩
theorem m_X1_462 : MV "TrailMarkers" 462 yJ4_charAt cJ4_charAt 2 (Option.some Jvm.ClassFile.FieldType.char) 1 := ⟨q1388, q961, q962, q147, q963, by decide +kernel, by decide +kernel, by decide +kernel⟩
theorem m_X1_406 : MV "TrailMarkers" 406 yJ4_length cJ4_length 1 (Option.some Jvm.ClassFile.FieldType.int) 0 := ⟨q1387, q738, q739, q147, q740, by decide +kernel, by decide +kernel, by decide +kernel⟩
theorem m_X1_88 : MV "TrailMarkers" 88 yX1_need cX1_need 4 (Option.none : Option Jvm.ClassFile.FieldType) 3 := ⟨q1397, q1399, qs31, q138, q1400, by decide +kernel, by decide +kernel, by decide +kernel⟩
theorem nw_X1_134 : NW "TrailMarkers" 134 21 6 [vR none, vR none, vR none, vR none, vR none, vI 0] := ⟨RJ10, TJ10, 6, tyJ10, cf_J10, tyJ10_ok, rfl, q1401, q676, q154⟩
theorem m_X1_136 : MI "TrailMarkers" 136 yJ10_init_2 cJ10_init_2 1 0 := ⟨q1402, q1403, rfl, q154, q1404, by decide +kernel, by decide +kernel, by decide +kernel⟩
theorem fa_X1_131 : FA "TrailMarkers" 131 0 3 := ⟨RX1, TX1, 9, "TrailMarkers", cf_X1, by decide, q429, Or.inl rfl⟩
theorem fa_X1_22 : FA "TrailMarkers" 22 0 4 := ⟨RX1, TX1, 9, "TrailMarkers", cf_X1, by decide, q430, Or.inl rfl⟩
theorem fa_X1_26 : FA "TrailMarkers" 26 0 5 := ⟨RX1, TX1, 9, "TrailMarkers", cf_X1, by decide, q431, Or.inl rfl⟩
theorem nw_X1_156 : NW "TrailMarkers" 156 22 6 [vR none, vR none, vR none, vR none, vR none, vI 0] := ⟨RJ17, TJ17, 6, tyJ17, cf_J17, tyJ17_ok, rfl, q1466, q1045, q163⟩
theorem m_X1_158 : MI "TrailMarkers" 158 yJ17_init_2 cJ17_init_2 1 0 := ⟨q1467, q1468, rfl, q163, q1469, by decide +kernel, by decide +kernel, by decide +kernel⟩
theorem m_X1_153 : MV "TrailMarkers" 153 yX1_needCell cX1_needCell 3 (Option.none : Option Jvm.ClassFile.FieldType) 2 := ⟨q1462, q1464, qs33, q138, q1465, by decide +kernel, by decide +kernel, by decide +kernel⟩
theorem m_X1_150 : MV "TrailMarkers" 150 yX1_needColour cX1_needColour 2 (Option.none : Option Jvm.ClassFile.FieldType) 1 := ⟨q1443, q1445, qs32, q138, q1446, by decide +kernel, by decide +kernel, by decide +kernel⟩
theorem nw_X1_143 : NW "TrailMarkers" 143 23 6 [vR none, vR none, vR none, vR none, vR none, vI 0] := ⟨RJ18, TJ18, 6, tyJ18, cf_J18, tyJ18_ok, rfl, q1447, q1448, q164⟩
theorem m_X1_145 : MI "TrailMarkers" 145 yJ18_init_2 cJ18_init_2 1 0 := ⟨q1456, q1457, rfl, q164, q1458, by decide +kernel, by decide +kernel, by decide +kernel⟩
theorem fa_X1_137_X2 : FA "TrailMarkers" 137 1 0 := ⟨RX2, TX2, 7, "TrailMarkers$Trails", cf_X2, by decide, q215, Or.inl rfl⟩
theorem fa_X1_140_X2 : FA "TrailMarkers" 140 1 1 := ⟨RX2, TX2, 7, "TrailMarkers$Trails", cf_X2, by decide, q218, Or.inl rfl⟩
theorem m_X1_163 : MV "TrailMarkers" 163 yX2_drop cX2_drop 3 (Option.none : Option Jvm.ClassFile.FieldType) 1 := ⟨q1482, q1483, q1484, q139, q1485, by decide +kernel, by decide +kernel, by decide +kernel⟩
theorem m_X1_159 : MV "TrailMarkers" 159 yX1_needPost cX1_needPost 2 (Option.some (Jvm.ClassFile.FieldType.object "TrailMarkers$Post")) 1 := ⟨q1478, q1480, qs34, q138, q1481, by decide +kernel, by decide +kernel, by decide +kernel⟩
theorem fa_X1_169_X3 : FA "TrailMarkers" 169 2 3 := ⟨RX3, TX3, 5, "TrailMarkers$Post", cf_X3, by decide, q300, Or.inl rfl⟩
theorem m_X1_166 : MV "TrailMarkers" 166 yX3_turned cX3_turned 2 (Option.some (Jvm.ClassFile.FieldType.object "TrailMarkers$Post")) 1 := ⟨q1493, q979, q980, q142, q981, by decide +kernel, by decide +kernel, by decide +kernel⟩
theorem m_X1_179 : MVX "TrailMarkers" 179 yX1_changeState cX1_changeState 6 (Option.some Jvm.ClassFile.FieldType.int) [((18 : Nat), (39 : Nat), (40 : Nat), (58 : Nat))] 2 := ⟨q1501, q1503, qs35, q138, q1504, by decide +kernel, by decide +kernel, by decide +kernel⟩
theorem fa_X1_172_X3 : FA "TrailMarkers" 172 2 2 := ⟨RX3, TX3, 5, "TrailMarkers$Post", cf_X3, by decide, q297, Or.inl rfl⟩
theorem fa_X1_190_X2 : FA "TrailMarkers" 190 1 5 := ⟨RX2, TX2, 7, "TrailMarkers$Trails", cf_X2, by decide, q229, Or.inl rfl⟩
theorem m_X1_187 : MV "TrailMarkers" 187 yX2_takeBlock cX2_takeBlock 3 (Option.none : Option Jvm.ClassFile.FieldType) 2 := ⟨q1519, q1520, q1521, q139, q1522, by decide +kernel, by decide +kernel, by decide +kernel⟩
theorem fa_X1_199_X2 : FA "TrailMarkers" 199 1 6 := ⟨RX2, TX2, 7, "TrailMarkers$Trails", cf_X2, by decide, q234, Or.inl rfl⟩
theorem m_X1_196 : MS "TrailMarkers" 196 yX1_mostOf cX1_mostOf 1 (Option.some Jvm.ClassFile.FieldType.int) 1 := ⟨q1533, q1534, q138, q1535, by decide +kernel, by decide +kernel, by decide +kernel⟩
theorem m_X1_193 : MS "TrailMarkers" 193 yX1_leastOf cX1_leastOf 1 (Option.some Jvm.ClassFile.FieldType.int) 1 := ⟨q1530, q1531, q138, q1532, by decide +kernel, by decide +kernel, by decide +kernel⟩
theorem co_1_TrailMarkers_Trails : CO 1 "TrailMarkers$Trails" := ⟨_, rfl, Or.inl rfl⟩
theorem cos_TrailMarkers_Trails_1 : ∀ ci ∈ [1], CO ci "TrailMarkers$Trails" := List.forall_mem_cons.mpr ⟨co_1_TrailMarkers_Trails, fun _ h => nomatch h⟩
theorem m_X1_207 : MV "TrailMarkers" 207 yJ1_removeLast cJ1_removeLast 2 (Option.some (Jvm.ClassFile.FieldType.object "java/lang/Object")) 0 := ⟨q1547, q1548, q1549, q141, q1550, by decide +kernel, by decide +kernel, by decide +kernel⟩
theorem m_X1_203 : MV "TrailMarkers" 203 yJ1_isEmpty cJ1_isEmpty 1 (Option.some Jvm.ClassFile.FieldType.boolean) 0 := ⟨q1543, q1544, q1545, q141, q1546, by decide +kernel, by decide +kernel, by decide +kernel⟩
theorem fa_X1_42 : FA "TrailMarkers" 42 0 8 := ⟨RX1, TX1, 9, "TrailMarkers", cf_X1, by decide, q434, Or.inl rfl⟩
theorem m_X1_213 : MV "TrailMarkers" 213 yX1_completeColours cX1_completeColours 4 (Option.some Jvm.ClassFile.FieldType.int) 0 := ⟨q1579, q1581, qs36, q138, q1582, by decide +kernel, by decide +kernel, by decide +kernel⟩
theorem m_X1_220 : MV "TrailMarkers" 220 yX8_isComplete cX8_isComplete 3 (Option.some Jvm.ClassFile.FieldType.boolean) 1 := ⟨q1583, q1584, q1585, q166, q1586, by decide +kernel, by decide +kernel, by decide +kernel⟩
theorem m_X1_234 : MV "TrailMarkers" 234 yX1_onward cX1_onward 4 (Option.some Jvm.ClassFile.FieldType.int) 2 := ⟨q1603, q1605, qs38, q138, q1606, by decide +kernel, by decide +kernel, by decide +kernel⟩
theorem m_X1_224 : MV "TrailMarkers" 224 yX3_cell cX3_cell 1 (Option.some Jvm.ClassFile.FieldType.int) 0 := ⟨q1596, q1273, q1274, q142, q1275, by decide +kernel, by decide +kernel, by decide +kernel⟩
theorem m_X1_231 : MV "TrailMarkers" 231 yX1_comingFrom cX1_comingFrom 5 (Option.some Jvm.ClassFile.FieldType.int) 1 := ⟨q1597, q1599, qs37, q138, q1600, by decide +kernel, by decide +kernel, by decide +kernel⟩
theorem fa_X1_242_X9 : FA "TrailMarkers" 242 8 0 := ⟨RX9, TX9, 5, "TrailMarkers$Way", cf_X9, by decide, q1148, Or.inl rfl⟩
theorem m_X1_238 : MV "TrailMarkers" 238 yX8_find cX8_find 4 (Option.some (Jvm.ClassFile.FieldType.object "TrailMarkers$Way")) 1 := ⟨q1602, q1285, q1286, q166, q1287, by decide +kernel, by decide +kernel, by decide +kernel⟩
theorem m_X1_253 : MV "TrailMarkers" 253 yX3_standsFor cX3_standsFor 2 (Option.some Jvm.ClassFile.FieldType.boolean) 1 := ⟨q1601, q1306, q1307, q142, q1308, by decide +kernel, by decide +kernel, by decide +kernel⟩
theorem fa_X1_247_X9 : FA "TrailMarkers" 247 8 1 := ⟨RX9, TX9, 5, "TrailMarkers$Way", cf_X9, by decide, q1151, Or.inl rfl⟩
theorem fa_X1_250_X9 : FA "TrailMarkers" 250 8 2 := ⟨RX9, TX9, 5, "TrailMarkers$Way", cf_X9, by decide, q1154, Or.inl rfl⟩
theorem m_X1_256 : MV "TrailMarkers" 256 yX2_postAt cX2_postAt 3 (Option.some Jvm.ClassFile.FieldType.int) 2 := ⟨q1614, q336, q337, q139, q338, by decide +kernel, by decide +kernel, by decide +kernel⟩
theorem fa_X1_268_X8 : FA "TrailMarkers" 268 7 12 := ⟨RX8, TX8, 19, "TrailMarkers$Guide", cf_X8, by decide, q1220, Or.inl rfl⟩
theorem m_X1_271 : MV "TrailMarkers" 271 yX1_rightGuesses cX1_rightGuesses 5 (Option.some Jvm.ClassFile.FieldType.int) 2 := ⟨q1627, q1629, qs40, q138, q1630, by decide +kernel, by decide +kernel, by decide +kernel⟩
theorem m_X1_262 : MV "TrailMarkers" 262 yX1_postsOf cX1_postsOf 4 (Option.some Jvm.ClassFile.FieldType.int) 1 := ⟨q1622, q1624, qs39, q138, q1625, by decide +kernel, by decide +kernel, by decide +kernel⟩
theorem m_X1_265 : MV "TrailMarkers" 265 yX2_begin cX2_begin 3 (Option.some Jvm.ClassFile.FieldType.int) 1 := ⟨q1626, q1379, q1380, q139, q1381, by decide +kernel, by decide +kernel, by decide +kernel⟩
theorem fa_X1_275_X8 : FA "TrailMarkers" 275 7 11 := ⟨RX8, TX8, 19, "TrailMarkers$Guide", cf_X8, by decide, q1218, Or.inl rfl⟩
theorem m_X1_278 : MV "TrailMarkers" 278 yX2_hasMissingAt cX2_hasMissingAt 4 (Option.some Jvm.ClassFile.FieldType.boolean) 2 := ⟨q1631, q1632, q1633, q139, q1634, by decide +kernel, by decide +kernel, by decide +kernel⟩
theorem fa_X1_281_X8 : FA "TrailMarkers" 281 7 7 := ⟨RX8, TX8, 19, "TrailMarkers$Guide", cf_X8, by decide, q1210, Or.inl rfl⟩
theorem m_X1_291 : MV "TrailMarkers" 291 yX8_figure cX8_figure 2 (Option.some Jvm.ClassFile.FieldType.int) 1 := ⟨q1653, q1654, q1655, q166, q1656, by decide +kernel, by decide +kernel, by decide +kernel⟩
theorem m_X1_288 : MV "TrailMarkers" 288 yX1_routeFrom cX1_routeFrom 2 (Option.some (Jvm.ClassFile.FieldType.object "TrailMarkers$Guide")) 1 := ⟨q1649, q1651, qs41, q138, q1652, by decide +kernel, by decide +kernel, by decide +kernel⟩
theorem fa_X1_294_X8 : FA "TrailMarkers" 294 7 8 := ⟨RX8, TX8, 19, "TrailMarkers$Guide", cf_X8, by decide, q1212, Or.inl rfl⟩
theorem mu_X1_330_16 : MU "TrailMarkers" 330 "java/util/LinkedHashSet" "java/util/HashSet" ⟨"java/util/LinkedHashSet", "contains", "(Ljava/lang/Object;)Z"⟩ yJ21_contains cJ21_contains 2 (Option.some Jvm.ClassFile.FieldType.boolean) 1 := ⟨q2833, q2834, q2836, q2837, q171, q2838, ⟨by decide +kernel, by decide +kernel, by decide +kernel⟩, Or.inl rfl⟩
theorem mf_X1_328_20 : MF "TrailMarkers" 328 "java/util/LinkedHashMap$LinkedKeyIterator" ⟨"java/util/Iterator", "next", "()Ljava/lang/Object;"⟩ yJ42_next cJ42_next 1 (Option.some (Jvm.ClassFile.FieldType.object "java/lang/Object")) 0 := ⟨q2800, q2814, q2816, q194, q2818, List.mem_of_getElem? (i := 1) rfl, by decide +kernel⟩
theorem mf_X1_323_20 : MF "TrailMarkers" 323 "java/util/LinkedHashMap$LinkedKeyIterator" ⟨"java/util/Iterator", "hasNext", "()Z"⟩ yJ41_hasNext cJ41_hasNext 1 (Option.some Jvm.ClassFile.FieldType.boolean) 0 := ⟨q2784, q2794, q2796, q193, q2798, List.mem_of_getElem? (i := 0) rfl, by decide +kernel⟩
theorem mu_X1_319_16 : MU "TrailMarkers" 319 "java/util/LinkedHashSet" "java/util/HashSet" ⟨"java/util/LinkedHashSet", "iterator", "()Ljava/util/Iterator;"⟩ yJ21_iterator cJ21_iterator 1 (Option.some (Jvm.ClassFile.FieldType.object "java/util/Iterator")) 0 := ⟨q2682, q2683, q2685, q2686, q171, q2687, ⟨by decide +kernel, by decide +kernel, by decide +kernel⟩, Or.inl rfl⟩
theorem m_X1_315 : MV "TrailMarkers" 315 yX1_cellsOf cX1_cellsOf 5 (Option.some (Jvm.ClassFile.FieldType.object "java/util/LinkedHashSet")) 1 := ⟨q1685, q1687, qs42, q138, q1688, by decide +kernel, by decide +kernel, by decide +kernel⟩
theorem nw_X1_303 : NW "TrailMarkers" 303 16 1 [vR none] := ⟨RJ22, TJ22, 1, tyJ22, cf_J22, tyJ22_ok, rfl, q1689, q1690, q172⟩
theorem mu_X1_312_16 : MU "TrailMarkers" 312 "java/util/LinkedHashSet" "java/util/HashSet" ⟨"java/util/LinkedHashSet", "add", "(Ljava/lang/Object;)Z"⟩ yJ21_add cJ21_add 2 (Option.some Jvm.ClassFile.FieldType.boolean) 1 := ⟨q2193, q2194, q2196, q2197, q171, q2198, ⟨by decide +kernel, by decide +kernel, by decide +kernel⟩, Or.inl rfl⟩
theorem m_X1_306 : MS "TrailMarkers" 306 yX12_ofTold cX12_ofTold 1 (Option.some (Jvm.ClassFile.FieldType.object "TrailMarkers$Cell")) 1 := ⟨q2177, q2178, q182, q2179, by decide +kernel, by decide +kernel, by decide +kernel⟩
theorem m_X1_305 : MI "TrailMarkers" 305 yJ22_init cJ22_init 1 0 := ⟨q1691, q1692, rfl, q172, q1693, by decide +kernel, by decide +kernel, by decide +kernel⟩
theorem fa_X1_337_X10 : FA "TrailMarkers" 337 9 4 := ⟨RX10, TX10, 6, "TrailMarkers$Walk", cf_X10, by decide, q1186, Or.inl rfl⟩
theorem fa_X1_342_X10 : FA "TrailMarkers" 342 9 3 := ⟨RX10, TX10, 6, "TrailMarkers$Walk", cf_X10, by decide, q1184, Or.inl rfl⟩
theorem fa_X1_345_X9 : FA "TrailMarkers" 345 8 3 := ⟨RX9, TX9, 5, "TrailMarkers$Way", cf_X9, by decide, q1157, Or.inl rfl⟩
theorem m_X1_351 : MS "TrailMarkers" 351 yX1_stepY cX1_stepY 1 (Option.some Jvm.ClassFile.FieldType.int) 1 := ⟨q2862, q976, q138, q977, by decide +kernel, by decide +kernel, by decide +kernel⟩
theorem m_X1_348 : MS "TrailMarkers" 348 yX1_stepX cX1_stepX 1 (Option.some Jvm.ClassFile.FieldType.int) 1 := ⟨q2861, q973, q138, q974, by decide +kernel, by decide +kernel, by decide +kernel⟩
theorem m_X1_333 : MV "TrailMarkers" 333 yX8_plainFrom cX8_plainFrom 3 (Option.some (Jvm.ClassFile.FieldType.object "TrailMarkers$Walk")) 1 := ⟨q2860, q1293, q1294, q166, q1295, by decide +kernel, by decide +kernel, by decide +kernel⟩
theorem m_X1_362 : MV "TrailMarkers" 362 yX1_figureOf cX1_figureOf 5 (Option.some Jvm.ClassFile.FieldType.int) 3 := ⟨q2875, q2877, qs59, q138, q2878, by decide +kernel, by decide +kernel, by decide +kernel⟩
theorem m_X1_358 : MV "TrailMarkers" 358 yX1_withOther cX1_withOther 3 (Option.some (Jvm.ClassFile.FieldType.object "TrailMarkers$Trails")) 1 := ⟨q2870, q2872, qs58, q138, q2873, by decide +kernel, by decide +kernel, by decide +kernel⟩
theorem m_X1_354 : MV "TrailMarkers" 354 yX3_inState cX3_inState 2 (Option.some (Jvm.ClassFile.FieldType.object "TrailMarkers$Post")) 1 := ⟨q2874, q415, q416, q142, q417, by decide +kernel, by decide +kernel, by decide +kernel⟩
theorem m_X1_366 : MV "TrailMarkers" 366 yX1_extreme cX1_extreme 11 (Option.some Jvm.ClassFile.FieldType.int) 3 := ⟨q2893, q2895, qs60, q138, q2896, by decide +kernel, by decide +kernel, by decide +kernel⟩
theorem m_X1_392 : MS "TrailMarkers" 392 yJ26_floatToIntBits cJ26_floatToIntBits 1 (Option.some Jvm.ClassFile.FieldType.int) 1 := ⟨q2922, q2923, q176, q2924, by decide +kernel, by decide +kernel, by decide +kernel⟩
theorem m_X1_389 : MV "TrailMarkers" 389 yX8_ways cX8_ways 1 (Option.some Jvm.ClassFile.FieldType.int) 0 := ⟨q2918, q2919, q2920, q166, q2921, by decide +kernel, by decide +kernel, by decide +kernel⟩
theorem m_X1_398 : MVN "TrailMarkers" 398 yX8_steps "TrailMarkers" cX8_steps 1 (Option.some Jvm.ClassFile.FieldType.int) 0 := ⟨q2928, q1282, qs23, q166, q1283, by decide +kernel, by decide +kernel, by decide +kernel⟩
theorem nw_X1_401 : NW "TrailMarkers" 401 14 4 [vR none, vI 0, vI 0, vI 0] := ⟨RJ12, TJ12, 4, tyJ12, cf_J12, tyJ12_ok, rfl, q2936, q515, q157⟩
theorem m_X1_441 : MV "TrailMarkers" 441 yX1_timesAt cX1_timesAt 6 (Option.some Jvm.ClassFile.FieldType.int) 4 := ⟨q2990, q2992, qs62, q138, q2993, by decide +kernel, by decide +kernel, by decide +kernel⟩
theorem m_X1_452 : MV "TrailMarkers" 452 yX11_write cX11_write 2 (Option.none : Option Jvm.ClassFile.FieldType) 1 := ⟨q3000, q3001, q3002, q169, q3003, by decide +kernel, by decide +kernel, by decide +kernel⟩
theorem m_X1_449 : MV "TrailMarkers" 449 yJ12_append cJ12_append 2 (Option.some (Jvm.ClassFile.FieldType.object "java/lang/StringBuilder")) 1 := ⟨q2999, q547, q548, q157, q549, by decide +kernel, by decide +kernel, by decide +kernel⟩
theorem m_X1_445 : MV "TrailMarkers" 445 yJ12_append_2 cJ12_append_2 2 (Option.some (Jvm.ClassFile.FieldType.object "java/lang/StringBuilder")) 1 := ⟨q2998, q689, q690, q157, q691, by decide +kernel, by decide +kernel, by decide +kernel⟩
theorem m_X1_456 : MV "TrailMarkers" 456 yX1_show cX1_show 2 (Option.some Jvm.ClassFile.FieldType.int) 1 := ⟨q3008, q3010, qs64, q138, q3011, by decide +kernel, by decide +kernel, by decide +kernel⟩
theorem m_X1_437 : MV "TrailMarkers" 437 yX1_marksOf cX1_marksOf 6 (Option.some (Jvm.ClassFile.FieldType.array Jvm.ClassFile.FieldType.int)) 1 := ⟨q2938, q2940, qs61, q138, q2941, by decide +kernel, by decide +kernel, by decide +kernel⟩
theorem m_X1_436 : MI "TrailMarkers" 436 yJ12_init cJ12_init 1 0 := ⟨q2937, q517, rfl, q157, q518, by decide +kernel, by decide +kernel, by decide +kernel⟩
theorem nw_X1_415 : NW "TrailMarkers" 415 17 12 [vR none, vR none, vI 0, vI 0, vI 0, vF 0, vR none, vR none, vR none, vR none, vI 0, vI 0] := ⟨RJ25, TJ25, 12, tyJ25, cf_J25, tyJ25_ok, rfl, q2942, q1703, q175⟩
theorem m_X1_433 : MV "TrailMarkers" 433 yJ16_intValue cJ16_intValue 1 (Option.some Jvm.ClassFile.FieldType.int) 0 := ⟨q2989, q2593, q2594, q161, q2595, by decide +kernel, by decide +kernel, by decide +kernel⟩
theorem mu_X1_429_17 : MU "TrailMarkers" 429 "java/util/LinkedHashMap" "java/util/HashMap" ⟨"java/util/LinkedHashMap", "put", "(Ljava/lang/Object;Ljava/lang/Object;)Ljava/lang/Object;"⟩ yJ24_put cJ24_put 3 (Option.some (Jvm.ClassFile.FieldType.object "java/lang/Object")) 2 := ⟨q2985, q2986, q2988, q2202, q174, q2205, ⟨by decide +kernel, by decide +kernel, by decide +kernel⟩, Or.inl rfl⟩
theorem m_X1_425 : MS "TrailMarkers" 425 yJ16_valueOf cJ16_valueOf 1 (Option.some (Jvm.ClassFile.FieldType.object "java/lang/Integer")) 1 := ⟨q2966, q2967, q161, q2968, by decide +kernel, by decide +kernel, by decide +kernel⟩
theorem mu_X1_424_17 : MU "TrailMarkers" 424 "java/util/LinkedHashMap" "java/util/HashMap" ⟨"java/util/LinkedHashMap", "size", "()I"⟩ yJ24_size cJ24_size 1 (Option.some Jvm.ClassFile.FieldType.int) 0 := ⟨q2960, q2961, q2963, q2964, q174, q2965, ⟨by decide +kernel, by decide +kernel, by decide +kernel⟩, Or.inl rfl⟩
theorem co_15_java_lang_Integer : CO 15 "java/lang/Integer" := ⟨_, rfl, Or.inl rfl⟩
theorem cos_java_lang_Integer_15 : ∀ ci ∈ [15], CO ci "java/lang/Integer" := List.forall_mem_cons.mpr ⟨co_15_java_lang_Integer, fun _ h => nomatch h⟩
theorem m_X1_418 : MV "TrailMarkers" 418 yJ25_get cJ25_get 3 (Option.some (Jvm.ClassFile.FieldType.object "java/lang/Object")) 1 := ⟨q2950, q2951, q2952, q175, q2953, by decide +kernel, by decide +kernel, by decide +kernel⟩
theorem m_X1_417 : MI "TrailMarkers" 417 yJ25_init_2 cJ25_init_2 1 0 := ⟨q2943, q2944, rfl, q175, q2945, by decide +kernel, by decide +kernel, by decide +kernel⟩
theorem m_X1_411 : MV "TrailMarkers" 411 yX1_isSame cX1_isSame 6 (Option.some Jvm.ClassFile.FieldType.boolean) 4 := ⟨q2994, q2996, qs63, q138, q2997, by decide +kernel, by decide +kernel, by decide +kernel⟩
theorem m_X1_400 : MV "TrailMarkers" 400 yJ12_toString cJ12_toString 1 (Option.some (Jvm.ClassFile.FieldType.object "java/lang/String")) 0 := ⟨q3012, q640, q641, q157, q642, by decide +kernel, by decide +kernel, by decide +kernel⟩
